set_option maxRecDepth 100000
theorem dX3_chain_103 : decode cX3_chain 103 = .ok (.getfield 239, 3) := by decide +kernel
theorem dX3_chain_106 : decode cX3_chain 106 = .ok (.ireturn, 1) := by decide +kernel
theorem dX3_chain_107 : decode cX3_chain 107 = .ok (.iload_n 2, 1) := by decide +kernel
theorem dX3_chain_108 : decode cX3_chain 108 = .ok (.aload_n 0, 1) := by decide +kernel
theorem dX3_chain_109 : decode cX3_chain 109 = .ok (.getfield 233, 3) := by decide +kernel
theorem dX3_chain_112 : decode cX3_chain 112 = .ok (.if_icmp .ge 12, 3) := by decide +kernel
theorem dX3_chain_115 : decode cX3_chain 115 = .ok (.aload_n 0, 1) := by decide +kernel
theorem dX3_chain_116 : decode cX3_chain 116 = .ok (.getfield 51, 3) := by decide +kernel
theorem dX3_chain_119 : decode cX3_chain 119 = .ok (.iload_n 2, 1) := by decide +kernel
theorem dX3_chain_120 : decode cX3_chain 120 = .ok (.iaload, 1) := by decide +kernel
theorem dX3_chain_121 : decode cX3_chain 121 = .ok (.goto 4, 3) := by decide +kernel
theorem dX3_chain_124 : decode cX3_chain 124 = .ok (.iconst (-1), 1) := by decide +kernel
theorem dX3_chain_125 : decode cX3_chain 125 = .ok (.ireturn, 1) := by decide +kernel
abbrev cX3_chains : ByteArray := prog_22_method_57_code
def yX3_chains : MethodName := ⟨RX3, "chains", "(IIII)V"⟩
theorem dX3_chains_0 : decode cX3_chains 0 = .ok (.iload_n 2, 1) := by decide +kernel
theorem dX3_chains_1 : decode cX3_chains 1 = .ok (.istore 5, 2) := by decide +kernel
theorem dX3_chains_3 : decode cX3_chains 3 = .ok (.iload_n 3, 1) := by decide +kernel
theorem dX3_chains_4 : decode cX3_chains 4 = .ok (.istore 6, 2) := by decide +kernel
theorem dX3_chains_6 : decode cX3_chains 6 = .ok (.iload 4, 2) := by decide +kernel
theorem dX3_chains_8 : decode cX3_chains 8 = .ok (.istore 7, 2) := by decide +kernel
theorem dX3_chains_10 : decode cX3_chains 10 = .ok (.aload_n 0, 1) := by decide +kernel
theorem dX3_chains_11 : decode cX3_chains 11 = .ok (.iconst 0, 1) := by decide +kernel
theorem dX3_chains_12 : decode cX3_chains 12 = .ok (.putfield 233, 3) := by decide +kernel
theorem dX3_chains_15 : decode cX3_chains 15 = .ok (.aload_n 0, 1) := by decide +kernel
theorem dX3_chains_16 : decode cX3_chains 16 = .ok (.iconst 0, 1) := by decide +kernel
theorem dX3_chains_17 : decode cX3_chains 17 = .ok (.putfield 236, 3) := by decide +kernel
theorem dX3_chains_20 : decode cX3_chains 20 = .ok (.aload_n 0, 1) := by decide +kernel
theorem dX3_chains_21 : decode cX3_chains 21 = .ok (.iload_n 1, 1) := by decide +kernel
theorem dX3_chains_22 : decode cX3_chains 22 = .ok (.putfield 239, 3) := by decide +kernel
theorem dX3_chains_25 : decode cX3_chains 25 = .ok (.iconst 0, 1) := by decide +kernel
theorem dX3_chains_26 : decode cX3_chains 26 = .ok (.istore 8, 2) := by decide +kernel
theorem dX3_chains_28 : decode cX3_chains 28 = .ok (.iconst 1, 1) := by decide +kernel
theorem dX3_chains_29 : decode cX3_chains 29 = .ok (.istore 9, 2) := by decide +kernel
theorem dX3_chains_31 : decode cX3_chains 31 = .ok (.iload 9, 2) := by decide +kernel
theorem dX3_chains_33 : decode cX3_chains 33 = .ok (.ifCond .eq 232, 3) := by decide +kernel
theorem dX3_chains_36 : decode cX3_chains 36 = .ok (.iconst (-1), 1) := by decide +kernel
theorem dX3_chains_37 : decode cX3_chains 37 = .ok (.istore 10, 2) := by decide +kernel
theorem dX3_chains_39 : decode cX3_chains 39 = .ok (.iconst 0, 1) := by decide +kernel
theorem dX3_chains_40 : decode cX3_chains 40 = .ok (.istore 11, 2) := by decide +kernel
theorem dX3_chains_42 : decode cX3_chains 42 = .ok (.iconst 0, 1) := by decide +kernel
theorem dX3_chains_43 : decode cX3_chains 43 = .ok (.istore 12, 2) := by decide +kernel
theorem dX3_chains_45 : decode cX3_chains 45 = .ok (.iload 12, 2) := by decide +kernel
theorem dX3_chains_47 : decode cX3_chains 47 = .ok (.aload_n 0, 1) := by decide +kernel
theorem dX3_chains_48 : decode cX3_chains 48 = .ok (.getfield 7, 3) := by decide +kernel
theorem dX3_chains_51 : decode cX3_chains 51 = .ok (.iconst 1, 1) := by decide +kernel
theorem dX3_chains_52 : decode cX3_chains 52 = .ok (.iaload, 1) := by decide +kernel
theorem dX3_chains_53 : decode cX3_chains 53 = .ok (.if_icmp .ge 93, 3) := by decide +kernel
theorem dX3_chains_56 : decode cX3_chains 56 = .ok (.aload_n 0, 1) := by decide +kernel
theorem dX3_chains_57 : decode cX3_chains 57 = .ok (.iload 12, 2) := by decide +kernel
theorem dX3_chains_59 : decode cX3_chains 59 = .ok (.invokevirtual 80, 3) := by decide +kernel
theorem dX3_chains_62 : decode cX3_chains 62 = .ok (.ifCond .eq 43, 3) := by decide +kernel
theorem dX3_chains_65 : decode cX3_chains 65 = .ok (.iload 8, 2) := by decide +kernel
theorem dX3_chains_67 : decode cX3_chains 67 = .ok (.iload 12, 2) := by decide +kernel
theorem dX3_chains_69 : decode cX3_chains 69 = .ok (.ishr, 1) := by decide +kernel
theorem dX3_chains_70 : decode cX3_chains 70 = .ok (.iconst 1, 1) := by decide +kernel
theorem dX3_chains_71 : decode cX3_chains 71 = .ok (.iand, 1) := by decide +kernel
theorem dX3_chains_72 : decode cX3_chains 72 = .ok (.ifCond .ne 33, 3) := by decide +kernel
theorem dX3_chains_75 : decode cX3_chains 75 = .ok (.iload 5, 2) := by decide +kernel
theorem dX3_chains_77 : decode cX3_chains 77 = .ok (.iload 6, 2) := by decide +kernel
theorem dX3_chains_79 : decode cX3_chains 79 = .ok (.iload 7, 2) := by decide +kernel
theorem dX3_chains_81 : decode cX3_chains 81 = .ok (.aload_n 0, 1) := by decide +kernel
theorem dX3_chains_82 : decode cX3_chains 82 = .ok (.getfield 7, 3) := by decide +kernel
theorem dX3_chains_85 : decode cX3_chains 85 = .ok (.sipush 130, 3) := by decide +kernel
theorem dX3_chains_88 : decode cX3_chains 88 = .ok (.iload 12, 2) := by decide +kernel
theorem dX3_chains_90 : decode cX3_chains 90 = .ok (.iadd, 1) := by decide +kernel
theorem dX3_chains_91 : decode cX3_chains 91 = .ok (.iaload, 1) := by decide +kernel
theorem dX3_chains_92 : decode cX3_chains 92 = .ok (.invokestatic 76, 3) := by decide +kernel
theorem dX3_chains_95 : decode cX3_chains 95 = .ok (.aload_n 0, 1) := by decide +kernel
theorem dX3_chains_96 : decode cX3_chains 96 = .ok (.iload 12, 2) := by decide +kernel
theorem dX3_chains_98 : decode cX3_chains 98 = .ok (.invokevirtual 115, 3) := by decide +kernel
theorem dX3_chains_101 : decode cX3_chains 101 = .ok (.isub, 1) := by decide +kernel
theorem dX3_chains_102 : decode cX3_chains 102 = .ok (.goto 4, 3) := by decide +kernel
theorem dX3_chains_105 : decode cX3_chains 105 = .ok (.iconst 0, 1) := by decide +kernel
theorem dX3_chains_106 : decode cX3_chains 106 = .ok (.istore 13, 2) := by decide +kernel
theorem dX3_chains_108 : decode cX3_chains 108 = .ok (.iload 13, 2) := by decide +kernel
theorem dX3_chains_110 : decode cX3_chains 110 = .ok (.iload 11, 2) := by decide +kernel
theorem dX3_chains_112 : decode cX3_chains 112 = .ok (.if_icmp .le 8, 3) := by decide +kernel
theorem dX3_chains_115 : decode cX3_chains 115 = .ok (.iload 12, 2) := by decide +kernel
theorem dX3_chains_117 : decode cX3_chains 117 = .ok (.goto 5, 3) := by decide +kernel
theorem dX3_chains_120 : decode cX3_chains 120 = .ok (.iload 10, 2) := by decide +kernel
theorem dX3_chains_122 : decode cX3_chains 122 = .ok (.istore 10, 2) := by decide +kernel
theorem dX3_chains_124 : decode cX3_chains 124 = .ok (.iload 13, 2) := by decide +kernel
theorem dX3_chains_126 : decode cX3_chains 126 = .ok (.iload 11, 2) := by decide +kernel
theorem dX3_chains_128 : decode cX3_chains 128 = .ok (.if_icmp .le 8, 3) := by decide +kernel
theorem dX3_chains_131 : decode cX3_chains 131 = .ok (.iload 13, 2) := by decide +kernel
theorem dX3_chains_133 : decode cX3_chains 133 = .ok (.goto 5, 3) := by decide +kernel
theorem dX3_chains_136 : decode cX3_chains 136 = .ok (.iload 11, 2) := by decide +kernel
theorem dX3_chains_138 : decode cX3_chains 138 = .ok (.istore 11, 2) := by decide +kernel
theorem dX3_chains_140 : decode cX3_chains 140 = .ok (.iinc 12 1, 3) := by decide +kernel
theorem dX3_chains_143 : decode cX3_chains 143 = .ok (.goto (-98), 3) := by decide +kernel
theorem dX3_chains_146 : decode cX3_chains 146 = .ok (.iload 10, 2) := by decide +kernel
theorem dX3_chains_148 : decode cX3_chains 148 = .ok (.iconst (-1), 1) := by decide +kernel
theorem dX3_chains_149 : decode cX3_chains 149 = .ok (.if_icmp .eq 7, 3) := by decide +kernel
theorem dX3_chains_152 : decode cX3_chains 152 = .ok (.iconst 1, 1) := by decide +kernel
theorem dX3_chains_153 : decode cX3_chains 153 = .ok (.goto 4, 3) := by decide +kernel
theorem dX3_chains_156 : decode cX3_chains 156 = .ok (.iconst 0, 1) := by decide +kernel
theorem dX3_chains_157 : decode cX3_chains 157 = .ok (.istore 9, 2) := by decide +kernel
theorem dX3_chains_159 : decode cX3_chains 159 = .ok (.iload 9, 2) := by decide +kernel
theorem dX3_chains_161 : decode cX3_chains 161 = .ok (.ifCond .eq 101, 3) := by decide +kernel
theorem dX3_chains_164 : decode cX3_chains 164 = .ok (.aload_n 0, 1) := by decide +kernel
theorem dX3_chains_165 : decode cX3_chains 165 = .ok (.getfield 51, 3) := by decide +kernel
theorem dX3_chains_168 : decode cX3_chains 168 = .ok (.aload_n 0, 1) := by decide +kernel
theorem dX3_chains_169 : decode cX3_chains 169 = .ok (.getfield 233, 3) := by decide +kernel
theorem dX3_chains_172 : decode cX3_chains 172 = .ok (.iload 10, 2) := by decide +kernel
theorem dX3_chains_174 : decode cX3_chains 174 = .ok (.iastore, 1) := by decide +kernel
theorem dX3_chains_175 : decode cX3_chains 175 = .ok (.aload_n 0, 1) := by decide +kernel
theorem dX3_chains_176 : decode cX3_chains 176 = .ok (.dup, 1) := by decide +kernel
theorem dX3_chains_177 : decode cX3_chains 177 = .ok (.getfield 233, 3) := by decide +kernel
theorem dX3_chains_180 : decode cX3_chains 180 = .ok (.iconst 1, 1) := by decide +kernel
theorem dX3_chains_181 : decode cX3_chains 181 = .ok (.iadd, 1) := by decide +kernel
theorem dX3_chains_182 : decode cX3_chains 182 = .ok (.putfield 233, 3) := by decide +kernel
theorem dX3_chains_185 : decode cX3_chains 185 = .ok (.aload_n 0, 1) := by decide +kernel
theorem dX3_chains_186 : decode cX3_chains 186 = .ok (.dup, 1) := by decide +kernel
theorem dX3_chains_187 : decode cX3_chains 187 = .ok (.getfield 236, 3) := by decide +kernel
theorem dX3_chains_190 : decode cX3_chains 190 = .ok (.iload 11, 2) := by decide +kernel
theorem dX3_chains_192 : decode cX3_chains 192 = .ok (.iadd, 1) := by decide +kernel
theorem dX3_chains_193 : decode cX3_chains 193 = .ok (.putfield 236, 3) := by decide +kernel
theorem dX3_chains_196 : decode cX3_chains 196 = .ok (.iload 8, 2) := by decide +kernel
theorem dX3_chains_198 : decode cX3_chains 198 = .ok (.iconst 1, 1) := by decide +kernel
theorem dX3_chains_199 : decode cX3_chains 199 = .ok (.iload 10, 2) := by decide +kernel
theorem dX3_chains_201 : decode cX3_chains 201 = .ok (.ishl, 1) := by decide +kernel
theorem dX3_chains_202 : decode cX3_chains 202 = .ok (.ior, 1) := by decide +kernel
theorem dX3_chains_203 : decode cX3_chains 203 = .ok (.istore 8, 2) := by decide +kernel
theorem dX3_chains_205 : decode cX3_chains 205 = .ok (.aload_n 0, 1) := by decide +kernel
theorem dX3_chains_206 : decode cX3_chains 206 = .ok (.aload_n 0, 1) := by decide +kernel
theorem dX3_chains_207 : decode cX3_chains 207 = .ok (.getfield 7, 3) := by decide +kernel
theorem dX3_chains_210 : decode cX3_chains 210 = .ok (.sipush 178, 3) := by decide +kernel
theorem dX3_chains_213 : decode cX3_chains 213 = .ok (.iload 10, 2) := by decide +kernel
theorem dX3_chains_215 : decode cX3_chains 215 = .ok (.iadd, 1) := by decide +kernel
theorem dX3_chains_216 : decode cX3_chains 216 = .ok (.iaload, 1) := by decide +kernel
theorem dX3_chains_217 : decode cX3_chains 217 = .ok (.putfield 239, 3) := by decide +kernel
theorem dX3_chains_220 : decode cX3_chains 220 = .ok (.aload_n 0, 1) := by decide +kernel
theorem dX3_chains_221 : decode cX3_chains 221 = .ok (.getfield 7, 3) := by decide +kernel
theorem dX3_chains_224 : decode cX3_chains 224 = .ok (.bipush 10, 2) := by decide +kernel
theorem dX3_chains_226 : decode cX3_chains 226 = .ok (.aload_n 0, 1) := by decide +kernel
theorem dX3_chains_227 : decode cX3_chains 227 = .ok (.getfield 239, 3) := by decide +kernel
theorem dX3_chains_230 : decode cX3_chains 230 = .ok (.iadd, 1) := by decide +kernel
theorem dX3_chains_231 : decode cX3_chains 231 = .ok (.iaload, 1) := by decide +kernel
theorem dX3_chains_232 : decode cX3_chains 232 = .ok (.istore 5, 2) := by decide +kernel
theorem dX3_chains_234 : decode cX3_chains 234 = .ok (.aload_n 0, 1) := by decide +kernel
theorem dX3_chains_235 : decode cX3_chains 235 = .ok (.getfield 7, 3) := by decide +kernel
theorem dX3_chains_238 : decode cX3_chains 238 = .ok (.bipush 30, 2) := by decide +kernel
theorem dX3_chains_240 : decode cX3_chains 240 = .ok (.aload_n 0, 1) := by decide +kernel
theorem dX3_chains_241 : decode cX3_chains 241 = .ok (.getfield 239, 3) := by decide +kernel
theorem dX3_chains_244 : decode cX3_chains 244 = .ok (.iadd, 1) := by decide +kernel
theorem dX3_chains_245 : decode cX3_chains 245 = .ok (.iaload, 1) := by decide +kernel
theorem dX3_chains_246 : decode cX3_chains 246 = .ok (.istore 6, 2) := by decide +kernel
theorem dX3_chains_248 : decode cX3_chains 248 = .ok (.aload_n 0, 1) := by decide +kernel
theorem dX3_chains_249 : decode cX3_chains 249 = .ok (.getfield 7, 3) := by decide +kernel
theorem dX3_chains_252 : decode cX3_chains 252 = .ok (.bipush 50, 2) := by decide +kernel
theorem dX3_chains_254 : decode cX3_chains 254 = .ok (.aload_n 0, 1) := by decide +kernel
theorem dX3_chains_255 : decode cX3_chains 255 = .ok (.getfield 239, 3) := by decide +kernel
theorem dX3_chains_258 : decode cX3_chains 258 = .ok (.iadd, 1) := by decide +kernel
theorem dX3_chains_259 : decode cX3_chains 259 = .ok (.iaload, 1) := by decide +kernel
theorem dX3_chains_260 : decode cX3_chains 260 = .ok (.istore 7, 2) := by decide +kernel
theorem dX3_chains_262 : decode cX3_chains 262 = .ok (.goto (-231), 3) := by decide +kernel
theorem dX3_chains_265 : decode cX3_chains 265 = .ok (.return_, 1) := by decide +kernel
abbrev cX3_value : ByteArray := prog_22_method_60_code
def yX3_value : MethodName := ⟨RX3, "value", "(I)I"⟩
theorem dX3_value_0 : decode cX3_value 0 = .ok (.iload_n 1, 1) := by decide +kernel
theorem dX3_value_1 : decode cX3_value 1 = .ok (.iconst 1, 1) := by decide +kernel
theorem dX3_value_2 : decode cX3_value 2 = .ok (.bipush 40, 2) := by decide +kernel
theorem dX3_value_4 : decode cX3_value 4 = .ok (.invokestatic 69, 3) := by decide +kernel
theorem dX3_value_7 : decode cX3_value 7 = .ok (.ifCond .eq 11, 3) := by decide +kernel
theorem dX3_value_10 : decode cX3_value 10 = .ok (.aload_n 0, 1) := by decide +kernel
theorem dX3_value_11 : decode cX3_value 11 = .ok (.iload_n 1, 1) := by decide +kernel
theorem dX3_value_12 : decode cX3_value 12 = .ok (.invokevirtual 246, 3) := by decide +kernel
theorem dX3_value_15 : decode cX3_value 15 = .ok (.goto 5, 3) := by decide +kernel
theorem dX3_value_18 : decode cX3_value 18 = .ok (.bipush (-2), 2) := by decide +kernel
theorem dX3_value_20 : decode cX3_value 20 = .ok (.ireturn, 1) := by decide +kernel
abbrev cX3_valueOf : ByteArray := prog_22_method_59_code
def yX3_valueOf : MethodName := ⟨RX3, "valueOf", "(I)I"⟩
theorem dX3_valueOf_0 : decode cX3_valueOf 0 = .ok (.aload_n 0, 1) := by decide +kernel
theorem dX3_valueOf_1 : decode cX3_valueOf 1 = .ok (.iconst (-1), 1) := by decide +kernel
theorem dX3_valueOf_2 : decode cX3_valueOf 2 = .ok (.iload_n 1, 1) := by decide +kernel
theorem dX3_valueOf_3 : decode cX3_valueOf 3 = .ok (.iconst 0, 1) := by decide +kernel
theorem dX3_valueOf_4 : decode cX3_valueOf 4 = .ok (.iconst 0, 1) := by decide +kernel
theorem dX3_valueOf_5 : decode cX3_valueOf 5 = .ok (.invokevirtual 242, 3) := by decide +kernel
theorem dX3_valueOf_8 : decode cX3_valueOf 8 = .ok (.aload_n 0, 1) := by decide +kernel
theorem dX3_valueOf_9 : decode cX3_valueOf 9 = .ok (.getfield 236, 3) := by decide +kernel
theorem dX3_valueOf_12 : decode cX3_valueOf 12 = .ok (.ireturn, 1) := by decide +kernel
abbrev cX3_first : ByteArray := prog_22_method_61_code
def yX3_first : MethodName := ⟨RX3, "first", "()I"⟩
theorem dX3_first_0 : decode cX3_first 0 = .ok (.iconst 1, 1) := by decide +kernel
theorem dX3_first_1 : decode cX3_first 1 = .ok (.istore_n 1, 1) := by decide +kernel
theorem dX3_first_2 : decode cX3_first 2 = .ok (.aload_n 0, 1) := by decide +kernel
theorem dX3_first_3 : decode cX3_first 3 = .ok (.iconst 1, 1) := by decide +kernel
theorem dX3_first_4 : decode cX3_first 4 = .ok (.invokevirtual 246, 3) := by decide +kernel
theorem dX3_first_7 : decode cX3_first 7 = .ok (.istore_n 2, 1) := by decide +kernel
theorem dX3_first_8 : decode cX3_first 8 = .ok (.iconst 2, 1) := by decide +kernel
theorem dX3_first_9 : decode cX3_first 9 = .ok (.istore_n 3, 1) := by decide +kernel
theorem dX3_first_10 : decode cX3_first 10 = .ok (.iload_n 3, 1) := by decide +kernel
theorem dX3_first_11 : decode cX3_first 11 = .ok (.bipush 40, 2) := by decide +kernel
theorem dX3_first_13 : decode cX3_first 13 = .ok (.if_icmp .gt 41, 3) := by decide +kernel
theorem dX3_first_16 : decode cX3_first 16 = .ok (.aload_n 0, 1) := by decide +kernel
theorem dX3_first_17 : decode cX3_first 17 = .ok (.iload_n 3, 1) := by decide +kernel
theorem dX3_first_18 : decode cX3_first 18 = .ok (.invokevirtual 246, 3) := by decide +kernel
theorem dX3_first_21 : decode cX3_first 21 = .ok (.istore 4, 2) := by decide +kernel
theorem dX3_first_23 : decode cX3_first 23 = .ok (.iload 4, 2) := by decide +kernel
theorem dX3_first_25 : decode cX3_first 25 = .ok (.iload_n 2, 1) := by decide +kernel
theorem dX3_first_26 : decode cX3_first 26 = .ok (.if_icmp .le 7, 3) := by decide +kernel
theorem dX3_first_29 : decode cX3_first 29 = .ok (.iload_n 3, 1) := by decide +kernel
theorem dX3_first_30 : decode cX3_first 30 = .ok (.goto 4, 3) := by decide +kernel
theorem dX3_first_33 : decode cX3_first 33 = .ok (.iload_n 1, 1) := by decide +kernel
theorem dX3_first_34 : decode cX3_first 34 = .ok (.istore_n 1, 1) := by decide +kernel
theorem dX3_first_35 : decode cX3_first 35 = .ok (.iload 4, 2) := by decide +kernel
theorem dX3_first_37 : decode cX3_first 37 = .ok (.iload_n 2, 1) := by decide +kernel
theorem dX3_first_38 : decode cX3_first 38 = .ok (.if_icmp .le 8, 3) := by decide +kernel
theorem dX3_first_41 : decode cX3_first 41 = .ok (.iload 4, 2) := by decide +kernel
theorem dX3_first_43 : decode cX3_first 43 = .ok (.goto 4, 3) := by decide +kernel
theorem dX3_first_46 : decode cX3_first 46 = .ok (.iload_n 2, 1) := by decide +kernel
theorem dX3_first_47 : decode cX3_first 47 = .ok (.istore_n 2, 1) := by decide +kernel
theorem dX3_first_48 : decode cX3_first 48 = .ok (.iinc 3 1, 3) := by decide +kernel
theorem dX3_first_51 : decode cX3_first 51 = .ok (.goto (-41), 3) := by decide +kernel
theorem dX3_first_54 : decode cX3_first 54 = .ok (.iload_n 1, 1) := by decide +kernel
theorem dX3_first_55 : decode cX3_first 55 = .ok (.ireturn, 1) := by decide +kernel
abbrev cX3_best : ByteArray := prog_22_method_67_code
def yX3_best : MethodName := ⟨RX3, "best", "(II)I"⟩
theorem dX3_best_0 : decode cX3_best 0 = .ok (.aload_n 0, 1) := by decide +kernel
theorem dX3_best_1 : decode cX3_best 1 = .ok (.iload_n 1, 1) := by decide +kernel
theorem dX3_best_2 : decode cX3_best 2 = .ok (.invokevirtual 271, 3) := by decide +kernel
theorem dX3_best_5 : decode cX3_best 5 = .ok (.istore_n 3, 1) := by decide +kernel
theorem dX3_best_6 : decode cX3_best 6 = .ok (.iload_n 3, 1) := by decide +kernel
theorem dX3_best_7 : decode cX3_best 7 = .ok (.ifCond .eq 5, 3) := by decide +kernel
theorem dX3_best_10 : decode cX3_best 10 = .ok (.iload_n 3, 1) := by decide +kernel
theorem dX3_best_11 : decode cX3_best 11 = .ok (.ireturn, 1) := by decide +kernel
theorem dX3_best_12 : decode cX3_best 12 = .ok (.iload_n 2, 1) := by decide +kernel
theorem dX3_best_13 : decode cX3_best 13 = .ok (.iconst (-1), 1) := by decide +kernel
theorem dX3_best_14 : decode cX3_best 14 = .ok (.aload_n 0, 1) := by decide +kernel
theorem dX3_best_15 : decode cX3_best 15 = .ok (.getfield 249, 3) := by decide +kernel
theorem dX3_best_18 : decode cX3_best 18 = .ok (.iconst 1, 1) := by decide +kernel
theorem dX3_best_19 : decode cX3_best 19 = .ok (.isub, 1) := by decide +kernel
theorem dX3_best_20 : decode cX3_best 20 = .ok (.invokestatic 69, 3) := by decide +kernel
theorem dX3_best_23 : decode cX3_best 23 = .ok (.ifCond .ne 5, 3) := by decide +kernel
theorem dX3_best_26 : decode cX3_best 26 = .ok (.iconst (-1), 1) := by decide +kernel
theorem dX3_best_27 : decode cX3_best 27 = .ok (.ireturn, 1) := by decide +kernel
theorem dX3_best_28 : decode cX3_best 28 = .ok (.aload_n 0, 1) := by decide +kernel
theorem dX3_best_29 : decode cX3_best 29 = .ok (.invokevirtual 274, 3) := by decide +kernel
theorem dX3_best_32 : decode cX3_best 32 = .ok (.iload_n 2, 1) := by decide +kernel
theorem dX3_best_33 : decode cX3_best 33 = .ok (.iconst (-1), 1) := by decide +kernel
theorem dX3_best_34 : decode cX3_best 34 = .ok (.if_icmp .ne 10, 3) := by decide +kernel
theorem dX3_best_37 : decode cX3_best 37 = .ok (.aload_n 0, 1) := by decide +kernel
theorem dX3_best_38 : decode cX3_best 38 = .ok (.getfield 258, 3) := by decide +kernel
theorem dX3_best_41 : decode cX3_best 41 = .ok (.goto 9, 3) := by decide +kernel
theorem dX3_best_44 : decode cX3_best 44 = .ok (.aload_n 0, 1) := by decide +kernel
theorem dX3_best_45 : decode cX3_best 45 = .ok (.getfield 60, 3) := by decide +kernel
theorem dX3_best_48 : decode cX3_best 48 = .ok (.iload_n 2, 1) := by decide +kernel
theorem dX3_best_49 : decode cX3_best 49 = .ok (.iaload, 1) := by decide +kernel
theorem dX3_best_50 : decode cX3_best 50 = .ok (.ireturn, 1) := by decide +kernel
abbrev cX3_refuses : ByteArray := prog_22_method_62_code
def yX3_refuses : MethodName := ⟨RX3, "refuses", "(I)I"⟩
theorem dX3_refuses_0 : decode cX3_refuses 0 = .ok (.aload_n 0, 1) := by decide +kernel
theorem dX3_refuses_1 : decode cX3_refuses 1 = .ok (.iconst 0, 1) := by decide +kernel
theorem dX3_refuses_2 : decode cX3_refuses 2 = .ok (.putfield 249, 3) := by decide +kernel
theorem dX3_refuses_5 : decode cX3_refuses 5 = .ok (.iconst 0, 1) := by decide +kernel
theorem dX3_refuses_6 : decode cX3_refuses 6 = .ok (.istore_n 2, 1) := by decide +kernel
theorem dX3_refuses_7 : decode cX3_refuses 7 = .ok (.iload_n 2, 1) := by decide +kernel
theorem dX3_refuses_8 : decode cX3_refuses 8 = .ok (.bipush 12, 2) := by decide +kernel
theorem dX3_refuses_10 : decode cX3_refuses 10 = .ok (.if_icmp .ge 50, 3) := by decide +kernel
theorem dX3_refuses_13 : decode cX3_refuses 13 = .ok (.iload_n 1, 1) := by decide +kernel
theorem dX3_refuses_14 : decode cX3_refuses 14 = .ok (.iload_n 2, 1) := by decide +kernel
theorem dX3_refuses_15 : decode cX3_refuses 15 = .ok (.ishr, 1) := by decide +kernel
theorem dX3_refuses_16 : decode cX3_refuses 16 = .ok (.iconst 1, 1) := by decide +kernel
theorem dX3_refuses_17 : decode cX3_refuses 17 = .ok (.iand, 1) := by decide +kernel
theorem dX3_refuses_18 : decode cX3_refuses 18 = .ok (.iconst 1, 1) := by decide +kernel
theorem dX3_refuses_19 : decode cX3_refuses 19 = .ok (.if_icmp .ne 35, 3) := by decide +kernel
theorem dX3_refuses_22 : decode cX3_refuses 22 = .ok (.aload_n 0, 1) := by decide +kernel
theorem dX3_refuses_23 : decode cX3_refuses 23 = .ok (.getfield 249, 3) := by decide +kernel
theorem dX3_refuses_26 : decode cX3_refuses 26 = .ok (.bipush 6, 2) := by decide +kernel
theorem dX3_refuses_28 : decode cX3_refuses 28 = .ok (.if_icmp .ne 6, 3) := by decide +kernel
theorem dX3_refuses_31 : decode cX3_refuses 31 = .ok (.bipush (-2), 2) := by decide +kernel
theorem dX3_refuses_33 : decode cX3_refuses 33 = .ok (.ireturn, 1) := by decide +kernel
theorem dX3_refuses_34 : decode cX3_refuses 34 = .ok (.aload_n 0, 1) := by decide +kernel
theorem dX3_refuses_35 : decode cX3_refuses 35 = .ok (.getfield 54, 3) := by decide +kernel
theorem dX3_refuses_38 : decode cX3_refuses 38 = .ok (.aload_n 0, 1) := by decide +kernel
theorem dX3_refuses_39 : decode cX3_refuses 39 = .ok (.getfield 249, 3) := by decide +kernel
theorem dX3_refuses_42 : decode cX3_refuses 42 = .ok (.iload_n 2, 1) := by decide +kernel
theorem dX3_refuses_43 : decode cX3_refuses 43 = .ok (.iastore, 1) := by decide +kernel
theorem dX3_refuses_44 : decode cX3_refuses 44 = .ok (.aload_n 0, 1) := by decide +kernel
theorem dX3_refuses_45 : decode cX3_refuses 45 = .ok (.dup, 1) := by decide +kernel
theorem dX3_refuses_46 : decode cX3_refuses 46 = .ok (.getfield 249, 3) := by decide +kernel
theorem dX3_refuses_49 : decode cX3_refuses 49 = .ok (.iconst 1, 1) := by decide +kernel
theorem dX3_refuses_50 : decode cX3_refuses 50 = .ok (.iadd, 1) := by decide +kernel
theorem dX3_refuses_51 : decode cX3_refuses 51 = .ok (.putfield 249, 3) := by decide +kernel
theorem dX3_refuses_54 : decode cX3_refuses 54 = .ok (.iinc 2 1, 3) := by decide +kernel
theorem dX3_refuses_57 : decode cX3_refuses 57 = .ok (.goto (-50), 3) := by decide +kernel
theorem dX3_refuses_60 : decode cX3_refuses 60 = .ok (.aload_n 0, 1) := by decide +kernel
theorem dX3_refuses_61 : decode cX3_refuses 61 = .ok (.getfield 249, 3) := by decide +kernel
theorem dX3_refuses_64 : decode cX3_refuses 64 = .ok (.ifCond .eq 21, 3) := by decide +kernel
theorem dX3_refuses_67 : decode cX3_refuses 67 = .ok (.iload_n 1, 1) := by decide +kernel
theorem dX3_refuses_68 : decode cX3_refuses 68 = .ok (.iconst 1, 1) := by decide +kernel
theorem dX3_refuses_69 : decode cX3_refuses 69 = .ok (.iconst 1, 1) := by decide +kernel
theorem dX3_refuses_70 : decode cX3_refuses 70 = .ok (.aload_n 0, 1) := by decide +kernel
theorem dX3_refuses_71 : decode cX3_refuses 71 = .ok (.getfield 7, 3) := by decide +kernel
theorem dX3_refuses_74 : decode cX3_refuses 74 = .ok (.iconst 1, 1) := by decide +kernel
theorem dX3_refuses_75 : decode cX3_refuses 75 = .ok (.iaload, 1) := by decide +kernel
theorem dX3_refuses_76 : decode cX3_refuses 76 = .ok (.ishl, 1) := by decide +kernel
theorem dX3_refuses_77 : decode cX3_refuses 77 = .ok (.iconst 1, 1) := by decide +kernel
theorem dX3_refuses_78 : decode cX3_refuses 78 = .ok (.isub, 1) := by decide +kernel
theorem dX3_refuses_79 : decode cX3_refuses 79 = .ok (.invokestatic 69, 3) := by decide +kernel
theorem dX3_refuses_82 : decode cX3_refuses 82 = .ok (.ifCond .ne 6, 3) := by decide +kernel
theorem dX3_refuses_85 : decode cX3_refuses 85 = .ok (.bipush (-2), 2) := by decide +kernel
theorem dX3_refuses_87 : decode cX3_refuses 87 = .ok (.ireturn, 1) := by decide +kernel
theorem dX3_refuses_88 : decode cX3_refuses 88 = .ok (.iconst 0, 1) := by decide +kernel
theorem dX3_refuses_89 : decode cX3_refuses 89 = .ok (.istore_n 2, 1) := by decide +kernel
theorem dX3_refuses_90 : decode cX3_refuses 90 = .ok (.iload_n 2, 1) := by decide +kernel
theorem dX3_refuses_91 : decode cX3_refuses 91 = .ok (.aload_n 0, 1) := by decide +kernel
theorem dX3_refuses_92 : decode cX3_refuses 92 = .ok (.getfield 249, 3) := by decide +kernel
theorem dX3_refuses_95 : decode cX3_refuses 95 = .ok (.if_icmp .ge 25, 3) := by decide +kernel
theorem dX3_refuses_98 : decode cX3_refuses 98 = .ok (.aload_n 0, 1) := by decide +kernel
theorem dX3_refuses_99 : decode cX3_refuses 99 = .ok (.aload_n 0, 1) := by decide +kernel
theorem dX3_refuses_100 : decode cX3_refuses 100 = .ok (.getfield 54, 3) := by decide +kernel
theorem dX3_refuses_103 : decode cX3_refuses 103 = .ok (.iload_n 2, 1) := by decide +kernel
theorem dX3_refuses_104 : decode cX3_refuses 104 = .ok (.iaload, 1) := by decide +kernel
theorem dX3_refuses_105 : decode cX3_refuses 105 = .ok (.invokevirtual 80, 3) := by decide +kernel
theorem dX3_refuses_108 : decode cX3_refuses 108 = .ok (.ifCond .ne 6, 3) := by decide +kernel
theorem dX3_refuses_111 : decode cX3_refuses 111 = .ok (.bipush (-3), 2) := by decide +kernel
theorem dX3_refuses_113 : decode cX3_refuses 113 = .ok (.ireturn, 1) := by decide +kernel
theorem dX3_refuses_114 : decode cX3_refuses 114 = .ok (.iinc 2 1, 3) := by decide +kernel
theorem dX3_refuses_117 : decode cX3_refuses 117 = .ok (.goto (-27), 3) := by decide +kernel
theorem dX3_refuses_120 : decode cX3_refuses 120 = .ok (.iconst 0, 1) := by decide +kernel
theorem dX3_refuses_121 : decode cX3_refuses 121 = .ok (.ireturn, 1) := by decide +kernel
abbrev cX3_partings : ByteArray := prog_22_method_66_code
def yX3_partings : MethodName := ⟨RX3, "partings", "()V"⟩
theorem dX3_partings_0 : decode cX3_partings 0 = .ok (.aload_n 0, 1) := by decide +kernel
theorem dX3_partings_1 : decode cX3_partings 1 = .ok (.iconst 0, 1) := by decide +kernel
theorem dX3_partings_2 : decode cX3_partings 2 = .ok (.putfield 255, 3) := by decide +kernel
theorem dX3_partings_5 : decode cX3_partings 5 = .ok (.aload_n 0, 1) := by decide +kernel
theorem dX3_partings_6 : decode cX3_partings 6 = .ok (.iconst 0, 1) := by decide +kernel
theorem dX3_partings_7 : decode cX3_partings 7 = .ok (.putfield 252, 3) := by decide +kernel
theorem dX3_partings_10 : decode cX3_partings 10 = .ok (.aload_n 0, 1) := by decide +kernel
theorem dX3_partings_11 : decode cX3_partings 11 = .ok (.iconst 0, 1) := by decide +kernel
theorem dX3_partings_12 : decode cX3_partings 12 = .ok (.iconst 0, 1) := by decide +kernel
theorem dX3_partings_13 : decode cX3_partings 13 = .ok (.invokevirtual 268, 3) := by decide +kernel
theorem dX3_partings_16 : decode cX3_partings 16 = .ok (.return_, 1) := by decide +kernel
abbrev cX3_parts : ByteArray := prog_22_method_65_code
def yX3_parts : MethodName := ⟨RX3, "parts", "(II)V"⟩
theorem dX3_parts_0 : decode cX3_parts 0 = .ok (.iload_n 1, 1) := by decide +kernel
theorem dX3_parts_1 : decode cX3_parts 1 = .ok (.aload_n 0, 1) := by decide +kernel
theorem dX3_parts_2 : decode cX3_parts 2 = .ok (.getfield 249, 3) := by decide +kernel
theorem dX3_parts_5 : decode cX3_parts 5 = .ok (.if_icmp .ne 8, 3) := by decide +kernel
theorem dX3_parts_8 : decode cX3_parts 8 = .ok (.aload_n 0, 1) := by decide +kernel
theorem dX3_parts_9 : decode cX3_parts 9 = .ok (.invokevirtual 265, 3) := by decide +kernel
theorem dX3_parts_12 : decode cX3_parts 12 = .ok (.return_, 1) := by decide +kernel
theorem dX3_parts_13 : decode cX3_parts 13 = .ok (.iconst 0, 1) := by decide +kernel
theorem dX3_parts_14 : decode cX3_parts 14 = .ok (.istore_n 3, 1) := by decide +kernel
theorem dX3_parts_15 : decode cX3_parts 15 = .ok (.iload_n 3, 1) := by decide +kernel
theorem dX3_parts_16 : decode cX3_parts 16 = .ok (.aload_n 0, 1) := by decide +kernel
theorem dX3_parts_17 : decode cX3_parts 17 = .ok (.getfield 249, 3) := by decide +kernel
theorem dX3_parts_20 : decode cX3_parts 20 = .ok (.if_icmp .ge 50, 3) := by decide +kernel
theorem dX3_parts_23 : decode cX3_parts 23 = .ok (.iload_n 2, 1) := by decide +kernel
theorem dX3_parts_24 : decode cX3_parts 24 = .ok (.iload_n 3, 1) := by decide +kernel
theorem dX3_parts_25 : decode cX3_parts 25 = .ok (.ishr, 1) := by decide +kernel
theorem dX3_parts_26 : decode cX3_parts 26 = .ok (.iconst 1, 1) := by decide +kernel
theorem dX3_parts_27 : decode cX3_parts 27 = .ok (.iand, 1) := by decide +kernel
theorem dX3_parts_28 : decode cX3_parts 28 = .ok (.ifCond .ne 36, 3) := by decide +kernel
theorem dX3_parts_31 : decode cX3_parts 31 = .ok (.aload_n 0, 1) := by decide +kernel
theorem dX3_parts_32 : decode cX3_parts 32 = .ok (.getfield 57, 3) := by decide +kernel
theorem dX3_parts_35 : decode cX3_parts 35 = .ok (.iload_n 1, 1) := by decide +kernel
theorem dX3_parts_36 : decode cX3_parts 36 = .ok (.aload_n 0, 1) := by decide +kernel
theorem dX3_parts_37 : decode cX3_parts 37 = .ok (.getfield 7, 3) := by decide +kernel
theorem dX3_parts_40 : decode cX3_parts 40 = .ok (.sipush 178, 3) := by decide +kernel
theorem dX3_parts_43 : decode cX3_parts 43 = .ok (.aload_n 0, 1) := by decide +kernel
theorem dX3_parts_44 : decode cX3_parts 44 = .ok (.getfield 54, 3) := by decide +kernel
theorem dX3_parts_47 : decode cX3_parts 47 = .ok (.iload_n 3, 1) := by decide +kernel
theorem dX3_parts_48 : decode cX3_parts 48 = .ok (.iaload, 1) := by decide +kernel
theorem dX3_parts_49 : decode cX3_parts 49 = .ok (.iadd, 1) := by decide +kernel
theorem dX3_parts_50 : decode cX3_parts 50 = .ok (.iaload, 1) := by decide +kernel
theorem dX3_parts_51 : decode cX3_parts 51 = .ok (.iastore, 1) := by decide +kernel
theorem dX3_parts_52 : decode cX3_parts 52 = .ok (.aload_n 0, 1) := by decide +kernel
theorem dX3_parts_53 : decode cX3_parts 53 = .ok (.iload_n 1, 1) := by decide +kernel
theorem dX3_parts_54 : decode cX3_parts 54 = .ok (.iconst 1, 1) := by decide +kernel
theorem dX3_parts_55 : decode cX3_parts 55 = .ok (.iadd, 1) := by decide +kernel
theorem dX3_parts_56 : decode cX3_parts 56 = .ok (.iload_n 2, 1) := by decide +kernel
theorem dX3_parts_57 : decode cX3_parts 57 = .ok (.iconst 1, 1) := by decide +kernel
theorem dX3_parts_58 : decode cX3_parts 58 = .ok (.iload_n 3, 1) := by decide +kernel
theorem dX3_parts_59 : decode cX3_parts 59 = .ok (.ishl, 1) := by decide +kernel
theorem dX3_parts_60 : decode cX3_parts 60 = .ok (.ior, 1) := by decide +kernel
theorem dX3_parts_61 : decode cX3_parts 61 = .ok (.invokevirtual 268, 3) := by decide +kernel
theorem dX3_parts_64 : decode cX3_parts 64 = .ok (.iinc 3 1, 3) := by decide +kernel
theorem dX3_parts_67 : decode cX3_parts 67 = .ok (.goto (-52), 3) := by decide +kernel
theorem dX3_parts_70 : decode cX3_parts 70 = .ok (.return_, 1) := by decide +kernel
abbrev cX3_looksAt : ByteArray := prog_22_method_64_code
def yX3_looksAt : MethodName := ⟨RX3, "looksAt", "()V"⟩
theorem dX3_looksAt_0 : decode cX3_looksAt 0 = .ok (.iconst 0, 1) := by decide +kernel
theorem dX3_looksAt_1 : decode cX3_looksAt 1 = .ok (.istore_n 1, 1) := by decide +kernel
theorem dX3_looksAt_2 : decode cX3_looksAt 2 = .ok (.iconst 1, 1) := by decide +kernel
theorem dX3_looksAt_3 : decode cX3_looksAt 3 = .ok (.istore_n 2, 1) := by decide +kernel
theorem dX3_looksAt_4 : decode cX3_looksAt 4 = .ok (.iconst 0, 1) := by decide +kernel
theorem dX3_looksAt_5 : decode cX3_looksAt 5 = .ok (.istore_n 3, 1) := by decide +kernel
theorem dX3_looksAt_6 : decode cX3_looksAt 6 = .ok (.iload_n 3, 1) := by decide +kernel
theorem dX3_looksAt_7 : decode cX3_looksAt 7 = .ok (.aload_n 0, 1) := by decide +kernel
theorem dX3_looksAt_8 : decode cX3_looksAt 8 = .ok (.getfield 249, 3) := by decide +kernel
theorem dX3_looksAt_11 : decode cX3_looksAt 11 = .ok (.if_icmp .ge 140, 3) := by decide +kernel
theorem dX3_looksAt_14 : decode cX3_looksAt 14 = .ok (.aload_n 0, 1) := by decide +kernel
theorem dX3_looksAt_15 : decode cX3_looksAt 15 = .ok (.getfield 7, 3) := by decide +kernel
theorem dX3_looksAt_18 : decode cX3_looksAt 18 = .ok (.sipush 130, 3) := by decide +kernel
theorem dX3_looksAt_21 : decode cX3_looksAt 21 = .ok (.aload_n 0, 1) := by decide +kernel
theorem dX3_looksAt_22 : decode cX3_looksAt 22 = .ok (.getfield 54, 3) := by decide +kernel
theorem dX3_looksAt_25 : decode cX3_looksAt 25 = .ok (.iload_n 3, 1) := by decide +kernel
theorem dX3_looksAt_26 : decode cX3_looksAt 26 = .ok (.iaload, 1) := by decide +kernel
theorem dX3_looksAt_27 : decode cX3_looksAt 27 = .ok (.iadd, 1) := by decide +kernel
theorem dX3_looksAt_28 : decode cX3_looksAt 28 = .ok (.iaload, 1) := by decide +kernel
theorem dX3_looksAt_29 : decode cX3_looksAt 29 = .ok (.istore 4, 2) := by decide +kernel
theorem dX3_looksAt_31 : decode cX3_looksAt 31 = .ok (.iload_n 1, 1) := by decide +kernel
theorem dX3_looksAt_32 : decode cX3_looksAt 32 = .ok (.aload_n 0, 1) := by decide +kernel
theorem dX3_looksAt_33 : decode cX3_looksAt 33 = .ok (.aload_n 0, 1) := by decide +kernel
theorem dX3_looksAt_34 : decode cX3_looksAt 34 = .ok (.getfield 57, 3) := by decide +kernel
theorem dX3_looksAt_37 : decode cX3_looksAt 37 = .ok (.iload_n 3, 1) := by decide +kernel
theorem dX3_looksAt_38 : decode cX3_looksAt 38 = .ok (.iaload, 1) := by decide +kernel
theorem dX3_looksAt_39 : decode cX3_looksAt 39 = .ok (.iload 4, 2) := by decide +kernel
theorem dX3_looksAt_41 : decode cX3_looksAt 41 = .ok (.invokevirtual 84, 3) := by decide +kernel
theorem dX3_looksAt_44 : decode cX3_looksAt 44 = .ok (.iadd, 1) := by decide +kernel
theorem dX3_looksAt_45 : decode cX3_looksAt 45 = .ok (.istore_n 1, 1) := by decide +kernel
theorem dX3_looksAt_46 : decode cX3_looksAt 46 = .ok (.iconst 0, 1) := by decide +kernel
theorem dX3_looksAt_47 : decode cX3_looksAt 47 = .ok (.istore 5, 2) := by decide +kernel
theorem dX3_looksAt_49 : decode cX3_looksAt 49 = .ok (.iload 5, 2) := by decide +kernel
theorem dX3_looksAt_51 : decode cX3_looksAt 51 = .ok (.iload_n 3, 1) := by decide +kernel
theorem dX3_looksAt_52 : decode cX3_looksAt 52 = .ok (.if_icmp .ge 93, 3) := by decide +kernel
theorem dX3_looksAt_55 : decode cX3_looksAt 55 = .ok (.aload_n 0, 1) := by decide +kernel
theorem dX3_looksAt_56 : decode cX3_looksAt 56 = .ok (.getfield 7, 3) := by decide +kernel
theorem dX3_looksAt_59 : decode cX3_looksAt 59 = .ok (.sipush 130, 3) := by decide +kernel
theorem dX3_looksAt_62 : decode cX3_looksAt 62 = .ok (.aload_n 0, 1) := by decide +kernel
theorem dX3_looksAt_63 : decode cX3_looksAt 63 = .ok (.getfield 54, 3) := by decide +kernel
theorem dX3_looksAt_66 : decode cX3_looksAt 66 = .ok (.iload 5, 2) := by decide +kernel
theorem dX3_looksAt_68 : decode cX3_looksAt 68 = .ok (.iaload, 1) := by decide +kernel
theorem dX3_looksAt_69 : decode cX3_looksAt 69 = .ok (.iadd, 1) := by decide +kernel
theorem dX3_looksAt_70 : decode cX3_looksAt 70 = .ok (.iaload, 1) := by decide +kernel
theorem dX3_looksAt_71 : decode cX3_looksAt 71 = .ok (.istore 6, 2) := by decide +kernel
theorem dX3_looksAt_73 : decode cX3_looksAt 73 = .ok (.iload_n 2, 1) := by decide +kernel
theorem dX3_looksAt_74 : decode cX3_looksAt 74 = .ok (.ifCond .eq 63, 3) := by decide +kernel
theorem dX3_looksAt_77 : decode cX3_looksAt 77 = .ok (.aload_n 0, 1) := by decide +kernel
theorem dX3_looksAt_78 : decode cX3_looksAt 78 = .ok (.aload_n 0, 1) := by decide +kernel
theorem dX3_looksAt_79 : decode cX3_looksAt 79 = .ok (.getfield 57, 3) := by decide +kernel
theorem dX3_looksAt_82 : decode cX3_looksAt 82 = .ok (.iload 5, 2) := by decide +kernel
theorem dX3_looksAt_84 : decode cX3_looksAt 84 = .ok (.iaload, 1) := by decide +kernel
theorem dX3_looksAt_85 : decode cX3_looksAt 85 = .ok (.iload 4, 2) := by decide +kernel
theorem dX3_looksAt_87 : decode cX3_looksAt 87 = .ok (.invokevirtual 84, 3) := by decide +kernel
theorem dX3_looksAt_90 : decode cX3_looksAt 90 = .ok (.aload_n 0, 1) := by decide +kernel
theorem dX3_looksAt_91 : decode cX3_looksAt 91 = .ok (.aload_n 0, 1) := by decide +kernel
theorem dX3_looksAt_92 : decode cX3_looksAt 92 = .ok (.getfield 57, 3) := by decide +kernel
theorem dX3_looksAt_95 : decode cX3_looksAt 95 = .ok (.iload_n 3, 1) := by decide +kernel
theorem dX3_looksAt_96 : decode cX3_looksAt 96 = .ok (.iaload, 1) := by decide +kernel
theorem dX3_looksAt_97 : decode cX3_looksAt 97 = .ok (.iload 4, 2) := by decide +kernel
theorem dX3_looksAt_99 : decode cX3_looksAt 99 = .ok (.invokevirtual 84, 3) := by decide +kernel
theorem dX3_looksAt_102 : decode cX3_looksAt 102 = .ok (.if_icmp .le 31, 3) := by decide +kernel
theorem dX3_looksAt_105 : decode cX3_looksAt 105 = .ok (.aload_n 0, 1) := by decide +kernel
theorem dX3_looksAt_106 : decode cX3_looksAt 106 = .ok (.aload_n 0, 1) := by decide +kernel
theorem dX3_looksAt_107 : decode cX3_looksAt 107 = .ok (.getfield 57, 3) := by decide +kernel
theorem dX3_looksAt_110 : decode cX3_looksAt 110 = .ok (.iload_n 3, 1) := by decide +kernel
theorem dX3_looksAt_111 : decode cX3_looksAt 111 = .ok (.iaload, 1) := by decide +kernel
theorem dX3_looksAt_112 : decode cX3_looksAt 112 = .ok (.iload 6, 2) := by decide +kernel
theorem dX3_looksAt_114 : decode cX3_looksAt 114 = .ok (.invokevirtual 84, 3) := by decide +kernel
theorem dX3_looksAt_117 : decode cX3_looksAt 117 = .ok (.aload_n 0, 1) := by decide +kernel
theorem dX3_looksAt_118 : decode cX3_looksAt 118 = .ok (.aload_n 0, 1) := by decide +kernel
theorem dX3_looksAt_119 : decode cX3_looksAt 119 = .ok (.getfield 57, 3) := by decide +kernel
theorem dX3_looksAt_122 : decode cX3_looksAt 122 = .ok (.iload 5, 2) := by decide +kernel
theorem dX3_looksAt_124 : decode cX3_looksAt 124 = .ok (.iaload, 1) := by decide +kernel
theorem dX3_looksAt_125 : decode cX3_looksAt 125 = .ok (.iload 6, 2) := by decide +kernel
theorem dX3_looksAt_127 : decode cX3_looksAt 127 = .ok (.invokevirtual 84, 3) := by decide +kernel
theorem dX3_looksAt_130 : decode cX3_looksAt 130 = .ok (.if_icmp .gt 7, 3) := by decide +kernel
theorem dX3_looksAt_133 : decode cX3_looksAt 133 = .ok (.iconst 1, 1) := by decide +kernel
theorem dX3_looksAt_134 : decode cX3_looksAt 134 = .ok (.goto 4, 3) := by decide +kernel
theorem dX3_looksAt_137 : decode cX3_looksAt 137 = .ok (.iconst 0, 1) := by decide +kernel
theorem dX3_looksAt_138 : decode cX3_looksAt 138 = .ok (.istore_n 2, 1) := by decide +kernel
theorem dX3_looksAt_139 : decode cX3_looksAt 139 = .ok (.iinc 5 1, 3) := by decide +kernel
theorem dX3_looksAt_142 : decode cX3_looksAt 142 = .ok (.goto (-93), 3) := by decide +kernel
theorem dX3_looksAt_145 : decode cX3_looksAt 145 = .ok (.iinc 3 1, 3) := by decide +kernel
theorem dX3_looksAt_148 : decode cX3_looksAt 148 = .ok (.goto (-142), 3) := by decide +kernel
theorem dX3_looksAt_151 : decode cX3_looksAt 151 = .ok (.aload_n 0, 1) := by decide +kernel
theorem dX3_looksAt_152 : decode cX3_looksAt 152 = .ok (.dup, 1) := by decide +kernel
theorem dX3_looksAt_153 : decode cX3_looksAt 153 = .ok (.getfield 252, 3) := by decide +kernel
theorem dX3_looksAt_156 : decode cX3_looksAt 156 = .ok (.iload_n 2, 1) := by decide +kernel
theorem dX3_looksAt_157 : decode cX3_looksAt 157 = .ok (.ifCond .eq 7, 3) := by decide +kernel
theorem dX3_looksAt_160 : decode cX3_looksAt 160 = .ok (.iconst 1, 1) := by decide +kernel
theorem dX3_looksAt_161 : decode cX3_looksAt 161 = .ok (.goto 4, 3) := by decide +kernel
theorem dX3_looksAt_164 : decode cX3_looksAt 164 = .ok (.iconst 0, 1) := by decide +kernel
theorem dX3_looksAt_165 : decode cX3_looksAt 165 = .ok (.iadd, 1) := by decide +kernel
theorem dX3_looksAt_166 : decode cX3_looksAt 166 = .ok (.putfield 252, 3) := by decide +kernel
theorem dX3_looksAt_169 : decode cX3_looksAt 169 = .ok (.aload_n 0, 1) := by decide +kernel
theorem dX3_looksAt_170 : decode cX3_looksAt 170 = .ok (.getfield 255, 3) := by decide +kernel
theorem dX3_looksAt_173 : decode cX3_looksAt 173 = .ok (.ifCond .eq 26, 3) := by decide +kernel
theorem dX3_looksAt_176 : decode cX3_looksAt 176 = .ok (.iload_n 1, 1) := by decide +kernel
theorem dX3_looksAt_177 : decode cX3_looksAt 177 = .ok (.aload_n 0, 1) := by decide +kernel
theorem dX3_looksAt_178 : decode cX3_looksAt 178 = .ok (.getfield 258, 3) := by decide +kernel
theorem dX3_looksAt_181 : decode cX3_looksAt 181 = .ok (.if_icmp .gt 18, 3) := by decide +kernel
theorem dX3_looksAt_184 : decode cX3_looksAt 184 = .ok (.iload_n 1, 1) := by decide +kernel
theorem dX3_looksAt_185 : decode cX3_looksAt 185 = .ok (.aload_n 0, 1) := by decide +kernel
theorem dX3_looksAt_186 : decode cX3_looksAt 186 = .ok (.getfield 258, 3) := by decide +kernel
theorem dX3_looksAt_189 : decode cX3_looksAt 189 = .ok (.if_icmp .ne 48, 3) := by decide +kernel
theorem dX3_looksAt_192 : decode cX3_looksAt 192 = .ok (.aload_n 0, 1) := by decide +kernel
theorem dX3_looksAt_193 : decode cX3_looksAt 193 = .ok (.invokevirtual 261, 3) := by decide +kernel
theorem dX3_looksAt_196 : decode cX3_looksAt 196 = .ok (.ifCond .eq 41, 3) := by decide +kernel
theorem dX3_looksAt_199 : decode cX3_looksAt 199 = .ok (.aload_n 0, 1) := by decide +kernel
theorem dX3_looksAt_200 : decode cX3_looksAt 200 = .ok (.iconst 1, 1) := by decide +kernel
theorem dX3_looksAt_201 : decode cX3_looksAt 201 = .ok (.putfield 255, 3) := by decide +kernel
theorem dX3_looksAt_204 : decode cX3_looksAt 204 = .ok (.aload_n 0, 1) := by decide +kernel
theorem dX3_looksAt_205 : decode cX3_looksAt 205 = .ok (.iload_n 1, 1) := by decide +kernel
theorem dX3_looksAt_206 : decode cX3_looksAt 206 = .ok (.putfield 258, 3) := by decide +kernel
theorem dX3_looksAt_209 : decode cX3_looksAt 209 = .ok (.iconst 0, 1) := by decide +kernel
theorem dX3_looksAt_210 : decode cX3_looksAt 210 = .ok (.istore_n 3, 1) := by decide +kernel
theorem dX3_looksAt_211 : decode cX3_looksAt 211 = .ok (.iload_n 3, 1) := by decide +kernel
theorem dX3_looksAt_212 : decode cX3_looksAt 212 = .ok (.aload_n 0, 1) := by decide +kernel
theorem dX3_looksAt_213 : decode cX3_looksAt 213 = .ok (.getfield 249, 3) := by decide +kernel
theorem dX3_looksAt_216 : decode cX3_looksAt 216 = .ok (.if_icmp .ge 21, 3) := by decide +kernel
theorem dX3_looksAt_219 : decode cX3_looksAt 219 = .ok (.aload_n 0, 1) := by decide +kernel
theorem dX3_looksAt_220 : decode cX3_looksAt 220 = .ok (.getfield 60, 3) := by decide +kernel
theorem dX3_looksAt_223 : decode cX3_looksAt 223 = .ok (.iload_n 3, 1) := by decide +kernel
theorem dX3_looksAt_224 : decode cX3_looksAt 224 = .ok (.aload_n 0, 1) := by decide +kernel
theorem dX3_looksAt_225 : decode cX3_looksAt 225 = .ok (.getfield 57, 3) := by decide +kernel
theorem dX3_looksAt_228 : decode cX3_looksAt 228 = .ok (.iload_n 3, 1) := by decide +kernel
theorem dX3_looksAt_229 : decode cX3_looksAt 229 = .ok (.iaload, 1) := by decide +kernel
theorem dX3_looksAt_230 : decode cX3_looksAt 230 = .ok (.iastore, 1) := by decide +kernel
theorem dX3_looksAt_231 : decode cX3_looksAt 231 = .ok (.iinc 3 1, 3) := by decide +kernel
theorem dX3_looksAt_234 : decode cX3_looksAt 234 = .ok (.goto (-23), 3) := by decide +kernel
theorem dX3_looksAt_237 : decode cX3_looksAt 237 = .ok (.return_, 1) := by decide +kernel
abbrev cX3_isRowLess : ByteArray := prog_22_method_63_code
def yX3_isRowLess : MethodName := ⟨RX3, "isRowLess", "()Z"⟩
theorem dX3_isRowLess_0 : decode cX3_isRowLess 0 = .ok (.iconst 0, 1) := by decide +kernel
theorem dX3_isRowLess_1 : decode cX3_isRowLess 1 = .ok (.istore_n 1, 1) := by decide +kernel
theorem dX3_isRowLess_2 : decode cX3_isRowLess 2 = .ok (.iload_n 1, 1) := by decide +kernel
theorem dX3_isRowLess_3 : decode cX3_isRowLess 3 = .ok (.aload_n 0, 1) := by decide +kernel
theorem dX3_isRowLess_4 : decode cX3_isRowLess 4 = .ok (.getfield 249, 3) := by decide +kernel
theorem dX3_isRowLess_7 : decode cX3_isRowLess 7 = .ok (.if_icmp .ge 45, 3) := by decide +kernel
theorem dX3_isRowLess_10 : decode cX3_isRowLess 10 = .ok (.aload_n 0, 1) := by decide +kernel
theorem dX3_isRowLess_11 : decode cX3_isRowLess 11 = .ok (.getfield 57, 3) := by decide +kernel
theorem dX3_isRowLess_14 : decode cX3_isRowLess 14 = .ok (.iload_n 1, 1) := by decide +kernel
theorem dX3_isRowLess_15 : decode cX3_isRowLess 15 = .ok (.iaload, 1) := by decide +kernel
theorem dX3_isRowLess_16 : decode cX3_isRowLess 16 = .ok (.aload_n 0, 1) := by decide +kernel
theorem dX3_isRowLess_17 : decode cX3_isRowLess 17 = .ok (.getfield 60, 3) := by decide +kernel
theorem dX3_isRowLess_20 : decode cX3_isRowLess 20 = .ok (.iload_n 1, 1) := by decide +kernel
theorem dX3_isRowLess_21 : decode cX3_isRowLess 21 = .ok (.iaload, 1) := by decide +kernel
theorem dX3_isRowLess_22 : decode cX3_isRowLess 22 = .ok (.if_icmp .eq 24, 3) := by decide +kernel
theorem dX3_isRowLess_25 : decode cX3_isRowLess 25 = .ok (.aload_n 0, 1) := by decide +kernel
theorem dX3_isRowLess_26 : decode cX3_isRowLess 26 = .ok (.getfield 57, 3) := by decide +kernel
theorem dX3_isRowLess_29 : decode cX3_isRowLess 29 = .ok (.iload_n 1, 1) := by decide +kernel
theorem dX3_isRowLess_30 : decode cX3_isRowLess 30 = .ok (.iaload, 1) := by decide +kernel
theorem dX3_isRowLess_31 : decode cX3_isRowLess 31 = .ok (.aload_n 0, 1) := by decide +kernel
theorem dX3_isRowLess_32 : decode cX3_isRowLess 32 = .ok (.getfield 60, 3) := by decide +kernel
theorem dX3_isRowLess_35 : decode cX3_isRowLess 35 = .ok (.iload_n 1, 1) := by decide +kernel
theorem dX3_isRowLess_36 : decode cX3_isRowLess 36 = .ok (.iaload, 1) := by decide +kernel
theorem dX3_isRowLess_37 : decode cX3_isRowLess 37 = .ok (.if_icmp .ge 7, 3) := by decide +kernel
theorem dX3_isRowLess_40 : decode cX3_isRowLess 40 = .ok (.iconst 1, 1) := by decide +kernel
theorem dX3_isRowLess_41 : decode cX3_isRowLess 41 = .ok (.goto 4, 3) := by decide +kernel
theorem dX3_isRowLess_44 : decode cX3_isRowLess 44 = .ok (.iconst 0, 1) := by decide +kernel
theorem dX3_isRowLess_45 : decode cX3_isRowLess 45 = .ok (.ireturn, 1) := by decide +kernel
theorem dX3_isRowLess_46 : decode cX3_isRowLess 46 = .ok (.iinc 1 1, 3) := by decide +kernel
theorem dX3_isRowLess_49 : decode cX3_isRowLess 49 = .ok (.goto (-47), 3) := by decide +kernel
theorem dX3_isRowLess_52 : decode cX3_isRowLess 52 = .ok (.iconst 0, 1) := by decide +kernel
theorem dX3_isRowLess_53 : decode cX3_isRowLess 53 = .ok (.ireturn, 1) := by decide +kernel
abbrev cX3_calm : ByteArray := prog_22_method_68_code
def yX3_calm : MethodName := ⟨RX3, "calm", "(I)I"⟩
theorem dX3_calm_0 : decode cX3_calm 0 = .ok (.aload_n 0, 1) := by decide +kernel
theorem dX3_calm_1 : decode cX3_calm 1 = .ok (.iload_n 1, 1) := by decide +kernel
theorem dX3_calm_2 : decode cX3_calm 2 = .ok (.invokevirtual 271, 3) := by decide +kernel
theorem dX3_calm_5 : decode cX3_calm 5 = .ok (.istore_n 2, 1) := by decide +kernel
theorem dX3_calm_6 : decode cX3_calm 6 = .ok (.iload_n 2, 1) := by decide +kernel
theorem dX3_calm_7 : decode cX3_calm 7 = .ok (.ifCond .eq 5, 3) := by decide +kernel
theorem dX3_calm_10 : decode cX3_calm 10 = .ok (.iload_n 2, 1) := by decide +kernel
theorem dX3_calm_11 : decode cX3_calm 11 = .ok (.ireturn, 1) := by decide +kernel
theorem dX3_calm_12 : decode cX3_calm 12 = .ok (.aload_n 0, 1) := by decide +kernel
theorem dX3_calm_13 : decode cX3_calm 13 = .ok (.invokevirtual 274, 3) := by decide +kernel
theorem dX3_calm_16 : decode cX3_calm 16 = .ok (.aload_n 0, 1) := by decide +kernel
theorem dX3_calm_17 : decode cX3_calm 17 = .ok (.getfield 252, 3) := by decide +kernel
theorem dX3_calm_20 : decode cX3_calm 20 = .ok (.ireturn, 1) := by decide +kernel
abbrev cX3_pairs : ByteArray := prog_22_method_69_code
def yX3_pairs : MethodName := ⟨RX3, "pairs", "()I"⟩
theorem dX3_pairs_0 : decode cX3_pairs 0 = .ok (.iconst 0, 1) := by decide +kernel
theorem dX3_pairs_1 : decode cX3_pairs 1 = .ok (.istore_n 1, 1) := by decide +kernel
theorem dX3_pairs_2 : decode cX3_pairs 2 = .ok (.iconst 0, 1) := by decide +kernel
theorem dX3_pairs_3 : decode cX3_pairs 3 = .ok (.istore_n 2, 1) := by decide +kernel
theorem dX3_pairs_4 : decode cX3_pairs 4 = .ok (.iload_n 2, 1) := by decide +kernel
theorem dX3_pairs_5 : decode cX3_pairs 5 = .ok (.aload_n 0, 1) := by decide +kernel
theorem dX3_pairs_6 : decode cX3_pairs 6 = .ok (.getfield 7, 3) := by decide +kernel
theorem dX3_pairs_9 : decode cX3_pairs 9 = .ok (.iconst 1, 1) := by decide +kernel
theorem dX3_pairs_10 : decode cX3_pairs 10 = .ok (.iaload, 1) := by decide +kernel
theorem dX3_pairs_11 : decode cX3_pairs 11 = .ok (.if_icmp .ge 122, 3) := by decide +kernel
theorem dX3_pairs_14 : decode cX3_pairs 14 = .ok (.iconst 0, 1) := by decide +kernel
theorem dX3_pairs_15 : decode cX3_pairs 15 = .ok (.istore_n 3, 1) := by decide +kernel
theorem dX3_pairs_16 : decode cX3_pairs 16 = .ok (.iload_n 3, 1) := by decide +kernel
theorem dX3_pairs_17 : decode cX3_pairs 17 = .ok (.iload_n 2, 1) := by decide +kernel
theorem dX3_pairs_18 : decode cX3_pairs 18 = .ok (.if_icmp .ge 109, 3) := by decide +kernel
theorem dX3_pairs_21 : decode cX3_pairs 21 = .ok (.aload_n 0, 1) := by decide +kernel
theorem dX3_pairs_22 : decode cX3_pairs 22 = .ok (.iload_n 2, 1) := by decide +kernel
theorem dX3_pairs_23 : decode cX3_pairs 23 = .ok (.invokevirtual 80, 3) := by decide +kernel
theorem dX3_pairs_26 : decode cX3_pairs 26 = .ok (.ifCond .eq 15, 3) := by decide +kernel
theorem dX3_pairs_29 : decode cX3_pairs 29 = .ok (.aload_n 0, 1) := by decide +kernel
theorem dX3_pairs_30 : decode cX3_pairs 30 = .ok (.iload_n 3, 1) := by decide +kernel
theorem dX3_pairs_31 : decode cX3_pairs 31 = .ok (.invokevirtual 80, 3) := by decide +kernel
theorem dX3_pairs_34 : decode cX3_pairs 34 = .ok (.ifCond .eq 7, 3) := by decide +kernel
theorem dX3_pairs_37 : decode cX3_pairs 37 = .ok (.iconst 1, 1) := by decide +kernel
theorem dX3_pairs_38 : decode cX3_pairs 38 = .ok (.goto 4, 3) := by decide +kernel
theorem dX3_pairs_41 : decode cX3_pairs 41 = .ok (.iconst 0, 1) := by decide +kernel
theorem dX3_pairs_42 : decode cX3_pairs 42 = .ok (.istore 4, 2) := by decide +kernel
theorem dX3_pairs_44 : decode cX3_pairs 44 = .ok (.iload_n 1, 1) := by decide +kernel
theorem dX3_pairs_45 : decode cX3_pairs 45 = .ok (.iload 4, 2) := by decide +kernel
theorem dX3_pairs_47 : decode cX3_pairs 47 = .ok (.ifCond .eq 71, 3) := by decide +kernel
theorem dX3_pairs_50 : decode cX3_pairs 50 = .ok (.aload_n 0, 1) := by decide +kernel
theorem dX3_pairs_51 : decode cX3_pairs 51 = .ok (.aload_n 0, 1) := by decide +kernel
theorem dX3_pairs_52 : decode cX3_pairs 52 = .ok (.getfield 7, 3) := by decide +kernel
theorem dX3_pairs_55 : decode cX3_pairs 55 = .ok (.sipush 178, 3) := by decide +kernel
theorem dX3_pairs_58 : decode cX3_pairs 58 = .ok (.iload_n 3, 1) := by decide +kernel
theorem dX3_pairs_59 : decode cX3_pairs 59 = .ok (.iadd, 1) := by decide +kernel
theorem dX3_pairs_60 : decode cX3_pairs 60 = .ok (.iaload, 1) := by decide +kernel
theorem dX3_pairs_61 : decode cX3_pairs 61 = .ok (.aload_n 0, 1) := by decide +kernel
theorem dX3_pairs_62 : decode cX3_pairs 62 = .ok (.getfield 7, 3) := by decide +kernel
theorem dX3_pairs_65 : decode cX3_pairs 65 = .ok (.sipush 130, 3) := by decide +kernel
theorem dX3_pairs_68 : decode cX3_pairs 68 = .ok (.iload_n 2, 1) := by decide +kernel
theorem dX3_pairs_69 : decode cX3_pairs 69 = .ok (.iadd, 1) := by decide +kernel
theorem dX3_pairs_70 : decode cX3_pairs 70 = .ok (.iaload, 1) := by decide +kernel
theorem dX3_pairs_71 : decode cX3_pairs 71 = .ok (.invokevirtual 84, 3) := by decide +kernel
theorem dX3_pairs_74 : decode cX3_pairs 74 = .ok (.aload_n 0, 1) := by decide +kernel
theorem dX3_pairs_75 : decode cX3_pairs 75 = .ok (.iload_n 2, 1) := by decide +kernel
theorem dX3_pairs_76 : decode cX3_pairs 76 = .ok (.invokevirtual 115, 3) := by decide +kernel
theorem dX3_pairs_79 : decode cX3_pairs 79 = .ok (.if_icmp .le 39, 3) := by decide +kernel
theorem dX3_pairs_82 : decode cX3_pairs 82 = .ok (.aload_n 0, 1) := by decide +kernel
theorem dX3_pairs_83 : decode cX3_pairs 83 = .ok (.aload_n 0, 1) := by decide +kernel
theorem dX3_pairs_84 : decode cX3_pairs 84 = .ok (.getfield 7, 3) := by decide +kernel
theorem dX3_pairs_87 : decode cX3_pairs 87 = .ok (.sipush 178, 3) := by decide +kernel
theorem dX3_pairs_90 : decode cX3_pairs 90 = .ok (.iload_n 2, 1) := by decide +kernel
theorem dX3_pairs_91 : decode cX3_pairs 91 = .ok (.iadd, 1) := by decide +kernel
theorem dX3_pairs_92 : decode cX3_pairs 92 = .ok (.iaload, 1) := by decide +kernel
theorem dX3_pairs_93 : decode cX3_pairs 93 = .ok (.aload_n 0, 1) := by decide +kernel
theorem dX3_pairs_94 : decode cX3_pairs 94 = .ok (.getfield 7, 3) := by decide +kernel
theorem dX3_pairs_97 : decode cX3_pairs 97 = .ok (.sipush 130, 3) := by decide +kernel
theorem dX3_pairs_100 : decode cX3_pairs 100 = .ok (.iload_n 3, 1) := by decide +kernel
theorem dX3_pairs_101 : decode cX3_pairs 101 = .ok (.iadd, 1) := by decide +kernel
theorem dX3_pairs_102 : decode cX3_pairs 102 = .ok (.iaload, 1) := by decide +kernel
theorem dX3_pairs_103 : decode cX3_pairs 103 = .ok (.invokevirtual 84, 3) := by decide +kernel
theorem dX3_pairs_106 : decode cX3_pairs 106 = .ok (.aload_n 0, 1) := by decide +kernel
theorem dX3_pairs_107 : decode cX3_pairs 107 = .ok (.iload_n 3, 1) := by decide +kernel
theorem dX3_pairs_108 : decode cX3_pairs 108 = .ok (.invokevirtual 115, 3) := by decide +kernel
theorem dX3_pairs_111 : decode cX3_pairs 111 = .ok (.if_icmp .le 7, 3) := by decide +kernel
theorem dX3_pairs_114 : decode cX3_pairs 114 = .ok (.iconst 1, 1) := by decide +kernel
theorem dX3_pairs_115 : decode cX3_pairs 115 = .ok (.goto 4, 3) := by decide +kernel
theorem dX3_pairs_118 : decode cX3_pairs 118 = .ok (.iconst 0, 1) := by decide +kernel
theorem dX3_pairs_119 : decode cX3_pairs 119 = .ok (.iadd, 1) := by decide +kernel
theorem dX3_pairs_120 : decode cX3_pairs 120 = .ok (.istore_n 1, 1) := by decide +kernel
theorem dX3_pairs_121 : decode cX3_pairs 121 = .ok (.iinc 3 1, 3) := by decide +kernel
theorem dX3_pairs_124 : decode cX3_pairs 124 = .ok (.goto (-108), 3) := by decide +kernel
theorem dX3_pairs_127 : decode cX3_pairs 127 = .ok (.iinc 2 1, 3) := by decide +kernel
theorem dX3_pairs_130 : decode cX3_pairs 130 = .ok (.goto (-126), 3) := by decide +kernel
theorem dX3_pairs_133 : decode cX3_pairs 133 = .ok (.iload_n 1, 1) := by decide +kernel
theorem dX3_pairs_134 : decode cX3_pairs 134 = .ok (.ireturn, 1) := by decide +kernel
abbrev cX3_film : ByteArray := prog_22_method_70_code
def yX3_film : MethodName := ⟨RX3, "film", "(IIIIIII)I"⟩
theorem dX3_film_0 : decode cX3_film 0 = .ok (.iload_n 1, 1) := by decide +kernel
theorem dX3_film_1 : decode cX3_film 1 = .ok (.iconst 0, 1) := by decide +kernel
theorem dX3_film_2 : decode cX3_film 2 = .ok (.iconst 3, 1) := by decide +kernel
theorem dX3_film_3 : decode cX3_film 3 = .ok (.invokestatic 69, 3) := by decide +kernel
theorem dX3_film_6 : decode cX3_film 6 = .ok (.ifCond .ne 5, 3) := by decide +kernel
theorem dX3_film_9 : decode cX3_film 9 = .ok (.iconst (-1), 1) := by decide +kernel
theorem dX3_film_10 : decode cX3_film 10 = .ok (.ireturn, 1) := by decide +kernel
theorem dX3_film_11 : decode cX3_film 11 = .ok (.iload_n 2, 1) := by decide +kernel
theorem dX3_film_12 : decode cX3_film 12 = .ok (.invokestatic 201, 3) := by decide +kernel
theorem dX3_film_15 : decode cX3_film 15 = .ok (.ifCond .eq 44, 3) := by decide +kernel
theorem dX3_film_18 : decode cX3_film 18 = .ok (.iload_n 3, 1) := by decide +kernel
theorem dX3_film_19 : decode cX3_film 19 = .ok (.invokestatic 201, 3) := by decide +kernel
theorem dX3_film_22 : decode cX3_film 22 = .ok (.ifCond .eq 37, 3) := by decide +kernel
theorem dX3_film_25 : decode cX3_film 25 = .ok (.iload 4, 2) := by decide +kernel
theorem dX3_film_27 : decode cX3_film 27 = .ok (.invokestatic 201, 3) := by decide +kernel
theorem dX3_film_30 : decode cX3_film 30 = .ok (.ifCond .eq 29, 3) := by decide +kernel
theorem dX3_film_33 : decode cX3_film 33 = .ok (.iload 5, 2) := by decide +kernel
theorem dX3_film_35 : decode cX3_film 35 = .ok (.invokestatic 201, 3) := by decide +kernel
theorem dX3_film_38 : decode cX3_film 38 = .ok (.ifCond .eq 21, 3) := by decide +kernel
theorem dX3_film_41 : decode cX3_film 41 = .ok (.iload 6, 2) := by decide +kernel
theorem dX3_film_43 : decode cX3_film 43 = .ok (.invokestatic 201, 3) := by decide +kernel
theorem dX3_film_46 : decode cX3_film 46 = .ok (.ifCond .eq 13, 3) := by decide +kernel
theorem dX3_film_49 : decode cX3_film 49 = .ok (.iload 7, 2) := by decide +kernel
theorem dX3_film_51 : decode cX3_film 51 = .ok (.iconst (-1), 1) := by decide +kernel
theorem dX3_film_52 : decode cX3_film 52 = .ok (.iconst 1, 1) := by decide +kernel
theorem dX3_film_53 : decode cX3_film 53 = .ok (.invokestatic 69, 3) := by decide +kernel
theorem dX3_film_56 : decode cX3_film 56 = .ok (.ifCond .ne 6, 3) := by decide +kernel
theorem dX3_film_59 : decode cX3_film 59 = .ok (.bipush (-2), 2) := by decide +kernel
theorem dX3_film_61 : decode cX3_film 61 = .ok (.ireturn, 1) := by decide +kernel
theorem dX3_film_62 : decode cX3_film 62 = .ok (.aload_n 0, 1) := by decide +kernel
theorem dX3_film_63 : decode cX3_film 63 = .ok (.getfield 277, 3) := by decide +kernel
theorem dX3_film_66 : decode cX3_film 66 = .ok (.bipush 40, 2) := by decide +kernel
theorem dX3_film_68 : decode cX3_film 68 = .ok (.if_icmp .ne 6, 3) := by decide +kernel
theorem dX3_film_71 : decode cX3_film 71 = .ok (.bipush (-4), 2) := by decide +kernel
theorem dX3_film_73 : decode cX3_film 73 = .ok (.ireturn, 1) := by decide +kernel
theorem dX3_film_74 : decode cX3_film 74 = .ok (.aload_n 0, 1) := by decide +kernel
theorem dX3_film_75 : decode cX3_film 75 = .ok (.getfield 28, 3) := by decide +kernel
theorem dX3_film_78 : decode cX3_film 78 = .ok (.bipush 7, 2) := by decide +kernel
theorem dX3_film_80 : decode cX3_film 80 = .ok (.aload_n 0, 1) := by decide +kernel
theorem dX3_film_81 : decode cX3_film 81 = .ok (.getfield 277, 3) := by decide +kernel
theorem dX3_film_84 : decode cX3_film 84 = .ok (.imul, 1) := by decide +kernel
theorem dX3_film_85 : decode cX3_film 85 = .ok (.iload_n 1, 1) := by decide +kernel
theorem dX3_film_86 : decode cX3_film 86 = .ok (.iastore, 1) := by decide +kernel
theorem dX3_film_87 : decode cX3_film 87 = .ok (.aload_n 0, 1) := by decide +kernel
theorem dX3_film_88 : decode cX3_film 88 = .ok (.getfield 28, 3) := by decide +kernel
theorem dX3_film_91 : decode cX3_film 91 = .ok (.bipush 7, 2) := by decide +kernel
theorem dX3_film_93 : decode cX3_film 93 = .ok (.aload_n 0, 1) := by decide +kernel
theorem dX3_film_94 : decode cX3_film 94 = .ok (.getfield 277, 3) := by decide +kernel
theorem dX3_film_97 : decode cX3_film 97 = .ok (.imul, 1) := by decide +kernel
theorem dX3_film_98 : decode cX3_film 98 = .ok (.iconst 1, 1) := by decide +kernel
theorem dX3_film_99 : decode cX3_film 99 = .ok (.iadd, 1) := by decide +kernel
theorem dX3_film_100 : decode cX3_film 100 = .ok (.iload_n 2, 1) := by decide +kernel
theorem dX3_film_101 : decode cX3_film 101 = .ok (.iastore, 1) := by decide +kernel
theorem dX3_film_102 : decode cX3_film 102 = .ok (.aload_n 0, 1) := by decide +kernel
theorem dX3_film_103 : decode cX3_film 103 = .ok (.getfield 28, 3) := by decide +kernel
theorem dX3_film_106 : decode cX3_film 106 = .ok (.bipush 7, 2) := by decide +kernel
theorem dX3_film_108 : decode cX3_film 108 = .ok (.aload_n 0, 1) := by decide +kernel
theorem dX3_film_109 : decode cX3_film 109 = .ok (.getfield 277, 3) := by decide +kernel
theorem dX3_film_112 : decode cX3_film 112 = .ok (.imul, 1) := by decide +kernel
theorem dX3_film_113 : decode cX3_film 113 = .ok (.iconst 2, 1) := by decide +kernel
theorem dX3_film_114 : decode cX3_film 114 = .ok (.iadd, 1) := by decide +kernel
theorem dX3_film_115 : decode cX3_film 115 = .ok (.iload_n 3, 1) := by decide +kernel
theorem dX3_film_116 : decode cX3_film 116 = .ok (.iastore, 1) := by decide +kernel
theorem dX3_film_117 : decode cX3_film 117 = .ok (.aload_n 0, 1) := by decide +kernel
theorem dX3_film_118 : decode cX3_film 118 = .ok (.getfield 28, 3) := by decide +kernel
theorem dX3_film_121 : decode cX3_film 121 = .ok (.bipush 7, 2) := by decide +kernel
theorem dX3_film_123 : decode cX3_film 123 = .ok (.aload_n 0, 1) := by decide +kernel
theorem dX3_film_124 : decode cX3_film 124 = .ok (.getfield 277, 3) := by decide +kernel
theorem dX3_film_127 : decode cX3_film 127 = .ok (.imul, 1) := by decide +kernel
theorem dX3_film_128 : decode cX3_film 128 = .ok (.iconst 3, 1) := by decide +kernel
theorem dX3_film_129 : decode cX3_film 129 = .ok (.iadd, 1) := by decide +kernel
theorem dX3_film_130 : decode cX3_film 130 = .ok (.iload 4, 2) := by decide +kernel
theorem dX3_film_132 : decode cX3_film 132 = .ok (.iastore, 1) := by decide +kernel
theorem dX3_film_133 : decode cX3_film 133 = .ok (.aload_n 0, 1) := by decide +kernel
theorem dX3_film_134 : decode cX3_film 134 = .ok (.getfield 28, 3) := by decide +kernel
theorem dX3_film_137 : decode cX3_film 137 = .ok (.bipush 7, 2) := by decide +kernel
theorem dX3_film_139 : decode cX3_film 139 = .ok (.aload_n 0, 1) := by decide +kernel
theorem dX3_film_140 : decode cX3_film 140 = .ok (.getfield 277, 3) := by decide +kernel
theorem dX3_film_143 : decode cX3_film 143 = .ok (.imul, 1) := by decide +kernel
theorem dX3_film_144 : decode cX3_film 144 = .ok (.iconst 4, 1) := by decide +kernel
theorem dX3_film_145 : decode cX3_film 145 = .ok (.iadd, 1) := by decide +kernel
theorem dX3_film_146 : decode cX3_film 146 = .ok (.iload 5, 2) := by decide +kernel
theorem dX3_film_148 : decode cX3_film 148 = .ok (.iastore, 1) := by decide +kernel
theorem dX3_film_149 : decode cX3_film 149 = .ok (.aload_n 0, 1) := by decide +kernel
theorem dX3_film_150 : decode cX3_film 150 = .ok (.getfield 28, 3) := by decide +kernel
theorem dX3_film_153 : decode cX3_film 153 = .ok (.bipush 7, 2) := by decide +kernel
theorem dX3_film_155 : decode cX3_film 155 = .ok (.aload_n 0, 1) := by decide +kernel
theorem dX3_film_156 : decode cX3_film 156 = .ok (.getfield 277, 3) := by decide +kernel
theorem dX3_film_159 : decode cX3_film 159 = .ok (.imul, 1) := by decide +kernel
theorem dX3_film_160 : decode cX3_film 160 = .ok (.iconst 5, 1) := by decide +kernel
theorem dX3_film_161 : decode cX3_film 161 = .ok (.iadd, 1) := by decide +kernel
theorem dX3_film_162 : decode cX3_film 162 = .ok (.iload 6, 2) := by decide +kernel
theorem dX3_film_164 : decode cX3_film 164 = .ok (.iastore, 1) := by decide +kernel
theorem dX3_film_165 : decode cX3_film 165 = .ok (.aload_n 0, 1) := by decide +kernel
theorem dX3_film_166 : decode cX3_film 166 = .ok (.getfield 28, 3) := by decide +kernel
theorem dX3_film_169 : decode cX3_film 169 = .ok (.bipush 7, 2) := by decide +kernel
theorem dX3_film_171 : decode cX3_film 171 = .ok (.aload_n 0, 1) := by decide +kernel
theorem dX3_film_172 : decode cX3_film 172 = .ok (.getfield 277, 3) := by decide +kernel
theorem dX3_film_175 : decode cX3_film 175 = .ok (.imul, 1) := by decide +kernel
theorem dX3_film_176 : decode cX3_film 176 = .ok (.bipush 6, 2) := by decide +kernel
theorem dX3_film_178 : decode cX3_film 178 = .ok (.iadd, 1) := by decide +kernel
theorem dX3_film_179 : decode cX3_film 179 = .ok (.iload 7, 2) := by decide +kernel
theorem dX3_film_181 : decode cX3_film 181 = .ok (.iastore, 1) := by decide +kernel
theorem dX3_film_182 : decode cX3_film 182 = .ok (.aload_n 0, 1) := by decide +kernel
theorem dX3_film_183 : decode cX3_film 183 = .ok (.dup, 1) := by decide +kernel
theorem dX3_film_184 : decode cX3_film 184 = .ok (.getfield 277, 3) := by decide +kernel
theorem dX3_film_187 : decode cX3_film 187 = .ok (.iconst 1, 1) := by decide +kernel
theorem dX3_film_188 : decode cX3_film 188 = .ok (.iadd, 1) := by decide +kernel
theorem dX3_film_189 : decode cX3_film 189 = .ok (.putfield 277, 3) := by decide +kernel
theorem dX3_film_192 : decode cX3_film 192 = .ok (.aload_n 0, 1) := by decide +kernel
theorem dX3_film_193 : decode cX3_film 193 = .ok (.getfield 277, 3) := by decide +kernel
theorem dX3_film_196 : decode cX3_film 196 = .ok (.ireturn, 1) := by decide +kernel
abbrev cX3_reads : ByteArray := prog_22_method_72_code
def yX3_reads : MethodName := ⟨RX3, "reads", "(II)I"⟩
theorem dX3_reads_0 : decode cX3_reads 0 = .ok (.aload_n 0, 1) := by decide +kernel
theorem dX3_reads_1 : decode cX3_reads 1 = .ok (.iload_n 1, 1) := by decide +kernel
theorem dX3_reads_2 : decode cX3_reads 2 = .ok (.invokevirtual 101, 3) := by decide +kernel
theorem dX3_reads_5 : decode cX3_reads 5 = .ok (.ifCond .eq 21, 3) := by decide +kernel
theorem dX3_reads_8 : decode cX3_reads 8 = .ok (.iload_n 2, 1) := by decide +kernel
theorem dX3_reads_9 : decode cX3_reads 9 = .ok (.iconst 0, 1) := by decide +kernel
theorem dX3_reads_10 : decode cX3_reads 10 = .ok (.iconst 1, 1) := by decide +kernel
theorem dX3_reads_11 : decode cX3_reads 11 = .ok (.invokestatic 69, 3) := by decide +kernel
theorem dX3_reads_14 : decode cX3_reads 14 = .ok (.ifCond .eq 12, 3) := by decide +kernel
theorem dX3_reads_17 : decode cX3_reads 17 = .ok (.aload_n 0, 1) := by decide +kernel
theorem dX3_reads_18 : decode cX3_reads 18 = .ok (.iload_n 1, 1) := by decide +kernel
theorem dX3_reads_19 : decode cX3_reads 19 = .ok (.iload_n 2, 1) := by decide +kernel
theorem dX3_reads_20 : decode cX3_reads 20 = .ok (.invokevirtual 280, 3) := by decide +kernel
theorem dX3_reads_23 : decode cX3_reads 23 = .ok (.goto 4, 3) := by decide +kernel
theorem dX3_reads_26 : decode cX3_reads 26 = .ok (.iconst (-1), 1) := by decide +kernel
theorem dX3_reads_27 : decode cX3_reads 27 = .ok (.ireturn, 1) := by decide +kernel
abbrev cX3_agreeing : ByteArray := prog_22_method_71_code
def yX3_agreeing : MethodName := ⟨RX3, "agreeing", "(II)I"⟩
theorem dX3_agreeing_0 : decode cX3_agreeing 0 = .ok (.iconst 0, 1) := by decide +kernel
theorem dX3_agreeing_1 : decode cX3_agreeing 1 = .ok (.istore_n 3, 1) := by decide +kernel
theorem dX3_agreeing_2 : decode cX3_agreeing 2 = .ok (.iconst 0, 1) := by decide +kernel
theorem dX3_agreeing_3 : decode cX3_agreeing 3 = .ok (.istore 4, 2) := by decide +kernel
theorem dX3_agreeing_5 : decode cX3_agreeing 5 = .ok (.iload 4, 2) := by decide +kernel
theorem dX3_agreeing_7 : decode cX3_agreeing 7 = .ok (.bipush 7, 2) := by decide +kernel
theorem dX3_agreeing_9 : decode cX3_agreeing 9 = .ok (.aload_n 0, 1) := by decide +kernel
theorem dX3_agreeing_10 : decode cX3_agreeing 10 = .ok (.getfield 277, 3) := by decide +kernel
theorem dX3_agreeing_13 : decode cX3_agreeing 13 = .ok (.imul, 1) := by decide +kernel
theorem dX3_agreeing_14 : decode cX3_agreeing 14 = .ok (.if_icmp .ge 135, 3) := by decide +kernel
theorem dX3_agreeing_17 : decode cX3_agreeing 17 = .ok (.aload_n 0, 1) := by decide +kernel
theorem dX3_agreeing_18 : decode cX3_agreeing 18 = .ok (.getfield 28, 3) := by decide +kernel
theorem dX3_agreeing_21 : decode cX3_agreeing 21 = .ok (.iload 4, 2) := by decide +kernel
theorem dX3_agreeing_23 : decode cX3_agreeing 23 = .ok (.bipush 6, 2) := by decide +kernel
theorem dX3_agreeing_25 : decode cX3_agreeing 25 = .ok (.iadd, 1) := by decide +kernel
theorem dX3_agreeing_26 : decode cX3_agreeing 26 = .ok (.iaload, 1) := by decide +kernel
theorem dX3_agreeing_27 : decode cX3_agreeing 27 = .ok (.iconst (-1), 1) := by decide +kernel
theorem dX3_agreeing_28 : decode cX3_agreeing 28 = .ok (.if_icmp .eq 115, 3) := by decide +kernel
theorem dX3_agreeing_31 : decode cX3_agreeing 31 = .ok (.aload_n 0, 1) := by decide +kernel
theorem dX3_agreeing_32 : decode cX3_agreeing 32 = .ok (.iload_n 1, 1) := by decide +kernel
theorem dX3_agreeing_33 : decode cX3_agreeing 33 = .ok (.aload_n 0, 1) := by decide +kernel
theorem dX3_agreeing_34 : decode cX3_agreeing 34 = .ok (.getfield 28, 3) := by decide +kernel
theorem dX3_agreeing_37 : decode cX3_agreeing 37 = .ok (.iload 4, 2) := by decide +kernel
theorem dX3_agreeing_39 : decode cX3_agreeing 39 = .ok (.iaload, 1) := by decide +kernel
theorem dX3_agreeing_40 : decode cX3_agreeing 40 = .ok (.aload_n 0, 1) := by decide +kernel
theorem dX3_agreeing_41 : decode cX3_agreeing 41 = .ok (.getfield 28, 3) := by decide +kernel
theorem dX3_agreeing_44 : decode cX3_agreeing 44 = .ok (.iload 4, 2) := by decide +kernel
theorem dX3_agreeing_46 : decode cX3_agreeing 46 = .ok (.iconst 1, 1) := by decide +kernel
theorem dX3_agreeing_47 : decode cX3_agreeing 47 = .ok (.iadd, 1) := by decide +kernel
theorem dX3_agreeing_48 : decode cX3_agreeing 48 = .ok (.iaload, 1) := by decide +kernel
theorem dX3_agreeing_49 : decode cX3_agreeing 49 = .ok (.aload_n 0, 1) := by decide +kernel
theorem dX3_agreeing_50 : decode cX3_agreeing 50 = .ok (.getfield 28, 3) := by decide +kernel
theorem dX3_agreeing_53 : decode cX3_agreeing 53 = .ok (.iload 4, 2) := by decide +kernel
theorem dX3_agreeing_55 : decode cX3_agreeing 55 = .ok (.iconst 2, 1) := by decide +kernel
theorem dX3_agreeing_56 : decode cX3_agreeing 56 = .ok (.iadd, 1) := by decide +kernel
theorem dX3_agreeing_57 : decode cX3_agreeing 57 = .ok (.iaload, 1) := by decide +kernel
theorem dX3_agreeing_58 : decode cX3_agreeing 58 = .ok (.aload_n 0, 1) := by decide +kernel
theorem dX3_agreeing_59 : decode cX3_agreeing 59 = .ok (.getfield 28, 3) := by decide +kernel
theorem dX3_agreeing_62 : decode cX3_agreeing 62 = .ok (.iload 4, 2) := by decide +kernel
theorem dX3_agreeing_64 : decode cX3_agreeing 64 = .ok (.iconst 3, 1) := by decide +kernel
theorem dX3_agreeing_65 : decode cX3_agreeing 65 = .ok (.iadd, 1) := by decide +kernel
theorem dX3_agreeing_66 : decode cX3_agreeing 66 = .ok (.iaload, 1) := by decide +kernel
theorem dX3_agreeing_67 : decode cX3_agreeing 67 = .ok (.aload_n 0, 1) := by decide +kernel
theorem dX3_agreeing_68 : decode cX3_agreeing 68 = .ok (.getfield 28, 3) := by decide +kernel
theorem dX3_agreeing_71 : decode cX3_agreeing 71 = .ok (.iload 4, 2) := by decide +kernel
theorem dX3_agreeing_73 : decode cX3_agreeing 73 = .ok (.iconst 4, 1) := by decide +kernel
theorem dX3_agreeing_74 : decode cX3_agreeing 74 = .ok (.iadd, 1) := by decide +kernel
theorem dX3_agreeing_75 : decode cX3_agreeing 75 = .ok (.iaload, 1) := by decide +kernel
theorem dX3_agreeing_76 : decode cX3_agreeing 76 = .ok (.aload_n 0, 1) := by decide +kernel
theorem dX3_agreeing_77 : decode cX3_agreeing 77 = .ok (.getfield 28, 3) := by decide +kernel
theorem dX3_agreeing_80 : decode cX3_agreeing 80 = .ok (.iload 4, 2) := by decide +kernel
theorem dX3_agreeing_82 : decode cX3_agreeing 82 = .ok (.iconst 5, 1) := by decide +kernel
theorem dX3_agreeing_83 : decode cX3_agreeing 83 = .ok (.iadd, 1) := by decide +kernel
theorem dX3_agreeing_84 : decode cX3_agreeing 84 = .ok (.iaload, 1) := by decide +kernel
theorem dX3_agreeing_85 : decode cX3_agreeing 85 = .ok (.invokevirtual 204, 3) := by decide +kernel
theorem dX3_agreeing_88 : decode cX3_agreeing 88 = .ok (.istore 5, 2) := by decide +kernel
theorem dX3_agreeing_90 : decode cX3_agreeing 90 = .ok (.iload 5, 2) := by decide +kernel
theorem dX3_agreeing_92 : decode cX3_agreeing 92 = .ok (.aload_n 0, 1) := by decide +kernel
theorem dX3_agreeing_93 : decode cX3_agreeing 93 = .ok (.getfield 28, 3) := by decide +kernel
theorem dX3_agreeing_96 : decode cX3_agreeing 96 = .ok (.iload 4, 2) := by decide +kernel
theorem dX3_agreeing_98 : decode cX3_agreeing 98 = .ok (.bipush 6, 2) := by decide +kernel
theorem dX3_agreeing_100 : decode cX3_agreeing 100 = .ok (.iadd, 1) := by decide +kernel
theorem dX3_agreeing_101 : decode cX3_agreeing 101 = .ok (.iaload, 1) := by decide +kernel
theorem dX3_agreeing_102 : decode cX3_agreeing 102 = .ok (.iconst 1, 1) := by decide +kernel
theorem dX3_agreeing_103 : decode cX3_agreeing 103 = .ok (.if_icmp .ne 7, 3) := by decide +kernel
theorem dX3_agreeing_106 : decode cX3_agreeing 106 = .ok (.iconst 1, 1) := by decide +kernel
theorem dX3_agreeing_107 : decode cX3_agreeing 107 = .ok (.goto 4, 3) := by decide +kernel
theorem dX3_agreeing_110 : decode cX3_agreeing 110 = .ok (.iconst 0, 1) := by decide +kernel
theorem dX3_agreeing_111 : decode cX3_agreeing 111 = .ok (.if_icmp .ne 7, 3) := by decide +kernel
theorem dX3_agreeing_114 : decode cX3_agreeing 114 = .ok (.iconst 1, 1) := by decide +kernel
theorem dX3_agreeing_115 : decode cX3_agreeing 115 = .ok (.goto 4, 3) := by decide +kernel
theorem dX3_agreeing_118 : decode cX3_agreeing 118 = .ok (.iconst 0, 1) := by decide +kernel
theorem dX3_agreeing_119 : decode cX3_agreeing 119 = .ok (.istore 6, 2) := by decide +kernel
theorem dX3_agreeing_121 : decode cX3_agreeing 121 = .ok (.iload_n 3, 1) := by decide +kernel
theorem dX3_agreeing_122 : decode cX3_agreeing 122 = .ok (.iload 6, 2) := by decide +kernel
theorem dX3_agreeing_124 : decode cX3_agreeing 124 = .ok (.iload_n 2, 1) := by decide +kernel
theorem dX3_agreeing_125 : decode cX3_agreeing 125 = .ok (.ifCond .ne 7, 3) := by decide +kernel
theorem dX3_agreeing_128 : decode cX3_agreeing 128 = .ok (.iconst 1, 1) := by decide +kernel
theorem dX3_agreeing_129 : decode cX3_agreeing 129 = .ok (.goto 4, 3) := by decide +kernel
theorem dX3_agreeing_132 : decode cX3_agreeing 132 = .ok (.iconst 0, 1) := by decide +kernel
theorem dX3_agreeing_133 : decode cX3_agreeing 133 = .ok (.if_icmp .ne 7, 3) := by decide +kernel
theorem dX3_agreeing_136 : decode cX3_agreeing 136 = .ok (.iconst 1, 1) := by decide +kernel
theorem dX3_agreeing_137 : decode cX3_agreeing 137 = .ok (.goto 4, 3) := by decide +kernel
theorem dX3_agreeing_140 : decode cX3_agreeing 140 = .ok (.iconst 0, 1) := by decide +kernel
theorem dX3_agreeing_141 : decode cX3_agreeing 141 = .ok (.iadd, 1) := by decide +kernel
theorem dX3_agreeing_142 : decode cX3_agreeing 142 = .ok (.istore_n 3, 1) := by decide +kernel
theorem dX3_agreeing_143 : decode cX3_agreeing 143 = .ok (.iinc 4 7, 3) := by decide +kernel
theorem dX3_agreeing_146 : decode cX3_agreeing 146 = .ok (.goto (-141), 3) := by decide +kernel
theorem dX3_agreeing_149 : decode cX3_agreeing 149 = .ok (.iload_n 3, 1) := by decide +kernel
theorem dX3_agreeing_150 : decode cX3_agreeing 150 = .ok (.ireturn, 1) := by decide +kernel
abbrev cX3_sure : ByteArray := prog_22_method_73_code
def yX3_sure : MethodName := ⟨RX3, "sure", "()I"⟩
theorem dX3_sure_0 : decode cX3_sure 0 = .ok (.iconst 0, 1) := by decide +kernel
theorem dX3_sure_1 : decode cX3_sure 1 = .ok (.istore_n 1, 1) := by decide +kernel
theorem dX3_sure_2 : decode cX3_sure 2 = .ok (.iconst 0, 1) := by decide +kernel
theorem dX3_sure_3 : decode cX3_sure 3 = .ok (.istore_n 2, 1) := by decide +kernel
theorem dX3_sure_4 : decode cX3_sure 4 = .ok (.iload_n 2, 1) := by decide +kernel
theorem dX3_sure_5 : decode cX3_sure 5 = .ok (.aload_n 0, 1) := by decide +kernel
theorem dX3_sure_6 : decode cX3_sure 6 = .ok (.getfield 73, 3) := by decide +kernel
theorem dX3_sure_9 : decode cX3_sure 9 = .ok (.if_icmp .ge 28, 3) := by decide +kernel
theorem dX3_sure_12 : decode cX3_sure 12 = .ok (.iload_n 1, 1) := by decide +kernel
theorem dX3_sure_13 : decode cX3_sure 13 = .ok (.aload_n 0, 1) := by decide +kernel
theorem dX3_sure_14 : decode cX3_sure 14 = .ok (.iload_n 2, 1) := by decide +kernel
theorem dX3_sure_15 : decode cX3_sure 15 = .ok (.iconst 1, 1) := by decide +kernel
theorem dX3_sure_16 : decode cX3_sure 16 = .ok (.invokevirtual 280, 3) := by decide +kernel
theorem dX3_sure_19 : decode cX3_sure 19 = .ok (.ifCond .ne 9, 3) := by decide +kernel
theorem dX3_sure_22 : decode cX3_sure 22 = .ok (.iconst 1, 1) := by decide +kernel
theorem dX3_sure_23 : decode cX3_sure 23 = .ok (.iload_n 2, 1) := by decide +kernel
theorem dX3_sure_24 : decode cX3_sure 24 = .ok (.ishl, 1) := by decide +kernel
theorem dX3_sure_25 : decode cX3_sure 25 = .ok (.goto 4, 3) := by decide +kernel
theorem dX3_sure_28 : decode cX3_sure 28 = .ok (.iconst 0, 1) := by decide +kernel
theorem dX3_sure_29 : decode cX3_sure 29 = .ok (.ior, 1) := by decide +kernel
theorem dX3_sure_30 : decode cX3_sure 30 = .ok (.istore_n 1, 1) := by decide +kernel
theorem dX3_sure_31 : decode cX3_sure 31 = .ok (.iinc 2 1, 3) := by decide +kernel
theorem dX3_sure_34 : decode cX3_sure 34 = .ok (.goto (-30), 3) := by decide +kernel
theorem dX3_sure_37 : decode cX3_sure 37 = .ok (.iload_n 1, 1) := by decide +kernel
theorem dX3_sure_38 : decode cX3_sure 38 = .ok (.ireturn, 1) := by decide +kernel
abbrev cX3_mend : ByteArray := prog_22_method_76_code
def yX3_mend : MethodName := ⟨RX3, "mend", "(IIII)I"⟩
theorem dX3_mend_0 : decode cX3_mend 0 = .ok (.aload_n 0, 1) := by decide +kernel
theorem dX3_mend_1 : decode cX3_mend 1 = .ok (.iload_n 1, 1) := by decide +kernel
theorem dX3_mend_2 : decode cX3_mend 2 = .ok (.invokevirtual 101, 3) := by decide +kernel
theorem dX3_mend_5 : decode cX3_mend 5 = .ok (.ifCond .eq 13, 3) := by decide +kernel
theorem dX3_mend_8 : decode cX3_mend 8 = .ok (.iload 4, 2) := by decide +kernel
theorem dX3_mend_10 : decode cX3_mend 10 = .ok (.iconst 0, 1) := by decide +kernel
theorem dX3_mend_11 : decode cX3_mend 11 = .ok (.iconst 1, 1) := by decide +kernel
theorem dX3_mend_12 : decode cX3_mend 12 = .ok (.invokestatic 69, 3) := by decide +kernel
theorem dX3_mend_15 : decode cX3_mend 15 = .ok (.ifCond .ne 5, 3) := by decide +kernel
theorem dX3_mend_18 : decode cX3_mend 18 = .ok (.iconst (-1), 1) := by decide +kernel
theorem dX3_mend_19 : decode cX3_mend 19 = .ok (.ireturn, 1) := by decide +kernel
theorem dX3_mend_20 : decode cX3_mend 20 = .ok (.iload_n 2, 1) := by decide +kernel
theorem dX3_mend_21 : decode cX3_mend 21 = .ok (.iconst 1, 1) := by decide +kernel
theorem dX3_mend_22 : decode cX3_mend 22 = .ok (.bipush 10, 2) := by decide +kernel
theorem dX3_mend_24 : decode cX3_mend 24 = .ok (.invokestatic 69, 3) := by decide +kernel
theorem dX3_mend_27 : decode cX3_mend 27 = .ok (.ifCond .eq 16, 3) := by decide +kernel
theorem dX3_mend_30 : decode cX3_mend 30 = .ok (.iload_n 3, 1) := by decide +kernel
theorem dX3_mend_31 : decode cX3_mend 31 = .ok (.sipush (-9999), 3) := by decide +kernel
theorem dX3_mend_34 : decode cX3_mend 34 = .ok (.sipush 9999, 3) := by decide +kernel
theorem dX3_mend_37 : decode cX3_mend 37 = .ok (.invokestatic 69, 3) := by decide +kernel
theorem dX3_mend_40 : decode cX3_mend 40 = .ok (.ifCond .ne 6, 3) := by decide +kernel
theorem dX3_mend_43 : decode cX3_mend 43 = .ok (.bipush (-2), 2) := by decide +kernel
theorem dX3_mend_45 : decode cX3_mend 45 = .ok (.ireturn, 1) := by decide +kernel
theorem dX3_mend_46 : decode cX3_mend 46 = .ok (.aload_n 0, 1) := by decide +kernel
theorem dX3_mend_47 : decode cX3_mend 47 = .ok (.iconst (-1), 1) := by decide +kernel
theorem dX3_mend_48 : decode cX3_mend 48 = .ok (.iconst 0, 1) := by decide +kernel
theorem dX3_mend_49 : decode cX3_mend 49 = .ok (.iconst 0, 1) := by decide +kernel
theorem dX3_mend_50 : decode cX3_mend 50 = .ok (.iload_n 2, 1) := by decide +kernel
theorem dX3_mend_51 : decode cX3_mend 51 = .ok (.invokevirtual 286, 3) := by decide +kernel
theorem dX3_mend_54 : decode cX3_mend 54 = .ok (.iload_n 3, 1) := by decide +kernel
theorem dX3_mend_55 : decode cX3_mend 55 = .ok (.if_icmp .lt 15, 3) := by decide +kernel
theorem dX3_mend_58 : decode cX3_mend 58 = .ok (.iload 4, 2) := by decide +kernel
theorem dX3_mend_60 : decode cX3_mend 60 = .ok (.ifCond .ne 7, 3) := by decide +kernel
theorem dX3_mend_63 : decode cX3_mend 63 = .ok (.iconst 0, 1) := by decide +kernel
theorem dX3_mend_64 : decode cX3_mend 64 = .ok (.goto 5, 3) := by decide +kernel
theorem dX3_mend_67 : decode cX3_mend 67 = .ok (.bipush (-5), 2) := by decide +kernel
theorem dX3_mend_69 : decode cX3_mend 69 = .ok (.ireturn, 1) := by decide +kernel
theorem dX3_mend_70 : decode cX3_mend 70 = .ok (.iconst 1, 1) := by decide +kernel
theorem dX3_mend_71 : decode cX3_mend 71 = .ok (.istore 5, 2) := by decide +kernel
theorem dX3_mend_73 : decode cX3_mend 73 = .ok (.iload 5, 2) := by decide +kernel
theorem dX3_mend_75 : decode cX3_mend 75 = .ok (.iconst 5, 1) := by decide +kernel
theorem dX3_mend_76 : decode cX3_mend 76 = .ok (.if_icmp .gt 100, 3) := by decide +kernel
theorem dX3_mend_79 : decode cX3_mend 79 = .ok (.iconst 0, 1) := by decide +kernel
theorem dX3_mend_80 : decode cX3_mend 80 = .ok (.istore 6, 2) := by decide +kernel
theorem dX3_mend_82 : decode cX3_mend 82 = .ok (.aload_n 0, 1) := by decide +kernel
theorem dX3_mend_83 : decode cX3_mend 83 = .ok (.iload_n 1, 1) := by decide +kernel
theorem dX3_mend_84 : decode cX3_mend 84 = .ok (.iload 6, 2) := by decide +kernel
theorem dX3_mend_86 : decode cX3_mend 86 = .ok (.invokevirtual 289, 3) := by decide +kernel
theorem dX3_mend_89 : decode cX3_mend 89 = .ok (.iconst (-1), 1) := by decide +kernel
theorem dX3_mend_90 : decode cX3_mend 90 = .ok (.if_icmp .eq 80, 3) := by decide +kernel
theorem dX3_mend_93 : decode cX3_mend 93 = .ok (.iconst (-1), 1) := by decide +kernel
theorem dX3_mend_94 : decode cX3_mend 94 = .ok (.istore 7, 2) := by decide +kernel
theorem dX3_mend_96 : decode cX3_mend 96 = .ok (.iload 7, 2) := by decide +kernel
theorem dX3_mend_98 : decode cX3_mend 98 = .ok (.iconst 2, 1) := by decide +kernel
theorem dX3_mend_99 : decode cX3_mend 99 = .ok (.if_icmp .ge 65, 3) := by decide +kernel
theorem dX3_mend_102 : decode cX3_mend 102 = .ok (.aload_n 0, 1) := by decide +kernel
theorem dX3_mend_103 : decode cX3_mend 103 = .ok (.iload_n 1, 1) := by decide +kernel
theorem dX3_mend_104 : decode cX3_mend 104 = .ok (.iload 6, 2) := by decide +kernel
theorem dX3_mend_106 : decode cX3_mend 106 = .ok (.invokevirtual 289, 3) := by decide +kernel
theorem dX3_mend_109 : decode cX3_mend 109 = .ok (.iload 7, 2) := by decide +kernel
theorem dX3_mend_111 : decode cX3_mend 111 = .ok (.iload 5, 2) := by decide +kernel
theorem dX3_mend_113 : decode cX3_mend 113 = .ok (.imul, 1) := by decide +kernel
theorem dX3_mend_114 : decode cX3_mend 114 = .ok (.iadd, 1) := by decide +kernel
theorem dX3_mend_115 : decode cX3_mend 115 = .ok (.invokestatic 201, 3) := by decide +kernel
theorem dX3_mend_118 : decode cX3_mend 118 = .ok (.istore 8, 2) := by decide +kernel
theorem dX3_mend_120 : decode cX3_mend 120 = .ok (.iload 8, 2) := by decide +kernel
theorem dX3_mend_122 : decode cX3_mend 122 = .ok (.ifCond .eq 36, 3) := by decide +kernel
theorem dX3_mend_125 : decode cX3_mend 125 = .ok (.aload_n 0, 1) := by decide +kernel
theorem dX3_mend_126 : decode cX3_mend 126 = .ok (.iload_n 1, 1) := by decide +kernel
theorem dX3_mend_127 : decode cX3_mend 127 = .ok (.iload 6, 2) := by decide +kernel
theorem dX3_mend_129 : decode cX3_mend 129 = .ok (.iload 7, 2) := by decide +kernel
theorem dX3_mend_131 : decode cX3_mend 131 = .ok (.iload 5, 2) := by decide +kernel
theorem dX3_mend_133 : decode cX3_mend 133 = .ok (.imul, 1) := by decide +kernel
theorem dX3_mend_134 : decode cX3_mend 134 = .ok (.iload_n 2, 1) := by decide +kernel
theorem dX3_mend_135 : decode cX3_mend 135 = .ok (.invokevirtual 286, 3) := by decide +kernel
theorem dX3_mend_138 : decode cX3_mend 138 = .ok (.iload_n 3, 1) := by decide +kernel
theorem dX3_mend_139 : decode cX3_mend 139 = .ok (.if_icmp .lt 19, 3) := by decide +kernel
