set_option maxRecDepth 100000
/-! ShellBeachModel -/
def RX3 : String := "ShellBeachModel"
def TX3 : u_T := fun k => match k with
  | 0 => ("ShellBeachModel", "thrown", "I", false)
  | 1 => ("ShellBeachModel", "s", "[I", true)
  | 2 => ("ShellBeachModel", "image", "[I", true)
  | 3 => ("ShellBeachModel", "kept", "[I", true)
  | 4 => ("ShellBeachModel", "hasImage", "Z", false)
  | 5 => ("ShellBeachModel", "habits", "I", false)
  | 6 => ("ShellBeachModel", "films", "I", false)
  | 7 => ("ShellBeachModel", "taped", "I", false)
  | 8 => ("ShellBeachModel", "tape", "[I", true)
  | 9 => ("ShellBeachModel", "texts", "[I", true)
  | 10 => ("ShellBeachModel", "longs", "[I", true)
  | 11 => ("ShellBeachModel", "film", "[I", true)
  | 12 => ("ShellBeachModel", "act", "I", false)
  | 13 => ("ShellBeachModel", "spot", "I", false)
  | 14 => ("ShellBeachModel", "isWrong", "Z", false)
  | 15 => ("ShellBeachModel", "open", "I", false)
  | 16 => ("ShellBeachModel", "stands", "[I", true)
  | 17 => ("ShellBeachModel", "steps", "[I", true)
  | 18 => ("ShellBeachModel", "stepMany", "[I", true)
  | 19 => ("ShellBeachModel", "truths", "[Z", true)
  | 20 => ("ShellBeachModel", "changed", "I", false)
  | 21 => ("ShellBeachModel", "change", "I", false)
  | 22 => ("ShellBeachModel", "changedIn", "I", false)
  | 23 => ("ShellBeachModel", "moved", "[I", true)
  | 24 => ("ShellBeachModel", "moves", "I", false)
  | 25 => ("ShellBeachModel", "gainedAll", "I", false)
  | 26 => ("ShellBeachModel", "leftShell", "I", false)
  | 27 => ("ShellBeachModel", "crabs", "[I", true)
  | 28 => ("ShellBeachModel", "shells", "[I", true)
  | 29 => ("ShellBeachModel", "bestShells", "[I", true)
  | 30 => ("ShellBeachModel", "told", "I", false)
  | 31 => ("ShellBeachModel", "bestFit", "I", false)
  | 32 => ("ShellBeachModel", "hasBest", "Z", false)
  | 33 => ("ShellBeachModel", "calms", "I", false)
  | 34 => ("ShellBeachModel", "bodies", "[I", true)
  | 35 => ("ShellBeachModel", "ran", "I", false)
  | 36 => ("ShellBeachModel", "kind", "I", false)
  | 37 => ("ShellBeachModel", "who", "I", false)
  | _ => ("ShellBeachModel", "sizeNow", "I", false)
def tyX3 : Nat → FieldType := fun k => match k with
  | 0 => .int
  | 1 => .array .int
  | 2 => .array .int
  | 3 => .array .int
  | 4 => .boolean
  | 5 => .int
  | 6 => .int
  | 7 => .int
  | 8 => .array .int
  | 9 => .array .int
  | 10 => .array .int
  | 11 => .array .int
  | 12 => .int
  | 13 => .int
  | 14 => .boolean
  | 15 => .int
  | 16 => .array .int
  | 17 => .array .int
  | 18 => .array .int
  | 19 => .array .boolean
  | 20 => .int
  | 21 => .int
  | 22 => .int
  | 23 => .array .int
  | 24 => .int
  | 25 => .int
  | 26 => .int
  | 27 => .array .int
  | 28 => .array .int
  | 29 => .array .int
  | 30 => .int
  | 31 => .int
  | 32 => .boolean
  | 33 => .int
  | 34 => .array .int
  | 35 => .int
  | 36 => .int
  | 37 => .int
  | _ => .int
abbrev wsX30 : List Cond := u_ws RX3 TX3 39
theorem nmX3 : ∀ a, a < 39 → ∀ b, b < 39 → a ≠ b → (TX3 a).2.1 ≠ (TX3 b).2.1 := by decide +kernel
theorem tyX3_ok : ∀ k, k < 39 → parseFieldDescriptor (TX3 k).2.2.1 = some (tyX3 k) := by decide +kernel
abbrev cX3_init : ByteArray := prog_22_method_1_code
def yX3_init : MethodName := ⟨RX3, "<init>", "()V"⟩
theorem dX3_init_0 : decode cX3_init 0 = .ok (.aload_n 0, 1) := by decide +kernel
theorem dX3_init_1 : decode cX3_init 1 = .ok (.invokespecial 1, 3) := by decide +kernel
theorem dX3_init_4 : decode cX3_init 4 = .ok (.aload_n 0, 1) := by decide +kernel
theorem dX3_init_5 : decode cX3_init 5 = .ok (.sipush 240, 3) := by decide +kernel
theorem dX3_init_8 : decode cX3_init 8 = .ok (.newarray .int, 2) := by decide +kernel
theorem dX3_init_10 : decode cX3_init 10 = .ok (.putfield 7, 3) := by decide +kernel
theorem dX3_init_13 : decode cX3_init 13 = .ok (.aload_n 0, 1) := by decide +kernel
theorem dX3_init_14 : decode cX3_init 14 = .ok (.sipush 240, 3) := by decide +kernel
theorem dX3_init_17 : decode cX3_init 17 = .ok (.newarray .int, 2) := by decide +kernel
theorem dX3_init_19 : decode cX3_init 19 = .ok (.putfield 13, 3) := by decide +kernel
theorem dX3_init_22 : decode cX3_init 22 = .ok (.aload_n 0, 1) := by decide +kernel
theorem dX3_init_23 : decode cX3_init 23 = .ok (.sipush 240, 3) := by decide +kernel
theorem dX3_init_26 : decode cX3_init 26 = .ok (.newarray .int, 2) := by decide +kernel
theorem dX3_init_28 : decode cX3_init 28 = .ok (.putfield 16, 3) := by decide +kernel
theorem dX3_init_31 : decode cX3_init 31 = .ok (.aload_n 0, 1) := by decide +kernel
theorem dX3_init_32 : decode cX3_init 32 = .ok (.bipush 120, 2) := by decide +kernel
theorem dX3_init_34 : decode cX3_init 34 = .ok (.newarray .int, 2) := by decide +kernel
theorem dX3_init_36 : decode cX3_init 36 = .ok (.putfield 19, 3) := by decide +kernel
theorem dX3_init_39 : decode cX3_init 39 = .ok (.aload_n 0, 1) := by decide +kernel
theorem dX3_init_40 : decode cX3_init 40 = .ok (.sipush 960, 3) := by decide +kernel
theorem dX3_init_43 : decode cX3_init 43 = .ok (.newarray .int, 2) := by decide +kernel
theorem dX3_init_45 : decode cX3_init 45 = .ok (.putfield 22, 3) := by decide +kernel
theorem dX3_init_48 : decode cX3_init 48 = .ok (.aload_n 0, 1) := by decide +kernel
theorem dX3_init_49 : decode cX3_init 49 = .ok (.bipush 8, 2) := by decide +kernel
theorem dX3_init_51 : decode cX3_init 51 = .ok (.newarray .int, 2) := by decide +kernel
theorem dX3_init_53 : decode cX3_init 53 = .ok (.putfield 25, 3) := by decide +kernel
theorem dX3_init_56 : decode cX3_init 56 = .ok (.aload_n 0, 1) := by decide +kernel
theorem dX3_init_57 : decode cX3_init 57 = .ok (.sipush 280, 3) := by decide +kernel
theorem dX3_init_60 : decode cX3_init 60 = .ok (.newarray .int, 2) := by decide +kernel
theorem dX3_init_62 : decode cX3_init 62 = .ok (.putfield 28, 3) := by decide +kernel
theorem dX3_init_65 : decode cX3_init 65 = .ok (.aload_n 0, 1) := by decide +kernel
theorem dX3_init_66 : decode cX3_init 66 = .ok (.iconst 5, 1) := by decide +kernel
theorem dX3_init_67 : decode cX3_init 67 = .ok (.newarray .int, 2) := by decide +kernel
theorem dX3_init_69 : decode cX3_init 69 = .ok (.putfield 31, 3) := by decide +kernel
theorem dX3_init_72 : decode cX3_init 72 = .ok (.aload_n 0, 1) := by decide +kernel
theorem dX3_init_73 : decode cX3_init 73 = .ok (.sipush 1120, 3) := by decide +kernel
theorem dX3_init_76 : decode cX3_init 76 = .ok (.newarray .int, 2) := by decide +kernel
theorem dX3_init_78 : decode cX3_init 78 = .ok (.putfield 34, 3) := by decide +kernel
theorem dX3_init_81 : decode cX3_init 81 = .ok (.aload_n 0, 1) := by decide +kernel
theorem dX3_init_82 : decode cX3_init 82 = .ok (.bipush 8, 2) := by decide +kernel
theorem dX3_init_84 : decode cX3_init 84 = .ok (.newarray .int, 2) := by decide +kernel
theorem dX3_init_86 : decode cX3_init 86 = .ok (.putfield 37, 3) := by decide +kernel
theorem dX3_init_89 : decode cX3_init 89 = .ok (.aload_n 0, 1) := by decide +kernel
theorem dX3_init_90 : decode cX3_init 90 = .ok (.bipush 64, 2) := by decide +kernel
theorem dX3_init_92 : decode cX3_init 92 = .ok (.newarray .boolean, 2) := by decide +kernel
theorem dX3_init_94 : decode cX3_init 94 = .ok (.putfield 40, 3) := by decide +kernel
theorem dX3_init_97 : decode cX3_init 97 = .ok (.aload_n 0, 1) := by decide +kernel
theorem dX3_init_98 : decode cX3_init 98 = .ok (.iconst (-1), 1) := by decide +kernel
theorem dX3_init_99 : decode cX3_init 99 = .ok (.putfield 44, 3) := by decide +kernel
theorem dX3_init_102 : decode cX3_init 102 = .ok (.aload_n 0, 1) := by decide +kernel
theorem dX3_init_103 : decode cX3_init 103 = .ok (.iconst (-1), 1) := by decide +kernel
theorem dX3_init_104 : decode cX3_init 104 = .ok (.putfield 48, 3) := by decide +kernel
theorem dX3_init_107 : decode cX3_init 107 = .ok (.aload_n 0, 1) := by decide +kernel
theorem dX3_init_108 : decode cX3_init 108 = .ok (.bipush 12, 2) := by decide +kernel
theorem dX3_init_110 : decode cX3_init 110 = .ok (.newarray .int, 2) := by decide +kernel
theorem dX3_init_112 : decode cX3_init 112 = .ok (.putfield 51, 3) := by decide +kernel
theorem dX3_init_115 : decode cX3_init 115 = .ok (.aload_n 0, 1) := by decide +kernel
theorem dX3_init_116 : decode cX3_init 116 = .ok (.bipush 6, 2) := by decide +kernel
theorem dX3_init_118 : decode cX3_init 118 = .ok (.newarray .int, 2) := by decide +kernel
theorem dX3_init_120 : decode cX3_init 120 = .ok (.putfield 54, 3) := by decide +kernel
theorem dX3_init_123 : decode cX3_init 123 = .ok (.aload_n 0, 1) := by decide +kernel
theorem dX3_init_124 : decode cX3_init 124 = .ok (.bipush 6, 2) := by decide +kernel
theorem dX3_init_126 : decode cX3_init 126 = .ok (.newarray .int, 2) := by decide +kernel
theorem dX3_init_128 : decode cX3_init 128 = .ok (.putfield 57, 3) := by decide +kernel
theorem dX3_init_131 : decode cX3_init 131 = .ok (.aload_n 0, 1) := by decide +kernel
theorem dX3_init_132 : decode cX3_init 132 = .ok (.bipush 6, 2) := by decide +kernel
theorem dX3_init_134 : decode cX3_init 134 = .ok (.newarray .int, 2) := by decide +kernel
theorem dX3_init_136 : decode cX3_init 136 = .ok (.putfield 60, 3) := by decide +kernel
theorem dX3_init_139 : decode cX3_init 139 = .ok (.aload_n 0, 1) := by decide +kernel
theorem dX3_init_140 : decode cX3_init 140 = .ok (.bipush 20, 2) := by decide +kernel
theorem dX3_init_142 : decode cX3_init 142 = .ok (.newarray .int, 2) := by decide +kernel
theorem dX3_init_144 : decode cX3_init 144 = .ok (.putfield 63, 3) := by decide +kernel
theorem dX3_init_147 : decode cX3_init 147 = .ok (.aload_n 0, 1) := by decide +kernel
theorem dX3_init_148 : decode cX3_init 148 = .ok (.getfield 7, 3) := by decide +kernel
theorem dX3_init_151 : decode cX3_init 151 = .ok (.iconst 3, 1) := by decide +kernel
theorem dX3_init_152 : decode cX3_init 152 = .ok (.iconst 1, 1) := by decide +kernel
theorem dX3_init_153 : decode cX3_init 153 = .ok (.iastore, 1) := by decide +kernel
theorem dX3_init_154 : decode cX3_init 154 = .ok (.return_, 1) := by decide +kernel
abbrev cX3_shell : ByteArray := prog_22_method_12_code
def yX3_shell : MethodName := ⟨RX3, "shell", "(IIII)I"⟩
theorem dX3_shell_0 : decode cX3_shell 0 = .ok (.iload_n 1, 1) := by decide +kernel
theorem dX3_shell_1 : decode cX3_shell 1 = .ok (.invokestatic 88, 3) := by decide +kernel
theorem dX3_shell_4 : decode cX3_shell 4 = .ok (.ifCond .ne 5, 3) := by decide +kernel
theorem dX3_shell_7 : decode cX3_shell 7 = .ok (.iconst (-1), 1) := by decide +kernel
theorem dX3_shell_8 : decode cX3_shell 8 = .ok (.ireturn, 1) := by decide +kernel
theorem dX3_shell_9 : decode cX3_shell 9 = .ok (.iload_n 2, 1) := by decide +kernel
theorem dX3_shell_10 : decode cX3_shell 10 = .ok (.iconst 1, 1) := by decide +kernel
theorem dX3_shell_11 : decode cX3_shell 11 = .ok (.bipush 40, 2) := by decide +kernel
theorem dX3_shell_13 : decode cX3_shell 13 = .ok (.invokestatic 69, 3) := by decide +kernel
theorem dX3_shell_16 : decode cX3_shell 16 = .ok (.ifCond .eq 24, 3) := by decide +kernel
theorem dX3_shell_19 : decode cX3_shell 19 = .ok (.iload_n 3, 1) := by decide +kernel
theorem dX3_shell_20 : decode cX3_shell 20 = .ok (.iconst 0, 1) := by decide +kernel
theorem dX3_shell_21 : decode cX3_shell 21 = .ok (.bipush 20, 2) := by decide +kernel
theorem dX3_shell_23 : decode cX3_shell 23 = .ok (.invokestatic 69, 3) := by decide +kernel
theorem dX3_shell_26 : decode cX3_shell 26 = .ok (.ifCond .eq 14, 3) := by decide +kernel
theorem dX3_shell_29 : decode cX3_shell 29 = .ok (.iload 4, 2) := by decide +kernel
theorem dX3_shell_31 : decode cX3_shell 31 = .ok (.iconst 0, 1) := by decide +kernel
theorem dX3_shell_32 : decode cX3_shell 32 = .ok (.bipush 9, 2) := by decide +kernel
theorem dX3_shell_34 : decode cX3_shell 34 = .ok (.invokestatic 69, 3) := by decide +kernel
theorem dX3_shell_37 : decode cX3_shell 37 = .ok (.ifCond .ne 6, 3) := by decide +kernel
theorem dX3_shell_40 : decode cX3_shell 40 = .ok (.bipush (-2), 2) := by decide +kernel
theorem dX3_shell_42 : decode cX3_shell 42 = .ok (.ireturn, 1) := by decide +kernel
theorem dX3_shell_43 : decode cX3_shell 43 = .ok (.aload_n 0, 1) := by decide +kernel
theorem dX3_shell_44 : decode cX3_shell 44 = .ok (.getfield 7, 3) := by decide +kernel
theorem dX3_shell_47 : decode cX3_shell 47 = .ok (.iconst 0, 1) := by decide +kernel
theorem dX3_shell_48 : decode cX3_shell 48 = .ok (.iaload, 1) := by decide +kernel
theorem dX3_shell_49 : decode cX3_shell 49 = .ok (.bipush 20, 2) := by decide +kernel
theorem dX3_shell_51 : decode cX3_shell 51 = .ok (.if_icmp .ne 6, 3) := by decide +kernel
theorem dX3_shell_54 : decode cX3_shell 54 = .ok (.bipush (-4), 2) := by decide +kernel
theorem dX3_shell_56 : decode cX3_shell 56 = .ok (.ireturn, 1) := by decide +kernel
theorem dX3_shell_57 : decode cX3_shell 57 = .ok (.aload_n 0, 1) := by decide +kernel
theorem dX3_shell_58 : decode cX3_shell 58 = .ok (.getfield 7, 3) := by decide +kernel
theorem dX3_shell_61 : decode cX3_shell 61 = .ok (.iconst 0, 1) := by decide +kernel
theorem dX3_shell_62 : decode cX3_shell 62 = .ok (.iaload, 1) := by decide +kernel
theorem dX3_shell_63 : decode cX3_shell 63 = .ok (.istore 5, 2) := by decide +kernel
theorem dX3_shell_65 : decode cX3_shell 65 = .ok (.aload_n 0, 1) := by decide +kernel
theorem dX3_shell_66 : decode cX3_shell 66 = .ok (.getfield 7, 3) := by decide +kernel
theorem dX3_shell_69 : decode cX3_shell 69 = .ok (.bipush 10, 2) := by decide +kernel
theorem dX3_shell_71 : decode cX3_shell 71 = .ok (.iload 5, 2) := by decide +kernel
theorem dX3_shell_73 : decode cX3_shell 73 = .ok (.iadd, 1) := by decide +kernel
theorem dX3_shell_74 : decode cX3_shell 74 = .ok (.iload_n 2, 1) := by decide +kernel
theorem dX3_shell_75 : decode cX3_shell 75 = .ok (.iastore, 1) := by decide +kernel
theorem dX3_shell_76 : decode cX3_shell 76 = .ok (.aload_n 0, 1) := by decide +kernel
theorem dX3_shell_77 : decode cX3_shell 77 = .ok (.getfield 7, 3) := by decide +kernel
theorem dX3_shell_80 : decode cX3_shell 80 = .ok (.bipush 30, 2) := by decide +kernel
theorem dX3_shell_82 : decode cX3_shell 82 = .ok (.iload 5, 2) := by decide +kernel
theorem dX3_shell_84 : decode cX3_shell 84 = .ok (.iadd, 1) := by decide +kernel
theorem dX3_shell_85 : decode cX3_shell 85 = .ok (.iload_n 3, 1) := by decide +kernel
theorem dX3_shell_86 : decode cX3_shell 86 = .ok (.iastore, 1) := by decide +kernel
theorem dX3_shell_87 : decode cX3_shell 87 = .ok (.aload_n 0, 1) := by decide +kernel
theorem dX3_shell_88 : decode cX3_shell 88 = .ok (.getfield 7, 3) := by decide +kernel
theorem dX3_shell_91 : decode cX3_shell 91 = .ok (.bipush 50, 2) := by decide +kernel
theorem dX3_shell_93 : decode cX3_shell 93 = .ok (.iload 5, 2) := by decide +kernel
theorem dX3_shell_95 : decode cX3_shell 95 = .ok (.iadd, 1) := by decide +kernel
theorem dX3_shell_96 : decode cX3_shell 96 = .ok (.iload 4, 2) := by decide +kernel
theorem dX3_shell_98 : decode cX3_shell 98 = .ok (.iastore, 1) := by decide +kernel
theorem dX3_shell_99 : decode cX3_shell 99 = .ok (.aload_n 0, 1) := by decide +kernel
theorem dX3_shell_100 : decode cX3_shell 100 = .ok (.getfield 7, 3) := by decide +kernel
theorem dX3_shell_103 : decode cX3_shell 103 = .ok (.bipush 70, 2) := by decide +kernel
theorem dX3_shell_105 : decode cX3_shell 105 = .ok (.iload 5, 2) := by decide +kernel
theorem dX3_shell_107 : decode cX3_shell 107 = .ok (.iadd, 1) := by decide +kernel
theorem dX3_shell_108 : decode cX3_shell 108 = .ok (.iload_n 1, 1) := by decide +kernel
theorem dX3_shell_109 : decode cX3_shell 109 = .ok (.iastore, 1) := by decide +kernel
theorem dX3_shell_110 : decode cX3_shell 110 = .ok (.aload_n 0, 1) := by decide +kernel
theorem dX3_shell_111 : decode cX3_shell 111 = .ok (.getfield 7, 3) := by decide +kernel
theorem dX3_shell_114 : decode cX3_shell 114 = .ok (.bipush 90, 2) := by decide +kernel
theorem dX3_shell_116 : decode cX3_shell 116 = .ok (.iload 5, 2) := by decide +kernel
theorem dX3_shell_118 : decode cX3_shell 118 = .ok (.iadd, 1) := by decide +kernel
theorem dX3_shell_119 : decode cX3_shell 119 = .ok (.iconst 0, 1) := by decide +kernel
theorem dX3_shell_120 : decode cX3_shell 120 = .ok (.iastore, 1) := by decide +kernel
theorem dX3_shell_121 : decode cX3_shell 121 = .ok (.aload_n 0, 1) := by decide +kernel
theorem dX3_shell_122 : decode cX3_shell 122 = .ok (.getfield 7, 3) := by decide +kernel
theorem dX3_shell_125 : decode cX3_shell 125 = .ok (.bipush 110, 2) := by decide +kernel
theorem dX3_shell_127 : decode cX3_shell 127 = .ok (.iload 5, 2) := by decide +kernel
theorem dX3_shell_129 : decode cX3_shell 129 = .ok (.iadd, 1) := by decide +kernel
theorem dX3_shell_130 : decode cX3_shell 130 = .ok (.iconst (-1), 1) := by decide +kernel
theorem dX3_shell_131 : decode cX3_shell 131 = .ok (.iastore, 1) := by decide +kernel
theorem dX3_shell_132 : decode cX3_shell 132 = .ok (.aload_n 0, 1) := by decide +kernel
theorem dX3_shell_133 : decode cX3_shell 133 = .ok (.getfield 7, 3) := by decide +kernel
theorem dX3_shell_136 : decode cX3_shell 136 = .ok (.iconst 0, 1) := by decide +kernel
theorem dX3_shell_137 : decode cX3_shell 137 = .ok (.dup2, 1) := by decide +kernel
theorem dX3_shell_138 : decode cX3_shell 138 = .ok (.iaload, 1) := by decide +kernel
theorem dX3_shell_139 : decode cX3_shell 139 = .ok (.iconst 1, 1) := by decide +kernel
theorem dX3_shell_140 : decode cX3_shell 140 = .ok (.iadd, 1) := by decide +kernel
theorem dX3_shell_141 : decode cX3_shell 141 = .ok (.iastore, 1) := by decide +kernel
theorem dX3_shell_142 : decode cX3_shell 142 = .ok (.iload 5, 2) := by decide +kernel
theorem dX3_shell_144 : decode cX3_shell 144 = .ok (.ireturn, 1) := by decide +kernel
abbrev cX3_isCell : ByteArray := prog_22_method_4_code
def yX3_isCell : MethodName := ⟨RX3, "isCell", "(I)Z"⟩
theorem dX3_isCell_0 : decode cX3_isCell 0 = .ok (.iload_n 0, 1) := by decide +kernel
theorem dX3_isCell_1 : decode cX3_isCell 1 = .ok (.iconst 0, 1) := by decide +kernel
theorem dX3_isCell_2 : decode cX3_isCell 2 = .ok (.bipush 7, 2) := by decide +kernel
theorem dX3_isCell_4 : decode cX3_isCell 4 = .ok (.invokestatic 69, 3) := by decide +kernel
theorem dX3_isCell_7 : decode cX3_isCell 7 = .ok (.ireturn, 1) := by decide +kernel
abbrev cX3_in : ByteArray := prog_22_method_3_code
def yX3_in : MethodName := ⟨RX3, "in", "(III)Z"⟩
theorem dX3_in_0 : decode cX3_in 0 = .ok (.iload_n 0, 1) := by decide +kernel
theorem dX3_in_1 : decode cX3_in 1 = .ok (.iload_n 1, 1) := by decide +kernel
theorem dX3_in_2 : decode cX3_in 2 = .ok (.if_icmp .lt 12, 3) := by decide +kernel
theorem dX3_in_5 : decode cX3_in 5 = .ok (.iload_n 0, 1) := by decide +kernel
theorem dX3_in_6 : decode cX3_in 6 = .ok (.iload_n 2, 1) := by decide +kernel
theorem dX3_in_7 : decode cX3_in 7 = .ok (.if_icmp .gt 7, 3) := by decide +kernel
theorem dX3_in_10 : decode cX3_in 10 = .ok (.iconst 1, 1) := by decide +kernel
theorem dX3_in_11 : decode cX3_in 11 = .ok (.goto 4, 3) := by decide +kernel
theorem dX3_in_14 : decode cX3_in 14 = .ok (.iconst 0, 1) := by decide +kernel
theorem dX3_in_15 : decode cX3_in 15 = .ok (.ireturn, 1) := by decide +kernel
abbrev cX3_crab : ByteArray := prog_22_method_14_code
def yX3_crab : MethodName := ⟨RX3, "crab", "(III)I"⟩
theorem dX3_crab_0 : decode cX3_crab 0 = .ok (.iload_n 1, 1) := by decide +kernel
theorem dX3_crab_1 : decode cX3_crab 1 = .ok (.invokestatic 88, 3) := by decide +kernel
theorem dX3_crab_4 : decode cX3_crab 4 = .ok (.ifCond .eq 16, 3) := by decide +kernel
theorem dX3_crab_7 : decode cX3_crab 7 = .ok (.iload_n 3, 1) := by decide +kernel
theorem dX3_crab_8 : decode cX3_crab 8 = .ok (.iconst (-1), 1) := by decide +kernel
theorem dX3_crab_9 : decode cX3_crab 9 = .ok (.if_icmp .eq 13, 3) := by decide +kernel
theorem dX3_crab_12 : decode cX3_crab 12 = .ok (.aload_n 0, 1) := by decide +kernel
theorem dX3_crab_13 : decode cX3_crab 13 = .ok (.iload_n 3, 1) := by decide +kernel
theorem dX3_crab_14 : decode cX3_crab 14 = .ok (.invokevirtual 91, 3) := by decide +kernel
theorem dX3_crab_17 : decode cX3_crab 17 = .ok (.ifCond .ne 5, 3) := by decide +kernel
theorem dX3_crab_20 : decode cX3_crab 20 = .ok (.iconst (-1), 1) := by decide +kernel
theorem dX3_crab_21 : decode cX3_crab 21 = .ok (.ireturn, 1) := by decide +kernel
theorem dX3_crab_22 : decode cX3_crab 22 = .ok (.iload_n 2, 1) := by decide +kernel
theorem dX3_crab_23 : decode cX3_crab 23 = .ok (.iconst 1, 1) := by decide +kernel
theorem dX3_crab_24 : decode cX3_crab 24 = .ok (.bipush 40, 2) := by decide +kernel
theorem dX3_crab_26 : decode cX3_crab 26 = .ok (.invokestatic 69, 3) := by decide +kernel
theorem dX3_crab_29 : decode cX3_crab 29 = .ok (.ifCond .ne 6, 3) := by decide +kernel
theorem dX3_crab_32 : decode cX3_crab 32 = .ok (.bipush (-2), 2) := by decide +kernel
theorem dX3_crab_34 : decode cX3_crab 34 = .ok (.ireturn, 1) := by decide +kernel
theorem dX3_crab_35 : decode cX3_crab 35 = .ok (.iload_n 3, 1) := by decide +kernel
theorem dX3_crab_36 : decode cX3_crab 36 = .ok (.iconst (-1), 1) := by decide +kernel
theorem dX3_crab_37 : decode cX3_crab 37 = .ok (.if_icmp .eq 31, 3) := by decide +kernel
theorem dX3_crab_40 : decode cX3_crab 40 = .ok (.aload_n 0, 1) := by decide +kernel
theorem dX3_crab_41 : decode cX3_crab 41 = .ok (.getfield 7, 3) := by decide +kernel
theorem dX3_crab_44 : decode cX3_crab 44 = .ok (.bipush 90, 2) := by decide +kernel
theorem dX3_crab_46 : decode cX3_crab 46 = .ok (.iload_n 3, 1) := by decide +kernel
theorem dX3_crab_47 : decode cX3_crab 47 = .ok (.iadd, 1) := by decide +kernel
theorem dX3_crab_48 : decode cX3_crab 48 = .ok (.iaload, 1) := by decide +kernel
theorem dX3_crab_49 : decode cX3_crab 49 = .ok (.ifCond .ne 16, 3) := by decide +kernel
theorem dX3_crab_52 : decode cX3_crab 52 = .ok (.aload_n 0, 1) := by decide +kernel
theorem dX3_crab_53 : decode cX3_crab 53 = .ok (.getfield 7, 3) := by decide +kernel
theorem dX3_crab_56 : decode cX3_crab 56 = .ok (.bipush 70, 2) := by decide +kernel
theorem dX3_crab_58 : decode cX3_crab 58 = .ok (.iload_n 3, 1) := by decide +kernel
theorem dX3_crab_59 : decode cX3_crab 59 = .ok (.iadd, 1) := by decide +kernel
theorem dX3_crab_60 : decode cX3_crab 60 = .ok (.iaload, 1) := by decide +kernel
theorem dX3_crab_61 : decode cX3_crab 61 = .ok (.iload_n 1, 1) := by decide +kernel
theorem dX3_crab_62 : decode cX3_crab 62 = .ok (.if_icmp .eq 6, 3) := by decide +kernel
theorem dX3_crab_65 : decode cX3_crab 65 = .ok (.bipush (-3), 2) := by decide +kernel
theorem dX3_crab_67 : decode cX3_crab 67 = .ok (.ireturn, 1) := by decide +kernel
theorem dX3_crab_68 : decode cX3_crab 68 = .ok (.aload_n 0, 1) := by decide +kernel
theorem dX3_crab_69 : decode cX3_crab 69 = .ok (.getfield 7, 3) := by decide +kernel
theorem dX3_crab_72 : decode cX3_crab 72 = .ok (.iconst 1, 1) := by decide +kernel
theorem dX3_crab_73 : decode cX3_crab 73 = .ok (.iaload, 1) := by decide +kernel
theorem dX3_crab_74 : decode cX3_crab 74 = .ok (.bipush 12, 2) := by decide +kernel
theorem dX3_crab_76 : decode cX3_crab 76 = .ok (.if_icmp .ne 6, 3) := by decide +kernel
theorem dX3_crab_79 : decode cX3_crab 79 = .ok (.bipush (-4), 2) := by decide +kernel
theorem dX3_crab_81 : decode cX3_crab 81 = .ok (.ireturn, 1) := by decide +kernel
theorem dX3_crab_82 : decode cX3_crab 82 = .ok (.aload_n 0, 1) := by decide +kernel
theorem dX3_crab_83 : decode cX3_crab 83 = .ok (.getfield 7, 3) := by decide +kernel
theorem dX3_crab_86 : decode cX3_crab 86 = .ok (.iconst 1, 1) := by decide +kernel
theorem dX3_crab_87 : decode cX3_crab 87 = .ok (.iaload, 1) := by decide +kernel
theorem dX3_crab_88 : decode cX3_crab 88 = .ok (.istore 4, 2) := by decide +kernel
theorem dX3_crab_90 : decode cX3_crab 90 = .ok (.aload_n 0, 1) := by decide +kernel
theorem dX3_crab_91 : decode cX3_crab 91 = .ok (.getfield 7, 3) := by decide +kernel
theorem dX3_crab_94 : decode cX3_crab 94 = .ok (.sipush 130, 3) := by decide +kernel
theorem dX3_crab_97 : decode cX3_crab 97 = .ok (.iload 4, 2) := by decide +kernel
theorem dX3_crab_99 : decode cX3_crab 99 = .ok (.iadd, 1) := by decide +kernel
theorem dX3_crab_100 : decode cX3_crab 100 = .ok (.iload_n 2, 1) := by decide +kernel
theorem dX3_crab_101 : decode cX3_crab 101 = .ok (.iastore, 1) := by decide +kernel
theorem dX3_crab_102 : decode cX3_crab 102 = .ok (.aload_n 0, 1) := by decide +kernel
theorem dX3_crab_103 : decode cX3_crab 103 = .ok (.getfield 7, 3) := by decide +kernel
theorem dX3_crab_106 : decode cX3_crab 106 = .ok (.sipush 142, 3) := by decide +kernel
theorem dX3_crab_109 : decode cX3_crab 109 = .ok (.iload 4, 2) := by decide +kernel
theorem dX3_crab_111 : decode cX3_crab 111 = .ok (.iadd, 1) := by decide +kernel
theorem dX3_crab_112 : decode cX3_crab 112 = .ok (.iload_n 1, 1) := by decide +kernel
theorem dX3_crab_113 : decode cX3_crab 113 = .ok (.iastore, 1) := by decide +kernel
theorem dX3_crab_114 : decode cX3_crab 114 = .ok (.aload_n 0, 1) := by decide +kernel
theorem dX3_crab_115 : decode cX3_crab 115 = .ok (.getfield 7, 3) := by decide +kernel
theorem dX3_crab_118 : decode cX3_crab 118 = .ok (.sipush 154, 3) := by decide +kernel
theorem dX3_crab_121 : decode cX3_crab 121 = .ok (.iload 4, 2) := by decide +kernel
theorem dX3_crab_123 : decode cX3_crab 123 = .ok (.iadd, 1) := by decide +kernel
theorem dX3_crab_124 : decode cX3_crab 124 = .ok (.iconst (-1), 1) := by decide +kernel
theorem dX3_crab_125 : decode cX3_crab 125 = .ok (.iastore, 1) := by decide +kernel
theorem dX3_crab_126 : decode cX3_crab 126 = .ok (.aload_n 0, 1) := by decide +kernel
theorem dX3_crab_127 : decode cX3_crab 127 = .ok (.getfield 7, 3) := by decide +kernel
theorem dX3_crab_130 : decode cX3_crab 130 = .ok (.sipush 166, 3) := by decide +kernel
theorem dX3_crab_133 : decode cX3_crab 133 = .ok (.iload 4, 2) := by decide +kernel
theorem dX3_crab_135 : decode cX3_crab 135 = .ok (.iadd, 1) := by decide +kernel
theorem dX3_crab_136 : decode cX3_crab 136 = .ok (.iconst 1, 1) := by decide +kernel
theorem dX3_crab_137 : decode cX3_crab 137 = .ok (.iastore, 1) := by decide +kernel
theorem dX3_crab_138 : decode cX3_crab 138 = .ok (.aload_n 0, 1) := by decide +kernel
theorem dX3_crab_139 : decode cX3_crab 139 = .ok (.getfield 7, 3) := by decide +kernel
theorem dX3_crab_142 : decode cX3_crab 142 = .ok (.sipush 178, 3) := by decide +kernel
theorem dX3_crab_145 : decode cX3_crab 145 = .ok (.iload 4, 2) := by decide +kernel
theorem dX3_crab_147 : decode cX3_crab 147 = .ok (.iadd, 1) := by decide +kernel
theorem dX3_crab_148 : decode cX3_crab 148 = .ok (.iconst (-1), 1) := by decide +kernel
theorem dX3_crab_149 : decode cX3_crab 149 = .ok (.iastore, 1) := by decide +kernel
theorem dX3_crab_150 : decode cX3_crab 150 = .ok (.aload_n 0, 1) := by decide +kernel
theorem dX3_crab_151 : decode cX3_crab 151 = .ok (.getfield 7, 3) := by decide +kernel
theorem dX3_crab_154 : decode cX3_crab 154 = .ok (.sipush 190, 3) := by decide +kernel
theorem dX3_crab_157 : decode cX3_crab 157 = .ok (.iload 4, 2) := by decide +kernel
theorem dX3_crab_159 : decode cX3_crab 159 = .ok (.iadd, 1) := by decide +kernel
theorem dX3_crab_160 : decode cX3_crab 160 = .ok (.iconst 0, 1) := by decide +kernel
theorem dX3_crab_161 : decode cX3_crab 161 = .ok (.iastore, 1) := by decide +kernel
theorem dX3_crab_162 : decode cX3_crab 162 = .ok (.aload_n 0, 1) := by decide +kernel
theorem dX3_crab_163 : decode cX3_crab 163 = .ok (.getfield 7, 3) := by decide +kernel
theorem dX3_crab_166 : decode cX3_crab 166 = .ok (.sipush 202, 3) := by decide +kernel
theorem dX3_crab_169 : decode cX3_crab 169 = .ok (.iload 4, 2) := by decide +kernel
theorem dX3_crab_171 : decode cX3_crab 171 = .ok (.iadd, 1) := by decide +kernel
theorem dX3_crab_172 : decode cX3_crab 172 = .ok (.iconst 0, 1) := by decide +kernel
theorem dX3_crab_173 : decode cX3_crab 173 = .ok (.iastore, 1) := by decide +kernel
theorem dX3_crab_174 : decode cX3_crab 174 = .ok (.aload_n 0, 1) := by decide +kernel
theorem dX3_crab_175 : decode cX3_crab 175 = .ok (.getfield 7, 3) := by decide +kernel
theorem dX3_crab_178 : decode cX3_crab 178 = .ok (.sipush 214, 3) := by decide +kernel
theorem dX3_crab_181 : decode cX3_crab 181 = .ok (.iload 4, 2) := by decide +kernel
theorem dX3_crab_183 : decode cX3_crab 183 = .ok (.iadd, 1) := by decide +kernel
theorem dX3_crab_184 : decode cX3_crab 184 = .ok (.iconst (-1), 1) := by decide +kernel
theorem dX3_crab_185 : decode cX3_crab 185 = .ok (.iastore, 1) := by decide +kernel
theorem dX3_crab_186 : decode cX3_crab 186 = .ok (.aload_n 0, 1) := by decide +kernel
theorem dX3_crab_187 : decode cX3_crab 187 = .ok (.getfield 7, 3) := by decide +kernel
theorem dX3_crab_190 : decode cX3_crab 190 = .ok (.sipush 226, 3) := by decide +kernel
theorem dX3_crab_193 : decode cX3_crab 193 = .ok (.iload 4, 2) := by decide +kernel
theorem dX3_crab_195 : decode cX3_crab 195 = .ok (.iadd, 1) := by decide +kernel
theorem dX3_crab_196 : decode cX3_crab 196 = .ok (.iconst 0, 1) := by decide +kernel
theorem dX3_crab_197 : decode cX3_crab 197 = .ok (.iastore, 1) := by decide +kernel
theorem dX3_crab_198 : decode cX3_crab 198 = .ok (.iload_n 3, 1) := by decide +kernel
theorem dX3_crab_199 : decode cX3_crab 199 = .ok (.iconst (-1), 1) := by decide +kernel
theorem dX3_crab_200 : decode cX3_crab 200 = .ok (.if_icmp .eq 10, 3) := by decide +kernel
theorem dX3_crab_203 : decode cX3_crab 203 = .ok (.aload_n 0, 1) := by decide +kernel
theorem dX3_crab_204 : decode cX3_crab 204 = .ok (.iload 4, 2) := by decide +kernel
theorem dX3_crab_206 : decode cX3_crab 206 = .ok (.iload_n 3, 1) := by decide +kernel
theorem dX3_crab_207 : decode cX3_crab 207 = .ok (.invokevirtual 94, 3) := by decide +kernel
theorem dX3_crab_210 : decode cX3_crab 210 = .ok (.aload_n 0, 1) := by decide +kernel
theorem dX3_crab_211 : decode cX3_crab 211 = .ok (.getfield 7, 3) := by decide +kernel
theorem dX3_crab_214 : decode cX3_crab 214 = .ok (.iconst 1, 1) := by decide +kernel
theorem dX3_crab_215 : decode cX3_crab 215 = .ok (.dup2, 1) := by decide +kernel
theorem dX3_crab_216 : decode cX3_crab 216 = .ok (.iaload, 1) := by decide +kernel
theorem dX3_crab_217 : decode cX3_crab 217 = .ok (.iconst 1, 1) := by decide +kernel
theorem dX3_crab_218 : decode cX3_crab 218 = .ok (.iadd, 1) := by decide +kernel
theorem dX3_crab_219 : decode cX3_crab 219 = .ok (.iastore, 1) := by decide +kernel
theorem dX3_crab_220 : decode cX3_crab 220 = .ok (.iload 4, 2) := by decide +kernel
theorem dX3_crab_222 : decode cX3_crab 222 = .ok (.ireturn, 1) := by decide +kernel
abbrev cX3_isShell : ByteArray := prog_22_method_5_code
def yX3_isShell : MethodName := ⟨RX3, "isShell", "(I)Z"⟩
theorem dX3_isShell_0 : decode cX3_isShell 0 = .ok (.iload_n 1, 1) := by decide +kernel
theorem dX3_isShell_1 : decode cX3_isShell 1 = .ok (.iconst 0, 1) := by decide +kernel
theorem dX3_isShell_2 : decode cX3_isShell 2 = .ok (.aload_n 0, 1) := by decide +kernel
theorem dX3_isShell_3 : decode cX3_isShell 3 = .ok (.getfield 7, 3) := by decide +kernel
theorem dX3_isShell_6 : decode cX3_isShell 6 = .ok (.iconst 0, 1) := by decide +kernel
theorem dX3_isShell_7 : decode cX3_isShell 7 = .ok (.iaload, 1) := by decide +kernel
theorem dX3_isShell_8 : decode cX3_isShell 8 = .ok (.iconst 1, 1) := by decide +kernel
theorem dX3_isShell_9 : decode cX3_isShell 9 = .ok (.isub, 1) := by decide +kernel
theorem dX3_isShell_10 : decode cX3_isShell 10 = .ok (.invokestatic 69, 3) := by decide +kernel
theorem dX3_isShell_13 : decode cX3_isShell 13 = .ok (.ireturn, 1) := by decide +kernel
abbrev cX3_goesIn : ByteArray := prog_22_method_13_code
def yX3_goesIn : MethodName := ⟨RX3, "goesIn", "(II)V"⟩
theorem dX3_goesIn_0 : decode cX3_goesIn 0 = .ok (.aload_n 0, 1) := by decide +kernel
theorem dX3_goesIn_1 : decode cX3_goesIn 1 = .ok (.getfield 7, 3) := by decide +kernel
theorem dX3_goesIn_4 : decode cX3_goesIn 4 = .ok (.sipush 166, 3) := by decide +kernel
theorem dX3_goesIn_7 : decode cX3_goesIn 7 = .ok (.iload_n 1, 1) := by decide +kernel
theorem dX3_goesIn_8 : decode cX3_goesIn 8 = .ok (.iadd, 1) := by decide +kernel
theorem dX3_goesIn_9 : decode cX3_goesIn 9 = .ok (.iconst 0, 1) := by decide +kernel
theorem dX3_goesIn_10 : decode cX3_goesIn 10 = .ok (.iastore, 1) := by decide +kernel
theorem dX3_goesIn_11 : decode cX3_goesIn 11 = .ok (.aload_n 0, 1) := by decide +kernel
theorem dX3_goesIn_12 : decode cX3_goesIn 12 = .ok (.getfield 7, 3) := by decide +kernel
theorem dX3_goesIn_15 : decode cX3_goesIn 15 = .ok (.sipush 178, 3) := by decide +kernel
theorem dX3_goesIn_18 : decode cX3_goesIn 18 = .ok (.iload_n 1, 1) := by decide +kernel
theorem dX3_goesIn_19 : decode cX3_goesIn 19 = .ok (.iadd, 1) := by decide +kernel
theorem dX3_goesIn_20 : decode cX3_goesIn 20 = .ok (.iload_n 2, 1) := by decide +kernel
theorem dX3_goesIn_21 : decode cX3_goesIn 21 = .ok (.iastore, 1) := by decide +kernel
theorem dX3_goesIn_22 : decode cX3_goesIn 22 = .ok (.aload_n 0, 1) := by decide +kernel
theorem dX3_goesIn_23 : decode cX3_goesIn 23 = .ok (.getfield 7, 3) := by decide +kernel
theorem dX3_goesIn_26 : decode cX3_goesIn 26 = .ok (.sipush 190, 3) := by decide +kernel
theorem dX3_goesIn_29 : decode cX3_goesIn 29 = .ok (.iload_n 1, 1) := by decide +kernel
theorem dX3_goesIn_30 : decode cX3_goesIn 30 = .ok (.iadd, 1) := by decide +kernel
theorem dX3_goesIn_31 : decode cX3_goesIn 31 = .ok (.iconst 0, 1) := by decide +kernel
theorem dX3_goesIn_32 : decode cX3_goesIn 32 = .ok (.iastore, 1) := by decide +kernel
theorem dX3_goesIn_33 : decode cX3_goesIn 33 = .ok (.aload_n 0, 1) := by decide +kernel
theorem dX3_goesIn_34 : decode cX3_goesIn 34 = .ok (.getfield 7, 3) := by decide +kernel
theorem dX3_goesIn_37 : decode cX3_goesIn 37 = .ok (.bipush 90, 2) := by decide +kernel
theorem dX3_goesIn_39 : decode cX3_goesIn 39 = .ok (.iload_n 2, 1) := by decide +kernel
theorem dX3_goesIn_40 : decode cX3_goesIn 40 = .ok (.iadd, 1) := by decide +kernel
theorem dX3_goesIn_41 : decode cX3_goesIn 41 = .ok (.iconst 1, 1) := by decide +kernel
theorem dX3_goesIn_42 : decode cX3_goesIn 42 = .ok (.iastore, 1) := by decide +kernel
theorem dX3_goesIn_43 : decode cX3_goesIn 43 = .ok (.aload_n 0, 1) := by decide +kernel
theorem dX3_goesIn_44 : decode cX3_goesIn 44 = .ok (.getfield 7, 3) := by decide +kernel
theorem dX3_goesIn_47 : decode cX3_goesIn 47 = .ok (.bipush 110, 2) := by decide +kernel
theorem dX3_goesIn_49 : decode cX3_goesIn 49 = .ok (.iload_n 2, 1) := by decide +kernel
theorem dX3_goesIn_50 : decode cX3_goesIn 50 = .ok (.iadd, 1) := by decide +kernel
theorem dX3_goesIn_51 : decode cX3_goesIn 51 = .ok (.iload_n 1, 1) := by decide +kernel
theorem dX3_goesIn_52 : decode cX3_goesIn 52 = .ok (.iastore, 1) := by decide +kernel
theorem dX3_goesIn_53 : decode cX3_goesIn 53 = .ok (.return_, 1) := by decide +kernel
abbrev cX3_habit : ByteArray := prog_22_method_15_code
def yX3_habit : MethodName := ⟨RX3, "habit", "(II)I"⟩
theorem dX3_habit_0 : decode cX3_habit 0 = .ok (.aload_n 0, 1) := by decide +kernel
theorem dX3_habit_1 : decode cX3_habit 1 = .ok (.iload_n 1, 1) := by decide +kernel
theorem dX3_habit_2 : decode cX3_habit 2 = .ok (.invokevirtual 98, 3) := by decide +kernel
theorem dX3_habit_5 : decode cX3_habit 5 = .ok (.ifCond .eq 16, 3) := by decide +kernel
theorem dX3_habit_8 : decode cX3_habit 8 = .ok (.iload_n 2, 1) := by decide +kernel
theorem dX3_habit_9 : decode cX3_habit 9 = .ok (.iconst (-1), 1) := by decide +kernel
theorem dX3_habit_10 : decode cX3_habit 10 = .ok (.if_icmp .eq 13, 3) := by decide +kernel
theorem dX3_habit_13 : decode cX3_habit 13 = .ok (.aload_n 0, 1) := by decide +kernel
theorem dX3_habit_14 : decode cX3_habit 14 = .ok (.iload_n 2, 1) := by decide +kernel
theorem dX3_habit_15 : decode cX3_habit 15 = .ok (.invokevirtual 101, 3) := by decide +kernel
theorem dX3_habit_18 : decode cX3_habit 18 = .ok (.ifCond .ne 5, 3) := by decide +kernel
theorem dX3_habit_21 : decode cX3_habit 21 = .ok (.iconst (-1), 1) := by decide +kernel
theorem dX3_habit_22 : decode cX3_habit 22 = .ok (.ireturn, 1) := by decide +kernel
theorem dX3_habit_23 : decode cX3_habit 23 = .ok (.aload_n 0, 1) := by decide +kernel
theorem dX3_habit_24 : decode cX3_habit 24 = .ok (.getfield 7, 3) := by decide +kernel
theorem dX3_habit_27 : decode cX3_habit 27 = .ok (.sipush 154, 3) := by decide +kernel
theorem dX3_habit_30 : decode cX3_habit 30 = .ok (.iload_n 1, 1) := by decide +kernel
theorem dX3_habit_31 : decode cX3_habit 31 = .ok (.iadd, 1) := by decide +kernel
theorem dX3_habit_32 : decode cX3_habit 32 = .ok (.iaload, 1) := by decide +kernel
theorem dX3_habit_33 : decode cX3_habit 33 = .ok (.istore_n 3, 1) := by decide +kernel
theorem dX3_habit_34 : decode cX3_habit 34 = .ok (.aload_n 0, 1) := by decide +kernel
theorem dX3_habit_35 : decode cX3_habit 35 = .ok (.getfield 7, 3) := by decide +kernel
theorem dX3_habit_38 : decode cX3_habit 38 = .ok (.sipush 154, 3) := by decide +kernel
theorem dX3_habit_41 : decode cX3_habit 41 = .ok (.iload_n 1, 1) := by decide +kernel
theorem dX3_habit_42 : decode cX3_habit 42 = .ok (.iadd, 1) := by decide +kernel
theorem dX3_habit_43 : decode cX3_habit 43 = .ok (.iload_n 2, 1) := by decide +kernel
theorem dX3_habit_44 : decode cX3_habit 44 = .ok (.iastore, 1) := by decide +kernel
theorem dX3_habit_45 : decode cX3_habit 45 = .ok (.iload_n 3, 1) := by decide +kernel
theorem dX3_habit_46 : decode cX3_habit 46 = .ok (.iconst (-1), 1) := by decide +kernel
theorem dX3_habit_47 : decode cX3_habit 47 = .ok (.if_icmp .ne 8, 3) := by decide +kernel
theorem dX3_habit_50 : decode cX3_habit 50 = .ok (.bipush (-5), 2) := by decide +kernel
theorem dX3_habit_52 : decode cX3_habit 52 = .ok (.goto 4, 3) := by decide +kernel
theorem dX3_habit_55 : decode cX3_habit 55 = .ok (.iload_n 3, 1) := by decide +kernel
theorem dX3_habit_56 : decode cX3_habit 56 = .ok (.ireturn, 1) := by decide +kernel
abbrev cX3_isCrab : ByteArray := prog_22_method_6_code
def yX3_isCrab : MethodName := ⟨RX3, "isCrab", "(I)Z"⟩
theorem dX3_isCrab_0 : decode cX3_isCrab 0 = .ok (.iload_n 1, 1) := by decide +kernel
theorem dX3_isCrab_1 : decode cX3_isCrab 1 = .ok (.iconst 0, 1) := by decide +kernel
theorem dX3_isCrab_2 : decode cX3_isCrab 2 = .ok (.aload_n 0, 1) := by decide +kernel
theorem dX3_isCrab_3 : decode cX3_isCrab 3 = .ok (.getfield 7, 3) := by decide +kernel
theorem dX3_isCrab_6 : decode cX3_isCrab 6 = .ok (.iconst 1, 1) := by decide +kernel
theorem dX3_isCrab_7 : decode cX3_isCrab 7 = .ok (.iaload, 1) := by decide +kernel
theorem dX3_isCrab_8 : decode cX3_isCrab 8 = .ok (.iconst 1, 1) := by decide +kernel
theorem dX3_isCrab_9 : decode cX3_isCrab 9 = .ok (.isub, 1) := by decide +kernel
theorem dX3_isCrab_10 : decode cX3_isCrab 10 = .ok (.invokestatic 69, 3) := by decide +kernel
theorem dX3_isCrab_13 : decode cX3_isCrab 13 = .ok (.ireturn, 1) := by decide +kernel
abbrev cX3_isHabit : ByteArray := prog_22_method_7_code
def yX3_isHabit : MethodName := ⟨RX3, "isHabit", "(I)Z"⟩
theorem dX3_isHabit_0 : decode cX3_isHabit 0 = .ok (.iload_n 1, 1) := by decide +kernel
theorem dX3_isHabit_1 : decode cX3_isHabit 1 = .ok (.iconst 0, 1) := by decide +kernel
theorem dX3_isHabit_2 : decode cX3_isHabit 2 = .ok (.aload_n 0, 1) := by decide +kernel
theorem dX3_isHabit_3 : decode cX3_isHabit 3 = .ok (.getfield 73, 3) := by decide +kernel
theorem dX3_isHabit_6 : decode cX3_isHabit 6 = .ok (.iconst 1, 1) := by decide +kernel
theorem dX3_isHabit_7 : decode cX3_isHabit 7 = .ok (.isub, 1) := by decide +kernel
theorem dX3_isHabit_8 : decode cX3_isHabit 8 = .ok (.invokestatic 69, 3) := by decide +kernel
theorem dX3_isHabit_11 : decode cX3_isHabit 11 = .ok (.ireturn, 1) := by decide +kernel
abbrev cX3_walk : ByteArray := prog_22_method_16_code
def yX3_walk : MethodName := ⟨RX3, "walk", "(II)I"⟩
theorem dX3_walk_0 : decode cX3_walk 0 = .ok (.aload_n 0, 1) := by decide +kernel
theorem dX3_walk_1 : decode cX3_walk 1 = .ok (.iload_n 1, 1) := by decide +kernel
theorem dX3_walk_2 : decode cX3_walk 2 = .ok (.invokevirtual 98, 3) := by decide +kernel
theorem dX3_walk_5 : decode cX3_walk 5 = .ok (.ifCond .eq 10, 3) := by decide +kernel
theorem dX3_walk_8 : decode cX3_walk 8 = .ok (.iload_n 2, 1) := by decide +kernel
theorem dX3_walk_9 : decode cX3_walk 9 = .ok (.invokestatic 88, 3) := by decide +kernel
theorem dX3_walk_12 : decode cX3_walk 12 = .ok (.ifCond .ne 5, 3) := by decide +kernel
theorem dX3_walk_15 : decode cX3_walk 15 = .ok (.iconst (-1), 1) := by decide +kernel
theorem dX3_walk_16 : decode cX3_walk 16 = .ok (.ireturn, 1) := by decide +kernel
theorem dX3_walk_17 : decode cX3_walk 17 = .ok (.aload_n 0, 1) := by decide +kernel
theorem dX3_walk_18 : decode cX3_walk 18 = .ok (.getfield 7, 3) := by decide +kernel
theorem dX3_walk_21 : decode cX3_walk 21 = .ok (.sipush 166, 3) := by decide +kernel
theorem dX3_walk_24 : decode cX3_walk 24 = .ok (.iload_n 1, 1) := by decide +kernel
theorem dX3_walk_25 : decode cX3_walk 25 = .ok (.iadd, 1) := by decide +kernel
theorem dX3_walk_26 : decode cX3_walk 26 = .ok (.iaload, 1) := by decide +kernel
theorem dX3_walk_27 : decode cX3_walk 27 = .ok (.iconst 2, 1) := by decide +kernel
theorem dX3_walk_28 : decode cX3_walk 28 = .ok (.if_icmp .ne 6, 3) := by decide +kernel
theorem dX3_walk_31 : decode cX3_walk 31 = .ok (.bipush (-3), 2) := by decide +kernel
theorem dX3_walk_33 : decode cX3_walk 33 = .ok (.ireturn, 1) := by decide +kernel
theorem dX3_walk_34 : decode cX3_walk 34 = .ok (.aload_n 0, 1) := by decide +kernel
theorem dX3_walk_35 : decode cX3_walk 35 = .ok (.getfield 7, 3) := by decide +kernel
theorem dX3_walk_38 : decode cX3_walk 38 = .ok (.sipush 142, 3) := by decide +kernel
theorem dX3_walk_41 : decode cX3_walk 41 = .ok (.iload_n 1, 1) := by decide +kernel
theorem dX3_walk_42 : decode cX3_walk 42 = .ok (.iadd, 1) := by decide +kernel
theorem dX3_walk_43 : decode cX3_walk 43 = .ok (.iaload, 1) := by decide +kernel
theorem dX3_walk_44 : decode cX3_walk 44 = .ok (.istore_n 3, 1) := by decide +kernel
theorem dX3_walk_45 : decode cX3_walk 45 = .ok (.aload_n 0, 1) := by decide +kernel
theorem dX3_walk_46 : decode cX3_walk 46 = .ok (.getfield 7, 3) := by decide +kernel
theorem dX3_walk_49 : decode cX3_walk 49 = .ok (.sipush 142, 3) := by decide +kernel
theorem dX3_walk_52 : decode cX3_walk 52 = .ok (.iload_n 1, 1) := by decide +kernel
theorem dX3_walk_53 : decode cX3_walk 53 = .ok (.iadd, 1) := by decide +kernel
theorem dX3_walk_54 : decode cX3_walk 54 = .ok (.iload_n 2, 1) := by decide +kernel
theorem dX3_walk_55 : decode cX3_walk 55 = .ok (.iastore, 1) := by decide +kernel
theorem dX3_walk_56 : decode cX3_walk 56 = .ok (.aload_n 0, 1) := by decide +kernel
theorem dX3_walk_57 : decode cX3_walk 57 = .ok (.getfield 7, 3) := by decide +kernel
theorem dX3_walk_60 : decode cX3_walk 60 = .ok (.sipush 178, 3) := by decide +kernel
theorem dX3_walk_63 : decode cX3_walk 63 = .ok (.iload_n 1, 1) := by decide +kernel
theorem dX3_walk_64 : decode cX3_walk 64 = .ok (.iadd, 1) := by decide +kernel
theorem dX3_walk_65 : decode cX3_walk 65 = .ok (.iaload, 1) := by decide +kernel
theorem dX3_walk_66 : decode cX3_walk 66 = .ok (.iconst (-1), 1) := by decide +kernel
theorem dX3_walk_67 : decode cX3_walk 67 = .ok (.if_icmp .eq 22, 3) := by decide +kernel
theorem dX3_walk_70 : decode cX3_walk 70 = .ok (.aload_n 0, 1) := by decide +kernel
theorem dX3_walk_71 : decode cX3_walk 71 = .ok (.getfield 7, 3) := by decide +kernel
theorem dX3_walk_74 : decode cX3_walk 74 = .ok (.bipush 70, 2) := by decide +kernel
theorem dX3_walk_76 : decode cX3_walk 76 = .ok (.aload_n 0, 1) := by decide +kernel
theorem dX3_walk_77 : decode cX3_walk 77 = .ok (.getfield 7, 3) := by decide +kernel
theorem dX3_walk_80 : decode cX3_walk 80 = .ok (.sipush 178, 3) := by decide +kernel
theorem dX3_walk_83 : decode cX3_walk 83 = .ok (.iload_n 1, 1) := by decide +kernel
theorem dX3_walk_84 : decode cX3_walk 84 = .ok (.iadd, 1) := by decide +kernel
theorem dX3_walk_85 : decode cX3_walk 85 = .ok (.iaload, 1) := by decide +kernel
theorem dX3_walk_86 : decode cX3_walk 86 = .ok (.iadd, 1) := by decide +kernel
theorem dX3_walk_87 : decode cX3_walk 87 = .ok (.iload_n 2, 1) := by decide +kernel
theorem dX3_walk_88 : decode cX3_walk 88 = .ok (.iastore, 1) := by decide +kernel
theorem dX3_walk_89 : decode cX3_walk 89 = .ok (.iload_n 3, 1) := by decide +kernel
theorem dX3_walk_90 : decode cX3_walk 90 = .ok (.ireturn, 1) := by decide +kernel
abbrev cX3_of : ByteArray := prog_22_method_17_code
def yX3_of : MethodName := ⟨RX3, "of", "(II)I"⟩
theorem dX3_of_0 : decode cX3_of 0 = .ok (.aload_n 0, 1) := by decide +kernel
theorem dX3_of_1 : decode cX3_of 1 = .ok (.iload_n 1, 1) := by decide +kernel
theorem dX3_of_2 : decode cX3_of 2 = .ok (.invokevirtual 91, 3) := by decide +kernel
theorem dX3_of_5 : decode cX3_of 5 = .ok (.ifCond .ne 5, 3) := by decide +kernel
theorem dX3_of_8 : decode cX3_of 8 = .ok (.iconst (-1), 1) := by decide +kernel
theorem dX3_of_9 : decode cX3_of 9 = .ok (.ireturn, 1) := by decide +kernel
theorem dX3_of_10 : decode cX3_of 10 = .ok (.iload_n 2, 1) := by decide +kernel
theorem dX3_of_11 : decode cX3_of 11 = .ok (.tableswitch 115 0 5 #[37, 47, 57, 67, 77, 87], 37) := by decide +kernel
theorem dX3_of_48 : decode cX3_of 48 = .ok (.aload_n 0, 1) := by decide +kernel
theorem dX3_of_49 : decode cX3_of 49 = .ok (.getfield 7, 3) := by decide +kernel
theorem dX3_of_52 : decode cX3_of 52 = .ok (.bipush 90, 2) := by decide +kernel
theorem dX3_of_54 : decode cX3_of 54 = .ok (.iload_n 1, 1) := by decide +kernel
theorem dX3_of_55 : decode cX3_of 55 = .ok (.iadd, 1) := by decide +kernel
theorem dX3_of_56 : decode cX3_of 56 = .ok (.iaload, 1) := by decide +kernel
theorem dX3_of_57 : decode cX3_of 57 = .ok (.ireturn, 1) := by decide +kernel
theorem dX3_of_58 : decode cX3_of 58 = .ok (.aload_n 0, 1) := by decide +kernel
theorem dX3_of_59 : decode cX3_of 59 = .ok (.getfield 7, 3) := by decide +kernel
theorem dX3_of_62 : decode cX3_of 62 = .ok (.bipush 70, 2) := by decide +kernel
theorem dX3_of_64 : decode cX3_of 64 = .ok (.iload_n 1, 1) := by decide +kernel
theorem dX3_of_65 : decode cX3_of 65 = .ok (.iadd, 1) := by decide +kernel
theorem dX3_of_66 : decode cX3_of 66 = .ok (.iaload, 1) := by decide +kernel
theorem dX3_of_67 : decode cX3_of 67 = .ok (.ireturn, 1) := by decide +kernel
theorem dX3_of_68 : decode cX3_of 68 = .ok (.aload_n 0, 1) := by decide +kernel
theorem dX3_of_69 : decode cX3_of 69 = .ok (.getfield 7, 3) := by decide +kernel
theorem dX3_of_72 : decode cX3_of 72 = .ok (.bipush 10, 2) := by decide +kernel
theorem dX3_of_74 : decode cX3_of 74 = .ok (.iload_n 1, 1) := by decide +kernel
theorem dX3_of_75 : decode cX3_of 75 = .ok (.iadd, 1) := by decide +kernel
theorem dX3_of_76 : decode cX3_of 76 = .ok (.iaload, 1) := by decide +kernel
theorem dX3_of_77 : decode cX3_of 77 = .ok (.ireturn, 1) := by decide +kernel
theorem dX3_of_78 : decode cX3_of 78 = .ok (.aload_n 0, 1) := by decide +kernel
theorem dX3_of_79 : decode cX3_of 79 = .ok (.getfield 7, 3) := by decide +kernel
theorem dX3_of_82 : decode cX3_of 82 = .ok (.bipush 30, 2) := by decide +kernel
theorem dX3_of_84 : decode cX3_of 84 = .ok (.iload_n 1, 1) := by decide +kernel
theorem dX3_of_85 : decode cX3_of 85 = .ok (.iadd, 1) := by decide +kernel
theorem dX3_of_86 : decode cX3_of 86 = .ok (.iaload, 1) := by decide +kernel
theorem dX3_of_87 : decode cX3_of 87 = .ok (.ireturn, 1) := by decide +kernel
theorem dX3_of_88 : decode cX3_of 88 = .ok (.aload_n 0, 1) := by decide +kernel
theorem dX3_of_89 : decode cX3_of 89 = .ok (.getfield 7, 3) := by decide +kernel
theorem dX3_of_92 : decode cX3_of 92 = .ok (.bipush 50, 2) := by decide +kernel
theorem dX3_of_94 : decode cX3_of 94 = .ok (.iload_n 1, 1) := by decide +kernel
theorem dX3_of_95 : decode cX3_of 95 = .ok (.iadd, 1) := by decide +kernel
theorem dX3_of_96 : decode cX3_of 96 = .ok (.iaload, 1) := by decide +kernel
theorem dX3_of_97 : decode cX3_of 97 = .ok (.ireturn, 1) := by decide +kernel
theorem dX3_of_98 : decode cX3_of 98 = .ok (.aload_n 0, 1) := by decide +kernel
theorem dX3_of_99 : decode cX3_of 99 = .ok (.getfield 7, 3) := by decide +kernel
theorem dX3_of_102 : decode cX3_of 102 = .ok (.bipush 110, 2) := by decide +kernel
theorem dX3_of_104 : decode cX3_of 104 = .ok (.iload_n 1, 1) := by decide +kernel
theorem dX3_of_105 : decode cX3_of 105 = .ok (.iadd, 1) := by decide +kernel
theorem dX3_of_106 : decode cX3_of 106 = .ok (.iaload, 1) := by decide +kernel
theorem dX3_of_107 : decode cX3_of 107 = .ok (.iconst (-1), 1) := by decide +kernel
theorem dX3_of_108 : decode cX3_of 108 = .ok (.if_icmp .ne 8, 3) := by decide +kernel
theorem dX3_of_111 : decode cX3_of 111 = .ok (.bipush (-5), 2) := by decide +kernel
theorem dX3_of_113 : decode cX3_of 113 = .ok (.goto 12, 3) := by decide +kernel
theorem dX3_of_116 : decode cX3_of 116 = .ok (.aload_n 0, 1) := by decide +kernel
theorem dX3_of_117 : decode cX3_of 117 = .ok (.getfield 7, 3) := by decide +kernel
theorem dX3_of_120 : decode cX3_of 120 = .ok (.bipush 110, 2) := by decide +kernel
theorem dX3_of_122 : decode cX3_of 122 = .ok (.iload_n 1, 1) := by decide +kernel
theorem dX3_of_123 : decode cX3_of 123 = .ok (.iadd, 1) := by decide +kernel
theorem dX3_of_124 : decode cX3_of 124 = .ok (.iaload, 1) := by decide +kernel
theorem dX3_of_125 : decode cX3_of 125 = .ok (.ireturn, 1) := by decide +kernel
theorem dX3_of_126 : decode cX3_of 126 = .ok (.iconst (-1), 1) := by decide +kernel
theorem dX3_of_127 : decode cX3_of 127 = .ok (.ireturn, 1) := by decide +kernel
abbrev cX3_about : ByteArray := prog_22_method_21_code
def yX3_about : MethodName := ⟨RX3, "about", "(II)I"⟩
theorem dX3_about_0 : decode cX3_about 0 = .ok (.aload_n 0, 1) := by decide +kernel
theorem dX3_about_1 : decode cX3_about 1 = .ok (.iload_n 1, 1) := by decide +kernel
theorem dX3_about_2 : decode cX3_about 2 = .ok (.invokevirtual 98, 3) := by decide +kernel
theorem dX3_about_5 : decode cX3_about 5 = .ok (.ifCond .ne 5, 3) := by decide +kernel
theorem dX3_about_8 : decode cX3_about 8 = .ok (.iconst (-1), 1) := by decide +kernel
theorem dX3_about_9 : decode cX3_about 9 = .ok (.ireturn, 1) := by decide +kernel
theorem dX3_about_10 : decode cX3_about 10 = .ok (.iload_n 2, 1) := by decide +kernel
theorem dX3_about_11 : decode cX3_about 11 = .ok (.tableswitch 161 0 7 #[45, 51, 62, 73, 103, 114, 120, 131], 45) := by decide +kernel
theorem dX3_about_56 : decode cX3_about 56 = .ok (.aload_n 0, 1) := by decide +kernel
theorem dX3_about_57 : decode cX3_about 57 = .ok (.iload_n 1, 1) := by decide +kernel
theorem dX3_about_58 : decode cX3_about 58 = .ok (.invokevirtual 111, 3) := by decide +kernel
theorem dX3_about_61 : decode cX3_about 61 = .ok (.ireturn, 1) := by decide +kernel
theorem dX3_about_62 : decode cX3_about 62 = .ok (.aload_n 0, 1) := by decide +kernel
theorem dX3_about_63 : decode cX3_about 63 = .ok (.getfield 7, 3) := by decide +kernel
theorem dX3_about_66 : decode cX3_about 66 = .ok (.sipush 142, 3) := by decide +kernel
theorem dX3_about_69 : decode cX3_about 69 = .ok (.iload_n 1, 1) := by decide +kernel
theorem dX3_about_70 : decode cX3_about 70 = .ok (.iadd, 1) := by decide +kernel
theorem dX3_about_71 : decode cX3_about 71 = .ok (.iaload, 1) := by decide +kernel
theorem dX3_about_72 : decode cX3_about 72 = .ok (.ireturn, 1) := by decide +kernel
theorem dX3_about_73 : decode cX3_about 73 = .ok (.aload_n 0, 1) := by decide +kernel
theorem dX3_about_74 : decode cX3_about 74 = .ok (.getfield 7, 3) := by decide +kernel
theorem dX3_about_77 : decode cX3_about 77 = .ok (.sipush 130, 3) := by decide +kernel
theorem dX3_about_80 : decode cX3_about 80 = .ok (.iload_n 1, 1) := by decide +kernel
theorem dX3_about_81 : decode cX3_about 81 = .ok (.iadd, 1) := by decide +kernel
theorem dX3_about_82 : decode cX3_about 82 = .ok (.iaload, 1) := by decide +kernel
theorem dX3_about_83 : decode cX3_about 83 = .ok (.ireturn, 1) := by decide +kernel
theorem dX3_about_84 : decode cX3_about 84 = .ok (.aload_n 0, 1) := by decide +kernel
theorem dX3_about_85 : decode cX3_about 85 = .ok (.getfield 7, 3) := by decide +kernel
theorem dX3_about_88 : decode cX3_about 88 = .ok (.sipush 178, 3) := by decide +kernel
theorem dX3_about_91 : decode cX3_about 91 = .ok (.iload_n 1, 1) := by decide +kernel
theorem dX3_about_92 : decode cX3_about 92 = .ok (.iadd, 1) := by decide +kernel
theorem dX3_about_93 : decode cX3_about 93 = .ok (.iaload, 1) := by decide +kernel
theorem dX3_about_94 : decode cX3_about 94 = .ok (.iconst (-1), 1) := by decide +kernel
theorem dX3_about_95 : decode cX3_about 95 = .ok (.if_icmp .ne 8, 3) := by decide +kernel
theorem dX3_about_98 : decode cX3_about 98 = .ok (.bipush (-5), 2) := by decide +kernel
theorem dX3_about_100 : decode cX3_about 100 = .ok (.goto 13, 3) := by decide +kernel
theorem dX3_about_103 : decode cX3_about 103 = .ok (.aload_n 0, 1) := by decide +kernel
theorem dX3_about_104 : decode cX3_about 104 = .ok (.getfield 7, 3) := by decide +kernel
theorem dX3_about_107 : decode cX3_about 107 = .ok (.sipush 178, 3) := by decide +kernel
theorem dX3_about_110 : decode cX3_about 110 = .ok (.iload_n 1, 1) := by decide +kernel
theorem dX3_about_111 : decode cX3_about 111 = .ok (.iadd, 1) := by decide +kernel
theorem dX3_about_112 : decode cX3_about 112 = .ok (.iaload, 1) := by decide +kernel
theorem dX3_about_113 : decode cX3_about 113 = .ok (.ireturn, 1) := by decide +kernel
theorem dX3_about_114 : decode cX3_about 114 = .ok (.aload_n 0, 1) := by decide +kernel
theorem dX3_about_115 : decode cX3_about 115 = .ok (.getfield 7, 3) := by decide +kernel
theorem dX3_about_118 : decode cX3_about 118 = .ok (.sipush 190, 3) := by decide +kernel
theorem dX3_about_121 : decode cX3_about 121 = .ok (.iload_n 1, 1) := by decide +kernel
theorem dX3_about_122 : decode cX3_about 122 = .ok (.iadd, 1) := by decide +kernel
theorem dX3_about_123 : decode cX3_about 123 = .ok (.iaload, 1) := by decide +kernel
theorem dX3_about_124 : decode cX3_about 124 = .ok (.ireturn, 1) := by decide +kernel
theorem dX3_about_125 : decode cX3_about 125 = .ok (.aload_n 0, 1) := by decide +kernel
theorem dX3_about_126 : decode cX3_about 126 = .ok (.iload_n 1, 1) := by decide +kernel
theorem dX3_about_127 : decode cX3_about 127 = .ok (.invokevirtual 115, 3) := by decide +kernel
theorem dX3_about_130 : decode cX3_about 130 = .ok (.ireturn, 1) := by decide +kernel
theorem dX3_about_131 : decode cX3_about 131 = .ok (.aload_n 0, 1) := by decide +kernel
theorem dX3_about_132 : decode cX3_about 132 = .ok (.getfield 7, 3) := by decide +kernel
theorem dX3_about_135 : decode cX3_about 135 = .ok (.sipush 202, 3) := by decide +kernel
theorem dX3_about_138 : decode cX3_about 138 = .ok (.iload_n 1, 1) := by decide +kernel
theorem dX3_about_139 : decode cX3_about 139 = .ok (.iadd, 1) := by decide +kernel
theorem dX3_about_140 : decode cX3_about 140 = .ok (.iaload, 1) := by decide +kernel
theorem dX3_about_141 : decode cX3_about 141 = .ok (.ireturn, 1) := by decide +kernel
theorem dX3_about_142 : decode cX3_about 142 = .ok (.aload_n 0, 1) := by decide +kernel
theorem dX3_about_143 : decode cX3_about 143 = .ok (.getfield 7, 3) := by decide +kernel
theorem dX3_about_146 : decode cX3_about 146 = .ok (.sipush 214, 3) := by decide +kernel
theorem dX3_about_149 : decode cX3_about 149 = .ok (.iload_n 1, 1) := by decide +kernel
theorem dX3_about_150 : decode cX3_about 150 = .ok (.iadd, 1) := by decide +kernel
theorem dX3_about_151 : decode cX3_about 151 = .ok (.iaload, 1) := by decide +kernel
theorem dX3_about_152 : decode cX3_about 152 = .ok (.iconst (-1), 1) := by decide +kernel
theorem dX3_about_153 : decode cX3_about 153 = .ok (.if_icmp .ne 8, 3) := by decide +kernel
theorem dX3_about_156 : decode cX3_about 156 = .ok (.bipush (-5), 2) := by decide +kernel
theorem dX3_about_158 : decode cX3_about 158 = .ok (.goto 13, 3) := by decide +kernel
theorem dX3_about_161 : decode cX3_about 161 = .ok (.aload_n 0, 1) := by decide +kernel
theorem dX3_about_162 : decode cX3_about 162 = .ok (.getfield 7, 3) := by decide +kernel
theorem dX3_about_165 : decode cX3_about 165 = .ok (.sipush 214, 3) := by decide +kernel
theorem dX3_about_168 : decode cX3_about 168 = .ok (.iload_n 1, 1) := by decide +kernel
theorem dX3_about_169 : decode cX3_about 169 = .ok (.iadd, 1) := by decide +kernel
theorem dX3_about_170 : decode cX3_about 170 = .ok (.iaload, 1) := by decide +kernel
theorem dX3_about_171 : decode cX3_about 171 = .ok (.ireturn, 1) := by decide +kernel
theorem dX3_about_172 : decode cX3_about 172 = .ok (.iconst (-1), 1) := by decide +kernel
theorem dX3_about_173 : decode cX3_about 173 = .ok (.ireturn, 1) := by decide +kernel
abbrev cX3_kindOf : ByteArray := prog_22_method_20_code
def yX3_kindOf : MethodName := ⟨RX3, "kindOf", "(I)I"⟩
theorem dX3_kindOf_0 : decode cX3_kindOf 0 = .ok (.aload_n 0, 1) := by decide +kernel
theorem dX3_kindOf_1 : decode cX3_kindOf 1 = .ok (.iload_n 1, 1) := by decide +kernel
theorem dX3_kindOf_2 : decode cX3_kindOf 2 = .ok (.invokevirtual 80, 3) := by decide +kernel
theorem dX3_kindOf_5 : decode cX3_kindOf 5 = .ok (.ifCond .ne 24, 3) := by decide +kernel
theorem dX3_kindOf_8 : decode cX3_kindOf 8 = .ok (.aload_n 0, 1) := by decide +kernel
theorem dX3_kindOf_9 : decode cX3_kindOf 9 = .ok (.getfield 7, 3) := by decide +kernel
theorem dX3_kindOf_12 : decode cX3_kindOf 12 = .ok (.sipush 166, 3) := by decide +kernel
theorem dX3_kindOf_15 : decode cX3_kindOf 15 = .ok (.iload_n 1, 1) := by decide +kernel
theorem dX3_kindOf_16 : decode cX3_kindOf 16 = .ok (.iadd, 1) := by decide +kernel
theorem dX3_kindOf_17 : decode cX3_kindOf 17 = .ok (.iaload, 1) := by decide +kernel
theorem dX3_kindOf_18 : decode cX3_kindOf 18 = .ok (.iconst 2, 1) := by decide +kernel
theorem dX3_kindOf_19 : decode cX3_kindOf 19 = .ok (.if_icmp .ne 8, 3) := by decide +kernel
theorem dX3_kindOf_22 : decode cX3_kindOf 22 = .ok (.bipush 6, 2) := by decide +kernel
theorem dX3_kindOf_24 : decode cX3_kindOf 24 = .ok (.goto 4, 3) := by decide +kernel
theorem dX3_kindOf_27 : decode cX3_kindOf 27 = .ok (.iconst 2, 1) := by decide +kernel
theorem dX3_kindOf_28 : decode cX3_kindOf 28 = .ok (.ireturn, 1) := by decide +kernel
theorem dX3_kindOf_29 : decode cX3_kindOf 29 = .ok (.aload_n 0, 1) := by decide +kernel
theorem dX3_kindOf_30 : decode cX3_kindOf 30 = .ok (.iload_n 1, 1) := by decide +kernel
theorem dX3_kindOf_31 : decode cX3_kindOf 31 = .ok (.invokevirtual 104, 3) := by decide +kernel
theorem dX3_kindOf_34 : decode cX3_kindOf 34 = .ok (.ifCond .ne 23, 3) := by decide +kernel
theorem dX3_kindOf_37 : decode cX3_kindOf 37 = .ok (.aload_n 0, 1) := by decide +kernel
theorem dX3_kindOf_38 : decode cX3_kindOf 38 = .ok (.getfield 7, 3) := by decide +kernel
theorem dX3_kindOf_41 : decode cX3_kindOf 41 = .ok (.sipush 226, 3) := by decide +kernel
theorem dX3_kindOf_44 : decode cX3_kindOf 44 = .ok (.iload_n 1, 1) := by decide +kernel
theorem dX3_kindOf_45 : decode cX3_kindOf 45 = .ok (.iadd, 1) := by decide +kernel
theorem dX3_kindOf_46 : decode cX3_kindOf 46 = .ok (.iaload, 1) := by decide +kernel
theorem dX3_kindOf_47 : decode cX3_kindOf 47 = .ok (.iconst 2, 1) := by decide +kernel
theorem dX3_kindOf_48 : decode cX3_kindOf 48 = .ok (.if_icmp .ne 7, 3) := by decide +kernel
theorem dX3_kindOf_51 : decode cX3_kindOf 51 = .ok (.iconst 5, 1) := by decide +kernel
theorem dX3_kindOf_52 : decode cX3_kindOf 52 = .ok (.goto 4, 3) := by decide +kernel
theorem dX3_kindOf_55 : decode cX3_kindOf 55 = .ok (.iconst 1, 1) := by decide +kernel
theorem dX3_kindOf_56 : decode cX3_kindOf 56 = .ok (.ireturn, 1) := by decide +kernel
theorem dX3_kindOf_57 : decode cX3_kindOf 57 = .ok (.iconst 0, 1) := by decide +kernel
theorem dX3_kindOf_58 : decode cX3_kindOf 58 = .ok (.istore_n 2, 1) := by decide +kernel
theorem dX3_kindOf_59 : decode cX3_kindOf 59 = .ok (.iconst 0, 1) := by decide +kernel
theorem dX3_kindOf_60 : decode cX3_kindOf 60 = .ok (.istore_n 3, 1) := by decide +kernel
theorem dX3_kindOf_61 : decode cX3_kindOf 61 = .ok (.iload_n 3, 1) := by decide +kernel
theorem dX3_kindOf_62 : decode cX3_kindOf 62 = .ok (.aload_n 0, 1) := by decide +kernel
theorem dX3_kindOf_63 : decode cX3_kindOf 63 = .ok (.getfield 7, 3) := by decide +kernel
theorem dX3_kindOf_66 : decode cX3_kindOf 66 = .ok (.iconst 1, 1) := by decide +kernel
theorem dX3_kindOf_67 : decode cX3_kindOf 67 = .ok (.iaload, 1) := by decide +kernel
theorem dX3_kindOf_68 : decode cX3_kindOf 68 = .ok (.if_icmp .ge 64, 3) := by decide +kernel
theorem dX3_kindOf_71 : decode cX3_kindOf 71 = .ok (.iload_n 2, 1) := by decide +kernel
theorem dX3_kindOf_72 : decode cX3_kindOf 72 = .ok (.ifCond .ne 48, 3) := by decide +kernel
theorem dX3_kindOf_75 : decode cX3_kindOf 75 = .ok (.iload_n 3, 1) := by decide +kernel
theorem dX3_kindOf_76 : decode cX3_kindOf 76 = .ok (.iload_n 1, 1) := by decide +kernel
theorem dX3_kindOf_77 : decode cX3_kindOf 77 = .ok (.if_icmp .eq 47, 3) := by decide +kernel
theorem dX3_kindOf_80 : decode cX3_kindOf 80 = .ok (.aload_n 0, 1) := by decide +kernel
theorem dX3_kindOf_81 : decode cX3_kindOf 81 = .ok (.iload_n 3, 1) := by decide +kernel
theorem dX3_kindOf_82 : decode cX3_kindOf 82 = .ok (.invokevirtual 104, 3) := by decide +kernel
theorem dX3_kindOf_85 : decode cX3_kindOf 85 = .ok (.ifCond .eq 39, 3) := by decide +kernel
theorem dX3_kindOf_88 : decode cX3_kindOf 88 = .ok (.aload_n 0, 1) := by decide +kernel
theorem dX3_kindOf_89 : decode cX3_kindOf 89 = .ok (.getfield 7, 3) := by decide +kernel
theorem dX3_kindOf_92 : decode cX3_kindOf 92 = .ok (.sipush 142, 3) := by decide +kernel
theorem dX3_kindOf_95 : decode cX3_kindOf 95 = .ok (.iload_n 3, 1) := by decide +kernel
theorem dX3_kindOf_96 : decode cX3_kindOf 96 = .ok (.iadd, 1) := by decide +kernel
theorem dX3_kindOf_97 : decode cX3_kindOf 97 = .ok (.iaload, 1) := by decide +kernel
theorem dX3_kindOf_98 : decode cX3_kindOf 98 = .ok (.aload_n 0, 1) := by decide +kernel
theorem dX3_kindOf_99 : decode cX3_kindOf 99 = .ok (.getfield 7, 3) := by decide +kernel
theorem dX3_kindOf_102 : decode cX3_kindOf 102 = .ok (.sipush 142, 3) := by decide +kernel
theorem dX3_kindOf_105 : decode cX3_kindOf 105 = .ok (.iload_n 1, 1) := by decide +kernel
theorem dX3_kindOf_106 : decode cX3_kindOf 106 = .ok (.iadd, 1) := by decide +kernel
theorem dX3_kindOf_107 : decode cX3_kindOf 107 = .ok (.iaload, 1) := by decide +kernel
theorem dX3_kindOf_108 : decode cX3_kindOf 108 = .ok (.if_icmp .ne 16, 3) := by decide +kernel
theorem dX3_kindOf_111 : decode cX3_kindOf 111 = .ok (.aload_n 0, 1) := by decide +kernel
theorem dX3_kindOf_112 : decode cX3_kindOf 112 = .ok (.iload_n 3, 1) := by decide +kernel
theorem dX3_kindOf_113 : decode cX3_kindOf 113 = .ok (.iload_n 1, 1) := by decide +kernel
theorem dX3_kindOf_114 : decode cX3_kindOf 114 = .ok (.invokevirtual 107, 3) := by decide +kernel
theorem dX3_kindOf_117 : decode cX3_kindOf 117 = .ok (.ifCond .eq 7, 3) := by decide +kernel
theorem dX3_kindOf_120 : decode cX3_kindOf 120 = .ok (.iconst 1, 1) := by decide +kernel
theorem dX3_kindOf_121 : decode cX3_kindOf 121 = .ok (.goto 4, 3) := by decide +kernel
theorem dX3_kindOf_124 : decode cX3_kindOf 124 = .ok (.iconst 0, 1) := by decide +kernel
theorem dX3_kindOf_125 : decode cX3_kindOf 125 = .ok (.istore_n 2, 1) := by decide +kernel
theorem dX3_kindOf_126 : decode cX3_kindOf 126 = .ok (.iinc 3 1, 3) := by decide +kernel
theorem dX3_kindOf_129 : decode cX3_kindOf 129 = .ok (.goto (-68), 3) := by decide +kernel
theorem dX3_kindOf_132 : decode cX3_kindOf 132 = .ok (.iload_n 2, 1) := by decide +kernel
theorem dX3_kindOf_133 : decode cX3_kindOf 133 = .ok (.ifCond .eq 7, 3) := by decide +kernel
theorem dX3_kindOf_136 : decode cX3_kindOf 136 = .ok (.iconst 4, 1) := by decide +kernel
theorem dX3_kindOf_137 : decode cX3_kindOf 137 = .ok (.goto 4, 3) := by decide +kernel
theorem dX3_kindOf_140 : decode cX3_kindOf 140 = .ok (.iconst 3, 1) := by decide +kernel
theorem dX3_kindOf_141 : decode cX3_kindOf 141 = .ok (.ireturn, 1) := by decide +kernel
abbrev cX3_isHoused : ByteArray := prog_22_method_10_code
def yX3_isHoused : MethodName := ⟨RX3, "isHoused", "(I)Z"⟩
theorem dX3_isHoused_0 : decode cX3_isHoused 0 = .ok (.aload_n 0, 1) := by decide +kernel
theorem dX3_isHoused_1 : decode cX3_isHoused 1 = .ok (.getfield 7, 3) := by decide +kernel
theorem dX3_isHoused_4 : decode cX3_isHoused 4 = .ok (.sipush 166, 3) := by decide +kernel
theorem dX3_isHoused_7 : decode cX3_isHoused 7 = .ok (.iload_n 1, 1) := by decide +kernel
theorem dX3_isHoused_8 : decode cX3_isHoused 8 = .ok (.iadd, 1) := by decide +kernel
theorem dX3_isHoused_9 : decode cX3_isHoused 9 = .ok (.iaload, 1) := by decide +kernel
theorem dX3_isHoused_10 : decode cX3_isHoused 10 = .ok (.ifCond .ne 7, 3) := by decide +kernel
theorem dX3_isHoused_13 : decode cX3_isHoused 13 = .ok (.iconst 1, 1) := by decide +kernel
theorem dX3_isHoused_14 : decode cX3_isHoused 14 = .ok (.goto 4, 3) := by decide +kernel
theorem dX3_isHoused_17 : decode cX3_isHoused 17 = .ok (.iconst 0, 1) := by decide +kernel
theorem dX3_isHoused_18 : decode cX3_isHoused 18 = .ok (.ireturn, 1) := by decide +kernel
abbrev cX3_waits : ByteArray := prog_22_method_18_code
def yX3_waits : MethodName := ⟨RX3, "waits", "(I)Z"⟩
theorem dX3_waits_0 : decode cX3_waits 0 = .ok (.aload_n 0, 1) := by decide +kernel
theorem dX3_waits_1 : decode cX3_waits 1 = .ok (.iload_n 1, 1) := by decide +kernel
theorem dX3_waits_2 : decode cX3_waits 2 = .ok (.invokevirtual 80, 3) := by decide +kernel
theorem dX3_waits_5 : decode cX3_waits 5 = .ok (.ifCond .eq 21, 3) := by decide +kernel
theorem dX3_waits_8 : decode cX3_waits 8 = .ok (.aload_n 0, 1) := by decide +kernel
theorem dX3_waits_9 : decode cX3_waits 9 = .ok (.getfield 7, 3) := by decide +kernel
theorem dX3_waits_12 : decode cX3_waits 12 = .ok (.sipush 226, 3) := by decide +kernel
theorem dX3_waits_15 : decode cX3_waits 15 = .ok (.iload_n 1, 1) := by decide +kernel
theorem dX3_waits_16 : decode cX3_waits 16 = .ok (.iadd, 1) := by decide +kernel
theorem dX3_waits_17 : decode cX3_waits 17 = .ok (.iaload, 1) := by decide +kernel
theorem dX3_waits_18 : decode cX3_waits 18 = .ok (.iconst 1, 1) := by decide +kernel
theorem dX3_waits_19 : decode cX3_waits 19 = .ok (.if_icmp .ne 7, 3) := by decide +kernel
theorem dX3_waits_22 : decode cX3_waits 22 = .ok (.iconst 1, 1) := by decide +kernel
theorem dX3_waits_23 : decode cX3_waits 23 = .ok (.goto 4, 3) := by decide +kernel
theorem dX3_waits_26 : decode cX3_waits 26 = .ok (.iconst 0, 1) := by decide +kernel
theorem dX3_waits_27 : decode cX3_waits 27 = .ok (.ireturn, 1) := by decide +kernel
abbrev cX3_isAhead : ByteArray := prog_22_method_19_code
def yX3_isAhead : MethodName := ⟨RX3, "isAhead", "(II)Z"⟩
theorem dX3_isAhead_0 : decode cX3_isAhead 0 = .ok (.aload_n 0, 1) := by decide +kernel
theorem dX3_isAhead_1 : decode cX3_isAhead 1 = .ok (.getfield 7, 3) := by decide +kernel
theorem dX3_isAhead_4 : decode cX3_isAhead 4 = .ok (.sipush 130, 3) := by decide +kernel
theorem dX3_isAhead_7 : decode cX3_isAhead 7 = .ok (.iload_n 1, 1) := by decide +kernel
theorem dX3_isAhead_8 : decode cX3_isAhead 8 = .ok (.iadd, 1) := by decide +kernel
theorem dX3_isAhead_9 : decode cX3_isAhead 9 = .ok (.iaload, 1) := by decide +kernel
theorem dX3_isAhead_10 : decode cX3_isAhead 10 = .ok (.aload_n 0, 1) := by decide +kernel
theorem dX3_isAhead_11 : decode cX3_isAhead 11 = .ok (.getfield 7, 3) := by decide +kernel
theorem dX3_isAhead_14 : decode cX3_isAhead 14 = .ok (.sipush 130, 3) := by decide +kernel
theorem dX3_isAhead_17 : decode cX3_isAhead 17 = .ok (.iload_n 2, 1) := by decide +kernel
theorem dX3_isAhead_18 : decode cX3_isAhead 18 = .ok (.iadd, 1) := by decide +kernel
theorem dX3_isAhead_19 : decode cX3_isAhead 19 = .ok (.iaload, 1) := by decide +kernel
theorem dX3_isAhead_20 : decode cX3_isAhead 20 = .ok (.if_icmp .gt 31, 3) := by decide +kernel
theorem dX3_isAhead_23 : decode cX3_isAhead 23 = .ok (.aload_n 0, 1) := by decide +kernel
theorem dX3_isAhead_24 : decode cX3_isAhead 24 = .ok (.getfield 7, 3) := by decide +kernel
theorem dX3_isAhead_27 : decode cX3_isAhead 27 = .ok (.sipush 130, 3) := by decide +kernel
theorem dX3_isAhead_30 : decode cX3_isAhead 30 = .ok (.iload_n 1, 1) := by decide +kernel
theorem dX3_isAhead_31 : decode cX3_isAhead 31 = .ok (.iadd, 1) := by decide +kernel
theorem dX3_isAhead_32 : decode cX3_isAhead 32 = .ok (.iaload, 1) := by decide +kernel
theorem dX3_isAhead_33 : decode cX3_isAhead 33 = .ok (.aload_n 0, 1) := by decide +kernel
theorem dX3_isAhead_34 : decode cX3_isAhead 34 = .ok (.getfield 7, 3) := by decide +kernel
theorem dX3_isAhead_37 : decode cX3_isAhead 37 = .ok (.sipush 130, 3) := by decide +kernel
theorem dX3_isAhead_40 : decode cX3_isAhead 40 = .ok (.iload_n 2, 1) := by decide +kernel
theorem dX3_isAhead_41 : decode cX3_isAhead 41 = .ok (.iadd, 1) := by decide +kernel
theorem dX3_isAhead_42 : decode cX3_isAhead 42 = .ok (.iaload, 1) := by decide +kernel
theorem dX3_isAhead_43 : decode cX3_isAhead 43 = .ok (.if_icmp .ne 12, 3) := by decide +kernel
theorem dX3_isAhead_46 : decode cX3_isAhead 46 = .ok (.iload_n 1, 1) := by decide +kernel
theorem dX3_isAhead_47 : decode cX3_isAhead 47 = .ok (.iload_n 2, 1) := by decide +kernel
theorem dX3_isAhead_48 : decode cX3_isAhead 48 = .ok (.if_icmp .ge 7, 3) := by decide +kernel
theorem dX3_isAhead_51 : decode cX3_isAhead 51 = .ok (.iconst 1, 1) := by decide +kernel
theorem dX3_isAhead_52 : decode cX3_isAhead 52 = .ok (.goto 4, 3) := by decide +kernel
theorem dX3_isAhead_55 : decode cX3_isAhead 55 = .ok (.iconst 0, 1) := by decide +kernel
theorem dX3_isAhead_56 : decode cX3_isAhead 56 = .ok (.ireturn, 1) := by decide +kernel
abbrev cX3_own : ByteArray := prog_22_method_11_code
def yX3_own : MethodName := ⟨RX3, "own", "(I)I"⟩
theorem dX3_own_0 : decode cX3_own 0 = .ok (.aload_n 0, 1) := by decide +kernel
theorem dX3_own_1 : decode cX3_own 1 = .ok (.iload_n 1, 1) := by decide +kernel
theorem dX3_own_2 : decode cX3_own 2 = .ok (.invokevirtual 80, 3) := by decide +kernel
theorem dX3_own_5 : decode cX3_own 5 = .ok (.ifCond .eq 30, 3) := by decide +kernel
theorem dX3_own_8 : decode cX3_own 8 = .ok (.aload_n 0, 1) := by decide +kernel
theorem dX3_own_9 : decode cX3_own 9 = .ok (.aload_n 0, 1) := by decide +kernel
theorem dX3_own_10 : decode cX3_own 10 = .ok (.getfield 7, 3) := by decide +kernel
theorem dX3_own_13 : decode cX3_own 13 = .ok (.sipush 178, 3) := by decide +kernel
theorem dX3_own_16 : decode cX3_own 16 = .ok (.iload_n 1, 1) := by decide +kernel
theorem dX3_own_17 : decode cX3_own 17 = .ok (.iadd, 1) := by decide +kernel
theorem dX3_own_18 : decode cX3_own 18 = .ok (.iaload, 1) := by decide +kernel
theorem dX3_own_19 : decode cX3_own 19 = .ok (.aload_n 0, 1) := by decide +kernel
theorem dX3_own_20 : decode cX3_own 20 = .ok (.getfield 7, 3) := by decide +kernel
theorem dX3_own_23 : decode cX3_own 23 = .ok (.sipush 130, 3) := by decide +kernel
theorem dX3_own_26 : decode cX3_own 26 = .ok (.iload_n 1, 1) := by decide +kernel
theorem dX3_own_27 : decode cX3_own 27 = .ok (.iadd, 1) := by decide +kernel
theorem dX3_own_28 : decode cX3_own 28 = .ok (.iaload, 1) := by decide +kernel
theorem dX3_own_29 : decode cX3_own 29 = .ok (.invokevirtual 84, 3) := by decide +kernel
theorem dX3_own_32 : decode cX3_own 32 = .ok (.goto 24, 3) := by decide +kernel
theorem dX3_own_35 : decode cX3_own 35 = .ok (.aload_n 0, 1) := by decide +kernel
theorem dX3_own_36 : decode cX3_own 36 = .ok (.getfield 7, 3) := by decide +kernel
theorem dX3_own_39 : decode cX3_own 39 = .ok (.sipush 166, 3) := by decide +kernel
theorem dX3_own_42 : decode cX3_own 42 = .ok (.iload_n 1, 1) := by decide +kernel
theorem dX3_own_43 : decode cX3_own 43 = .ok (.iadd, 1) := by decide +kernel
theorem dX3_own_44 : decode cX3_own 44 = .ok (.iaload, 1) := by decide +kernel
theorem dX3_own_45 : decode cX3_own 45 = .ok (.iconst 1, 1) := by decide +kernel
theorem dX3_own_46 : decode cX3_own 46 = .ok (.if_icmp .ne 8, 3) := by decide +kernel
theorem dX3_own_49 : decode cX3_own 49 = .ok (.bipush (-50), 2) := by decide +kernel
theorem dX3_own_51 : decode cX3_own 51 = .ok (.goto 5, 3) := by decide +kernel
theorem dX3_own_54 : decode cX3_own 54 = .ok (.bipush (-100), 2) := by decide +kernel
theorem dX3_own_56 : decode cX3_own 56 = .ok (.ireturn, 1) := by decide +kernel
abbrev cX3_fitFor : ByteArray := prog_22_method_9_code
def yX3_fitFor : MethodName := ⟨RX3, "fitFor", "(II)I"⟩
theorem dX3_fitFor_0 : decode cX3_fitFor 0 = .ok (.aload_n 0, 1) := by decide +kernel
theorem dX3_fitFor_1 : decode cX3_fitFor 1 = .ok (.getfield 7, 3) := by decide +kernel
theorem dX3_fitFor_4 : decode cX3_fitFor 4 = .ok (.bipush 10, 2) := by decide +kernel
theorem dX3_fitFor_6 : decode cX3_fitFor 6 = .ok (.iload_n 1, 1) := by decide +kernel
theorem dX3_fitFor_7 : decode cX3_fitFor 7 = .ok (.iadd, 1) := by decide +kernel
theorem dX3_fitFor_8 : decode cX3_fitFor 8 = .ok (.iaload, 1) := by decide +kernel
theorem dX3_fitFor_9 : decode cX3_fitFor 9 = .ok (.aload_n 0, 1) := by decide +kernel
theorem dX3_fitFor_10 : decode cX3_fitFor 10 = .ok (.getfield 7, 3) := by decide +kernel
theorem dX3_fitFor_13 : decode cX3_fitFor 13 = .ok (.bipush 30, 2) := by decide +kernel
theorem dX3_fitFor_15 : decode cX3_fitFor 15 = .ok (.iload_n 1, 1) := by decide +kernel
theorem dX3_fitFor_16 : decode cX3_fitFor 16 = .ok (.iadd, 1) := by decide +kernel
theorem dX3_fitFor_17 : decode cX3_fitFor 17 = .ok (.iaload, 1) := by decide +kernel
theorem dX3_fitFor_18 : decode cX3_fitFor 18 = .ok (.aload_n 0, 1) := by decide +kernel
theorem dX3_fitFor_19 : decode cX3_fitFor 19 = .ok (.getfield 7, 3) := by decide +kernel
theorem dX3_fitFor_22 : decode cX3_fitFor 22 = .ok (.bipush 50, 2) := by decide +kernel
theorem dX3_fitFor_24 : decode cX3_fitFor 24 = .ok (.iload_n 1, 1) := by decide +kernel
theorem dX3_fitFor_25 : decode cX3_fitFor 25 = .ok (.iadd, 1) := by decide +kernel
theorem dX3_fitFor_26 : decode cX3_fitFor 26 = .ok (.iaload, 1) := by decide +kernel
theorem dX3_fitFor_27 : decode cX3_fitFor 27 = .ok (.iload_n 2, 1) := by decide +kernel
theorem dX3_fitFor_28 : decode cX3_fitFor 28 = .ok (.invokestatic 76, 3) := by decide +kernel
theorem dX3_fitFor_31 : decode cX3_fitFor 31 = .ok (.ireturn, 1) := by decide +kernel
abbrev cX3_fitOf : ByteArray := prog_22_method_8_code
def yX3_fitOf : MethodName := ⟨RX3, "fitOf", "(IIII)I"⟩
theorem dX3_fitOf_0 : decode cX3_fitOf 0 = .ok (.iload_n 0, 1) := by decide +kernel
theorem dX3_fitOf_1 : decode cX3_fitOf 1 = .ok (.iload_n 3, 1) := by decide +kernel
theorem dX3_fitOf_2 : decode cX3_fitOf 2 = .ok (.isub, 1) := by decide +kernel
theorem dX3_fitOf_3 : decode cX3_fitOf 3 = .ok (.istore 4, 2) := by decide +kernel
theorem dX3_fitOf_5 : decode cX3_fitOf 5 = .ok (.bipush 30, 2) := by decide +kernel
theorem dX3_fitOf_7 : decode cX3_fitOf 7 = .ok (.iload 4, 2) := by decide +kernel
theorem dX3_fitOf_9 : decode cX3_fitOf 9 = .ok (.ifCond .lt 8, 3) := by decide +kernel
theorem dX3_fitOf_12 : decode cX3_fitOf 12 = .ok (.iload 4, 2) := by decide +kernel
theorem dX3_fitOf_14 : decode cX3_fitOf 14 = .ok (.goto 8, 3) := by decide +kernel
theorem dX3_fitOf_17 : decode cX3_fitOf 17 = .ok (.bipush (-3), 2) := by decide +kernel
theorem dX3_fitOf_19 : decode cX3_fitOf 19 = .ok (.iload 4, 2) := by decide +kernel
theorem dX3_fitOf_21 : decode cX3_fitOf 21 = .ok (.imul, 1) := by decide +kernel
theorem dX3_fitOf_22 : decode cX3_fitOf 22 = .ok (.isub, 1) := by decide +kernel
theorem dX3_fitOf_23 : decode cX3_fitOf 23 = .ok (.iconst 2, 1) := by decide +kernel
theorem dX3_fitOf_24 : decode cX3_fitOf 24 = .ok (.iload_n 2, 1) := by decide +kernel
theorem dX3_fitOf_25 : decode cX3_fitOf 25 = .ok (.imul, 1) := by decide +kernel
theorem dX3_fitOf_26 : decode cX3_fitOf 26 = .ok (.isub, 1) := by decide +kernel
theorem dX3_fitOf_27 : decode cX3_fitOf 27 = .ok (.iload_n 1, 1) := by decide +kernel
theorem dX3_fitOf_28 : decode cX3_fitOf 28 = .ok (.iconst 4, 1) := by decide +kernel
theorem dX3_fitOf_29 : decode cX3_fitOf 29 = .ok (.idiv, 1) := by decide +kernel
theorem dX3_fitOf_30 : decode cX3_fitOf 30 = .ok (.isub, 1) := by decide +kernel
theorem dX3_fitOf_31 : decode cX3_fitOf 31 = .ok (.ireturn, 1) := by decide +kernel
abbrev cX3_fit : ByteArray := prog_22_method_22_code
def yX3_fit : MethodName := ⟨RX3, "fit", "(II)I"⟩
theorem dX3_fit_0 : decode cX3_fit 0 = .ok (.aload_n 0, 1) := by decide +kernel
theorem dX3_fit_1 : decode cX3_fit 1 = .ok (.iload_n 1, 1) := by decide +kernel
theorem dX3_fit_2 : decode cX3_fit 2 = .ok (.invokevirtual 91, 3) := by decide +kernel
theorem dX3_fit_5 : decode cX3_fit 5 = .ok (.ifCond .ne 5, 3) := by decide +kernel
theorem dX3_fit_8 : decode cX3_fit 8 = .ok (.iconst (-1), 1) := by decide +kernel
theorem dX3_fit_9 : decode cX3_fit 9 = .ok (.ireturn, 1) := by decide +kernel
theorem dX3_fit_10 : decode cX3_fit 10 = .ok (.iload_n 2, 1) := by decide +kernel
theorem dX3_fit_11 : decode cX3_fit 11 = .ok (.iconst 1, 1) := by decide +kernel
theorem dX3_fit_12 : decode cX3_fit 12 = .ok (.bipush 40, 2) := by decide +kernel
theorem dX3_fit_14 : decode cX3_fit 14 = .ok (.invokestatic 69, 3) := by decide +kernel
theorem dX3_fit_17 : decode cX3_fit 17 = .ok (.ifCond .eq 12, 3) := by decide +kernel
theorem dX3_fit_20 : decode cX3_fit 20 = .ok (.aload_n 0, 1) := by decide +kernel
theorem dX3_fit_21 : decode cX3_fit 21 = .ok (.iload_n 1, 1) := by decide +kernel
theorem dX3_fit_22 : decode cX3_fit 22 = .ok (.iload_n 2, 1) := by decide +kernel
theorem dX3_fit_23 : decode cX3_fit 23 = .ok (.invokevirtual 84, 3) := by decide +kernel
theorem dX3_fit_26 : decode cX3_fit 26 = .ok (.goto 5, 3) := by decide +kernel
theorem dX3_fit_29 : decode cX3_fit 29 = .ok (.bipush (-2), 2) := by decide +kernel
theorem dX3_fit_31 : decode cX3_fit 31 = .ok (.ireturn, 1) := by decide +kernel
abbrev cX3_end : ByteArray := prog_22_method_24_code
def yX3_end : MethodName := ⟨RX3, "end", "(II)I"⟩
theorem dX3_end_0 : decode cX3_end 0 = .ok (.aload_n 0, 1) := by decide +kernel
theorem dX3_end_1 : decode cX3_end 1 = .ok (.iload_n 1, 1) := by decide +kernel
theorem dX3_end_2 : decode cX3_end 2 = .ok (.invokevirtual 91, 3) := by decide +kernel
theorem dX3_end_5 : decode cX3_end 5 = .ok (.ifCond .eq 12, 3) := by decide +kernel
theorem dX3_end_8 : decode cX3_end 8 = .ok (.iload_n 2, 1) := by decide +kernel
theorem dX3_end_9 : decode cX3_end 9 = .ok (.iconst 0, 1) := by decide +kernel
