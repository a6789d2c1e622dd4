set_option maxRecDepth 100000
/-! ShellBeach -/
def RX0 : String := "ShellBeach"
def TX0 : u_T := fun k => match k with
  | 0 => ("ShellBeach", "shells", "Ljava/util/ArrayList;", true)
  | 1 => ("ShellBeach", "ran", "I", false)
  | 2 => ("ShellBeach", "bodies", "[I", true)
  | 3 => ("ShellBeach", "crabs", "Ljava/util/ArrayList;", true)
  | 4 => ("ShellBeach", "tick", "I", false)
  | 5 => ("ShellBeach", "move", "I", false)
  | 6 => ("ShellBeach", "grow", "I", false)
  | 7 => ("ShellBeach", "exchanged", "[I", true)
  | 8 => ("ShellBeach", "tape", "[B", true)
  | 9 => ("ShellBeach", "taped", "I", false)
  | 10 => ("ShellBeach", "asked", "LShellBeach$Case;", true)
  | 11 => ("ShellBeach", "habits", "Ljava/util/ArrayList;", true)
  | 12 => ("ShellBeach", "reader", "LShellBeach$Reader;", true)
  | 13 => ("ShellBeach", "chained", "[I", true)
  | 14 => ("ShellBeach", "chainMany", "I", false)
  | 15 => ("ShellBeach", "chainPoints", "I", false)
  | 16 => ("ShellBeach", "chainEnd", "LShellBeach$Shell;", false)
  | 17 => ("ShellBeach", "told", "[LShellBeach$Crab;", true)
  | 18 => ("ShellBeach", "parted", "[LShellBeach$Shell;", true)
  | 19 => ("ShellBeach", "bestParted", "[LShellBeach$Shell;", true)
  | 20 => ("ShellBeach", "toldMany", "I", false)
  | 21 => ("ShellBeach", "bestPoints", "I", false)
  | 22 => ("ShellBeach", "calmMany", "I", false)
  | 23 => ("ShellBeach", "films", "Ljava/util/ArrayList;", true)
  | 24 => ("ShellBeach", "mendChange", "I", false)
  | 25 => ("ShellBeach", "mendTest", "I", false)
  | _ => ("ShellBeach", "image", "LShellBeach$Image;", false)
def tyX0 : Nat → FieldType := fun k => match k with
  | 0 => .object "java/util/ArrayList"
  | 1 => .int
  | 2 => .array .int
  | 3 => .object "java/util/ArrayList"
  | 4 => .int
  | 5 => .int
  | 6 => .int
  | 7 => .array .int
  | 8 => .array .byte
  | 9 => .int
  | 10 => .object "ShellBeach$Case"
  | 11 => .object "java/util/ArrayList"
  | 12 => .object "ShellBeach$Reader"
  | 13 => .array .int
  | 14 => .int
  | 15 => .int
  | 16 => .object "ShellBeach$Shell"
  | 17 => .array (.object "ShellBeach$Crab")
  | 18 => .array (.object "ShellBeach$Shell")
  | 19 => .array (.object "ShellBeach$Shell")
  | 20 => .int
  | 21 => .int
  | 22 => .int
  | 23 => .object "java/util/ArrayList"
  | 24 => .int
  | 25 => .int
  | _ => .object "ShellBeach$Image"
abbrev wsX00 : List Cond := u_ws RX0 TX0 27
theorem nmX0 : ∀ a, a < 27 → ∀ b, b < 27 → a ≠ b → (TX0 a).2.1 ≠ (TX0 b).2.1 := by decide +kernel
theorem tyX0_ok : ∀ k, k < 27 → parseFieldDescriptor (TX0 k).2.2.1 = some (tyX0 k) := by decide +kernel
abbrev cX0_init : ByteArray := prog_1_method_5_code
def yX0_init : MethodName := ⟨RX0, "<init>", "()V"⟩
theorem dX0_init_0 : decode cX0_init 0 = .ok (.aload_n 0, 1) := by decide +kernel
theorem dX0_init_1 : decode cX0_init 1 = .ok (.invokespecial 23, 3) := by decide +kernel
theorem dX0_init_4 : decode cX0_init 4 = .ok (.aload_n 0, 1) := by decide +kernel
theorem dX0_init_5 : decode cX0_init 5 = .ok (.new 12, 3) := by decide +kernel
theorem dX0_init_8 : decode cX0_init 8 = .ok (.dup, 1) := by decide +kernel
theorem dX0_init_9 : decode cX0_init 9 = .ok (.invokespecial 29, 3) := by decide +kernel
theorem dX0_init_12 : decode cX0_init 12 = .ok (.putfield 7, 3) := by decide +kernel
theorem dX0_init_15 : decode cX0_init 15 = .ok (.aload_n 0, 1) := by decide +kernel
theorem dX0_init_16 : decode cX0_init 16 = .ok (.bipush 20, 2) := by decide +kernel
theorem dX0_init_18 : decode cX0_init 18 = .ok (.newarray .int, 2) := by decide +kernel
theorem dX0_init_20 : decode cX0_init 20 = .ok (.putfield 30, 3) := by decide +kernel
theorem dX0_init_23 : decode cX0_init 23 = .ok (.aload_n 0, 1) := by decide +kernel
theorem dX0_init_24 : decode cX0_init 24 = .ok (.new 12, 3) := by decide +kernel
theorem dX0_init_27 : decode cX0_init 27 = .ok (.dup, 1) := by decide +kernel
theorem dX0_init_28 : decode cX0_init 28 = .ok (.invokespecial 29, 3) := by decide +kernel
theorem dX0_init_31 : decode cX0_init 31 = .ok (.putfield 34, 3) := by decide +kernel
theorem dX0_init_34 : decode cX0_init 34 = .ok (.aload_n 0, 1) := by decide +kernel
theorem dX0_init_35 : decode cX0_init 35 = .ok (.iconst 1, 1) := by decide +kernel
theorem dX0_init_36 : decode cX0_init 36 = .ok (.putfield 37, 3) := by decide +kernel
theorem dX0_init_39 : decode cX0_init 39 = .ok (.aload_n 0, 1) := by decide +kernel
theorem dX0_init_40 : decode cX0_init 40 = .ok (.iconst 3, 1) := by decide +kernel
theorem dX0_init_41 : decode cX0_init 41 = .ok (.newarray .int, 2) := by decide +kernel
theorem dX0_init_43 : decode cX0_init 43 = .ok (.putfield 41, 3) := by decide +kernel
theorem dX0_init_46 : decode cX0_init 46 = .ok (.aload_n 0, 1) := by decide +kernel
theorem dX0_init_47 : decode cX0_init 47 = .ok (.bipush 120, 2) := by decide +kernel
theorem dX0_init_49 : decode cX0_init 49 = .ok (.newarray .byte, 2) := by decide +kernel
theorem dX0_init_51 : decode cX0_init 51 = .ok (.putfield 44, 3) := by decide +kernel
theorem dX0_init_54 : decode cX0_init 54 = .ok (.aload_n 0, 1) := by decide +kernel
theorem dX0_init_55 : decode cX0_init 55 = .ok (.new 48, 3) := by decide +kernel
theorem dX0_init_58 : decode cX0_init 58 = .ok (.dup, 1) := by decide +kernel
theorem dX0_init_59 : decode cX0_init 59 = .ok (.invokespecial 50, 3) := by decide +kernel
theorem dX0_init_62 : decode cX0_init 62 = .ok (.putfield 51, 3) := by decide +kernel
theorem dX0_init_65 : decode cX0_init 65 = .ok (.aload_n 0, 1) := by decide +kernel
theorem dX0_init_66 : decode cX0_init 66 = .ok (.new 12, 3) := by decide +kernel
theorem dX0_init_69 : decode cX0_init 69 = .ok (.dup, 1) := by decide +kernel
theorem dX0_init_70 : decode cX0_init 70 = .ok (.invokespecial 29, 3) := by decide +kernel
theorem dX0_init_73 : decode cX0_init 73 = .ok (.putfield 55, 3) := by decide +kernel
theorem dX0_init_76 : decode cX0_init 76 = .ok (.aload_n 0, 1) := by decide +kernel
theorem dX0_init_77 : decode cX0_init 77 = .ok (.new 58, 3) := by decide +kernel
theorem dX0_init_80 : decode cX0_init 80 = .ok (.dup, 1) := by decide +kernel
theorem dX0_init_81 : decode cX0_init 81 = .ok (.aload_n 0, 1) := by decide +kernel
theorem dX0_init_82 : decode cX0_init 82 = .ok (.invokespecial 60, 3) := by decide +kernel
theorem dX0_init_85 : decode cX0_init 85 = .ok (.putfield 63, 3) := by decide +kernel
theorem dX0_init_88 : decode cX0_init 88 = .ok (.aload_n 0, 1) := by decide +kernel
theorem dX0_init_89 : decode cX0_init 89 = .ok (.bipush 12, 2) := by decide +kernel
theorem dX0_init_91 : decode cX0_init 91 = .ok (.newarray .int, 2) := by decide +kernel
theorem dX0_init_93 : decode cX0_init 93 = .ok (.putfield 67, 3) := by decide +kernel
theorem dX0_init_96 : decode cX0_init 96 = .ok (.aload_n 0, 1) := by decide +kernel
theorem dX0_init_97 : decode cX0_init 97 = .ok (.bipush 6, 2) := by decide +kernel
theorem dX0_init_99 : decode cX0_init 99 = .ok (.anewarray 70, 3) := by decide +kernel
theorem dX0_init_102 : decode cX0_init 102 = .ok (.putfield 72, 3) := by decide +kernel
theorem dX0_init_105 : decode cX0_init 105 = .ok (.aload_n 0, 1) := by decide +kernel
theorem dX0_init_106 : decode cX0_init 106 = .ok (.bipush 6, 2) := by decide +kernel
theorem dX0_init_108 : decode cX0_init 108 = .ok (.anewarray 21, 3) := by decide +kernel
theorem dX0_init_111 : decode cX0_init 111 = .ok (.putfield 76, 3) := by decide +kernel
theorem dX0_init_114 : decode cX0_init 114 = .ok (.aload_n 0, 1) := by decide +kernel
theorem dX0_init_115 : decode cX0_init 115 = .ok (.bipush 6, 2) := by decide +kernel
theorem dX0_init_117 : decode cX0_init 117 = .ok (.anewarray 21, 3) := by decide +kernel
theorem dX0_init_120 : decode cX0_init 120 = .ok (.putfield 80, 3) := by decide +kernel
theorem dX0_init_123 : decode cX0_init 123 = .ok (.aload_n 0, 1) := by decide +kernel
theorem dX0_init_124 : decode cX0_init 124 = .ok (.new 12, 3) := by decide +kernel
theorem dX0_init_127 : decode cX0_init 127 = .ok (.dup, 1) := by decide +kernel
theorem dX0_init_128 : decode cX0_init 128 = .ok (.invokespecial 29, 3) := by decide +kernel
theorem dX0_init_131 : decode cX0_init 131 = .ok (.putfield 83, 3) := by decide +kernel
theorem dX0_init_134 : decode cX0_init 134 = .ok (.return_, 1) := by decide +kernel
abbrev cX0_shell : ByteArray := prog_1_method_6_code
def yX0_shell : MethodName := ⟨RX0, "shell", "(IIII)I"⟩
theorem dX0_shell_0 : decode cX0_shell 0 = .ok (.iload_n 1, 1) := by decide +kernel
theorem dX0_shell_1 : decode cX0_shell 1 = .ok (.invokestatic 86, 3) := by decide +kernel
theorem dX0_shell_4 : decode cX0_shell 4 = .ok (.ifCond .ne 5, 3) := by decide +kernel
theorem dX0_shell_7 : decode cX0_shell 7 = .ok (.iconst (-1), 1) := by decide +kernel
theorem dX0_shell_8 : decode cX0_shell 8 = .ok (.ireturn, 1) := by decide +kernel
theorem dX0_shell_9 : decode cX0_shell 9 = .ok (.iload_n 2, 1) := by decide +kernel
theorem dX0_shell_10 : decode cX0_shell 10 = .ok (.iconst 1, 1) := by decide +kernel
theorem dX0_shell_11 : decode cX0_shell 11 = .ok (.bipush 40, 2) := by decide +kernel
theorem dX0_shell_13 : decode cX0_shell 13 = .ok (.invokestatic 3, 3) := by decide +kernel
theorem dX0_shell_16 : decode cX0_shell 16 = .ok (.ifCond .eq 24, 3) := by decide +kernel
theorem dX0_shell_19 : decode cX0_shell 19 = .ok (.iload_n 3, 1) := by decide +kernel
theorem dX0_shell_20 : decode cX0_shell 20 = .ok (.iconst 0, 1) := by decide +kernel
theorem dX0_shell_21 : decode cX0_shell 21 = .ok (.bipush 20, 2) := by decide +kernel
theorem dX0_shell_23 : decode cX0_shell 23 = .ok (.invokestatic 3, 3) := by decide +kernel
theorem dX0_shell_26 : decode cX0_shell 26 = .ok (.ifCond .eq 14, 3) := by decide +kernel
theorem dX0_shell_29 : decode cX0_shell 29 = .ok (.iload 4, 2) := by decide +kernel
theorem dX0_shell_31 : decode cX0_shell 31 = .ok (.iconst 0, 1) := by decide +kernel
theorem dX0_shell_32 : decode cX0_shell 32 = .ok (.bipush 9, 2) := by decide +kernel
theorem dX0_shell_34 : decode cX0_shell 34 = .ok (.invokestatic 3, 3) := by decide +kernel
theorem dX0_shell_37 : decode cX0_shell 37 = .ok (.ifCond .ne 6, 3) := by decide +kernel
theorem dX0_shell_40 : decode cX0_shell 40 = .ok (.bipush (-2), 2) := by decide +kernel
theorem dX0_shell_42 : decode cX0_shell 42 = .ok (.ireturn, 1) := by decide +kernel
theorem dX0_shell_43 : decode cX0_shell 43 = .ok (.aload_n 0, 1) := by decide +kernel
theorem dX0_shell_44 : decode cX0_shell 44 = .ok (.getfield 7, 3) := by decide +kernel
theorem dX0_shell_47 : decode cX0_shell 47 = .ok (.invokevirtual 11, 3) := by decide +kernel
theorem dX0_shell_50 : decode cX0_shell 50 = .ok (.bipush 20, 2) := by decide +kernel
theorem dX0_shell_52 : decode cX0_shell 52 = .ok (.if_icmp .ne 6, 3) := by decide +kernel
theorem dX0_shell_55 : decode cX0_shell 55 = .ok (.bipush (-4), 2) := by decide +kernel
theorem dX0_shell_57 : decode cX0_shell 57 = .ok (.ireturn, 1) := by decide +kernel
theorem dX0_shell_58 : decode cX0_shell 58 = .ok (.aload_n 0, 1) := by decide +kernel
theorem dX0_shell_59 : decode cX0_shell 59 = .ok (.getfield 7, 3) := by decide +kernel
theorem dX0_shell_62 : decode cX0_shell 62 = .ok (.new 21, 3) := by decide +kernel
theorem dX0_shell_65 : decode cX0_shell 65 = .ok (.dup, 1) := by decide +kernel
theorem dX0_shell_66 : decode cX0_shell 66 = .ok (.aload_n 0, 1) := by decide +kernel
theorem dX0_shell_67 : decode cX0_shell 67 = .ok (.getfield 7, 3) := by decide +kernel
theorem dX0_shell_70 : decode cX0_shell 70 = .ok (.invokevirtual 11, 3) := by decide +kernel
theorem dX0_shell_73 : decode cX0_shell 73 = .ok (.iload_n 1, 1) := by decide +kernel
theorem dX0_shell_74 : decode cX0_shell 74 = .ok (.iload_n 2, 1) := by decide +kernel
theorem dX0_shell_75 : decode cX0_shell 75 = .ok (.iload_n 3, 1) := by decide +kernel
theorem dX0_shell_76 : decode cX0_shell 76 = .ok (.iload 4, 2) := by decide +kernel
theorem dX0_shell_78 : decode cX0_shell 78 = .ok (.invokespecial 90, 3) := by decide +kernel
theorem dX0_shell_81 : decode cX0_shell 81 = .ok (.invokevirtual 93, 3) := by decide +kernel
theorem dX0_shell_84 : decode cX0_shell 84 = .ok (.pop, 1) := by decide +kernel
theorem dX0_shell_85 : decode cX0_shell 85 = .ok (.aload_n 0, 1) := by decide +kernel
theorem dX0_shell_86 : decode cX0_shell 86 = .ok (.getfield 7, 3) := by decide +kernel
theorem dX0_shell_89 : decode cX0_shell 89 = .ok (.invokevirtual 11, 3) := by decide +kernel
theorem dX0_shell_92 : decode cX0_shell 92 = .ok (.iconst 1, 1) := by decide +kernel
theorem dX0_shell_93 : decode cX0_shell 93 = .ok (.isub, 1) := by decide +kernel
theorem dX0_shell_94 : decode cX0_shell 94 = .ok (.ireturn, 1) := by decide +kernel
abbrev cX0_isCell : ByteArray := prog_1_method_2_code
def yX0_isCell : MethodName := ⟨RX0, "isCell", "(I)Z"⟩
theorem dX0_isCell_0 : decode cX0_isCell 0 = .ok (.iload_n 0, 1) := by decide +kernel
theorem dX0_isCell_1 : decode cX0_isCell 1 = .ok (.iconst 0, 1) := by decide +kernel
theorem dX0_isCell_2 : decode cX0_isCell 2 = .ok (.bipush 7, 2) := by decide +kernel
theorem dX0_isCell_4 : decode cX0_isCell 4 = .ok (.invokestatic 3, 3) := by decide +kernel
theorem dX0_isCell_7 : decode cX0_isCell 7 = .ok (.ireturn, 1) := by decide +kernel
abbrev cX0_in : ByteArray := prog_1_method_1_code
def yX0_in : MethodName := ⟨RX0, "in", "(III)Z"⟩
theorem dX0_in_0 : decode cX0_in 0 = .ok (.iload_n 0, 1) := by decide +kernel
theorem dX0_in_1 : decode cX0_in 1 = .ok (.iload_n 1, 1) := by decide +kernel
theorem dX0_in_2 : decode cX0_in 2 = .ok (.if_icmp .lt 12, 3) := by decide +kernel
theorem dX0_in_5 : decode cX0_in 5 = .ok (.iload_n 0, 1) := by decide +kernel
theorem dX0_in_6 : decode cX0_in 6 = .ok (.iload_n 2, 1) := by decide +kernel
theorem dX0_in_7 : decode cX0_in 7 = .ok (.if_icmp .gt 7, 3) := by decide +kernel
theorem dX0_in_10 : decode cX0_in 10 = .ok (.iconst 1, 1) := by decide +kernel
theorem dX0_in_11 : decode cX0_in 11 = .ok (.goto 4, 3) := by decide +kernel
theorem dX0_in_14 : decode cX0_in 14 = .ok (.iconst 0, 1) := by decide +kernel
theorem dX0_in_15 : decode cX0_in 15 = .ok (.ireturn, 1) := by decide +kernel
abbrev cX0_crab : ByteArray := prog_1_method_10_code
def yX0_crab : MethodName := ⟨RX0, "crab", "(III)I"⟩
theorem dX0_crab_0 : decode cX0_crab 0 = .ok (.iload_n 1, 1) := by decide +kernel
theorem dX0_crab_1 : decode cX0_crab 1 = .ok (.invokestatic 86, 3) := by decide +kernel
theorem dX0_crab_4 : decode cX0_crab 4 = .ok (.ifCond .eq 16, 3) := by decide +kernel
theorem dX0_crab_7 : decode cX0_crab 7 = .ok (.iload_n 3, 1) := by decide +kernel
theorem dX0_crab_8 : decode cX0_crab 8 = .ok (.iconst (-1), 1) := by decide +kernel
theorem dX0_crab_9 : decode cX0_crab 9 = .ok (.if_icmp .eq 13, 3) := by decide +kernel
theorem dX0_crab_12 : decode cX0_crab 12 = .ok (.aload_n 0, 1) := by decide +kernel
theorem dX0_crab_13 : decode cX0_crab 13 = .ok (.iload_n 3, 1) := by decide +kernel
theorem dX0_crab_14 : decode cX0_crab 14 = .ok (.invokevirtual 111, 3) := by decide +kernel
theorem dX0_crab_17 : decode cX0_crab 17 = .ok (.ifnonnull 5, 3) := by decide +kernel
theorem dX0_crab_20 : decode cX0_crab 20 = .ok (.iconst (-1), 1) := by decide +kernel
theorem dX0_crab_21 : decode cX0_crab 21 = .ok (.ireturn, 1) := by decide +kernel
theorem dX0_crab_22 : decode cX0_crab 22 = .ok (.iload_n 2, 1) := by decide +kernel
theorem dX0_crab_23 : decode cX0_crab 23 = .ok (.iconst 1, 1) := by decide +kernel
theorem dX0_crab_24 : decode cX0_crab 24 = .ok (.bipush 40, 2) := by decide +kernel
theorem dX0_crab_26 : decode cX0_crab 26 = .ok (.invokestatic 3, 3) := by decide +kernel
theorem dX0_crab_29 : decode cX0_crab 29 = .ok (.ifCond .ne 6, 3) := by decide +kernel
theorem dX0_crab_32 : decode cX0_crab 32 = .ok (.bipush (-2), 2) := by decide +kernel
theorem dX0_crab_34 : decode cX0_crab 34 = .ok (.ireturn, 1) := by decide +kernel
theorem dX0_crab_35 : decode cX0_crab 35 = .ok (.iload_n 3, 1) := by decide +kernel
theorem dX0_crab_36 : decode cX0_crab 36 = .ok (.iconst (-1), 1) := by decide +kernel
theorem dX0_crab_37 : decode cX0_crab 37 = .ok (.if_icmp .eq 24, 3) := by decide +kernel
theorem dX0_crab_40 : decode cX0_crab 40 = .ok (.aload_n 0, 1) := by decide +kernel
theorem dX0_crab_41 : decode cX0_crab 41 = .ok (.getfield 7, 3) := by decide +kernel
theorem dX0_crab_44 : decode cX0_crab 44 = .ok (.iload_n 3, 1) := by decide +kernel
theorem dX0_crab_45 : decode cX0_crab 45 = .ok (.invokevirtual 17, 3) := by decide +kernel
theorem dX0_crab_48 : decode cX0_crab 48 = .ok (.checkcast 21, 3) := by decide +kernel
theorem dX0_crab_51 : decode cX0_crab 51 = .ok (.iload_n 1, 1) := by decide +kernel
theorem dX0_crab_52 : decode cX0_crab 52 = .ok (.invokevirtual 115, 3) := by decide +kernel
theorem dX0_crab_55 : decode cX0_crab 55 = .ok (.ifCond .ne 6, 3) := by decide +kernel
theorem dX0_crab_58 : decode cX0_crab 58 = .ok (.bipush (-3), 2) := by decide +kernel
theorem dX0_crab_60 : decode cX0_crab 60 = .ok (.ireturn, 1) := by decide +kernel
theorem dX0_crab_61 : decode cX0_crab 61 = .ok (.aload_n 0, 1) := by decide +kernel
theorem dX0_crab_62 : decode cX0_crab 62 = .ok (.getfield 34, 3) := by decide +kernel
theorem dX0_crab_65 : decode cX0_crab 65 = .ok (.invokevirtual 11, 3) := by decide +kernel
theorem dX0_crab_68 : decode cX0_crab 68 = .ok (.bipush 12, 2) := by decide +kernel
theorem dX0_crab_70 : decode cX0_crab 70 = .ok (.if_icmp .ne 6, 3) := by decide +kernel
theorem dX0_crab_73 : decode cX0_crab 73 = .ok (.bipush (-4), 2) := by decide +kernel
theorem dX0_crab_75 : decode cX0_crab 75 = .ok (.ireturn, 1) := by decide +kernel
theorem dX0_crab_76 : decode cX0_crab 76 = .ok (.new 70, 3) := by decide +kernel
theorem dX0_crab_79 : decode cX0_crab 79 = .ok (.dup, 1) := by decide +kernel
theorem dX0_crab_80 : decode cX0_crab 80 = .ok (.aload_n 0, 1) := by decide +kernel
theorem dX0_crab_81 : decode cX0_crab 81 = .ok (.aload_n 0, 1) := by decide +kernel
theorem dX0_crab_82 : decode cX0_crab 82 = .ok (.getfield 34, 3) := by decide +kernel
theorem dX0_crab_85 : decode cX0_crab 85 = .ok (.invokevirtual 11, 3) := by decide +kernel
theorem dX0_crab_88 : decode cX0_crab 88 = .ok (.iload_n 1, 1) := by decide +kernel
theorem dX0_crab_89 : decode cX0_crab 89 = .ok (.iload_n 2, 1) := by decide +kernel
theorem dX0_crab_90 : decode cX0_crab 90 = .ok (.invokespecial 118, 3) := by decide +kernel
theorem dX0_crab_93 : decode cX0_crab 93 = .ok (.astore 4, 2) := by decide +kernel
theorem dX0_crab_95 : decode cX0_crab 95 = .ok (.iload_n 3, 1) := by decide +kernel
theorem dX0_crab_96 : decode cX0_crab 96 = .ok (.iconst (-1), 1) := by decide +kernel
theorem dX0_crab_97 : decode cX0_crab 97 = .ok (.if_icmp .eq 19, 3) := by decide +kernel
theorem dX0_crab_100 : decode cX0_crab 100 = .ok (.aload 4, 2) := by decide +kernel
theorem dX0_crab_102 : decode cX0_crab 102 = .ok (.aload_n 0, 1) := by decide +kernel
theorem dX0_crab_103 : decode cX0_crab 103 = .ok (.getfield 7, 3) := by decide +kernel
theorem dX0_crab_106 : decode cX0_crab 106 = .ok (.iload_n 3, 1) := by decide +kernel
theorem dX0_crab_107 : decode cX0_crab 107 = .ok (.invokevirtual 17, 3) := by decide +kernel
theorem dX0_crab_110 : decode cX0_crab 110 = .ok (.checkcast 21, 3) := by decide +kernel
theorem dX0_crab_113 : decode cX0_crab 113 = .ok (.invokevirtual 121, 3) := by decide +kernel
theorem dX0_crab_116 : decode cX0_crab 116 = .ok (.aload_n 0, 1) := by decide +kernel
theorem dX0_crab_117 : decode cX0_crab 117 = .ok (.getfield 34, 3) := by decide +kernel
theorem dX0_crab_120 : decode cX0_crab 120 = .ok (.aload 4, 2) := by decide +kernel
theorem dX0_crab_122 : decode cX0_crab 122 = .ok (.invokevirtual 93, 3) := by decide +kernel
theorem dX0_crab_125 : decode cX0_crab 125 = .ok (.pop, 1) := by decide +kernel
theorem dX0_crab_126 : decode cX0_crab 126 = .ok (.aload 4, 2) := by decide +kernel
theorem dX0_crab_128 : decode cX0_crab 128 = .ok (.getfield 125, 3) := by decide +kernel
theorem dX0_crab_131 : decode cX0_crab 131 = .ok (.ireturn, 1) := by decide +kernel
abbrev cX0_shellAt : ByteArray := prog_1_method_4_code
def yX0_shellAt : MethodName := ⟨RX0, "shellAt", "(I)LShellBeach$Shell;"⟩
theorem dX0_shellAt_0 : decode cX0_shellAt 0 = .ok (.iload_n 1, 1) := by decide +kernel
theorem dX0_shellAt_1 : decode cX0_shellAt 1 = .ok (.ifCond .lt 14, 3) := by decide +kernel
theorem dX0_shellAt_4 : decode cX0_shellAt 4 = .ok (.iload_n 1, 1) := by decide +kernel
theorem dX0_shellAt_5 : decode cX0_shellAt 5 = .ok (.aload_n 0, 1) := by decide +kernel
theorem dX0_shellAt_6 : decode cX0_shellAt 6 = .ok (.getfield 7, 3) := by decide +kernel
theorem dX0_shellAt_9 : decode cX0_shellAt 9 = .ok (.invokevirtual 11, 3) := by decide +kernel
theorem dX0_shellAt_12 : decode cX0_shellAt 12 = .ok (.if_icmp .lt 7, 3) := by decide +kernel
theorem dX0_shellAt_15 : decode cX0_shellAt 15 = .ok (.aconst_null, 1) := by decide +kernel
theorem dX0_shellAt_16 : decode cX0_shellAt 16 = .ok (.goto 14, 3) := by decide +kernel
theorem dX0_shellAt_19 : decode cX0_shellAt 19 = .ok (.aload_n 0, 1) := by decide +kernel
theorem dX0_shellAt_20 : decode cX0_shellAt 20 = .ok (.getfield 7, 3) := by decide +kernel
theorem dX0_shellAt_23 : decode cX0_shellAt 23 = .ok (.iload_n 1, 1) := by decide +kernel
theorem dX0_shellAt_24 : decode cX0_shellAt 24 = .ok (.invokevirtual 17, 3) := by decide +kernel
theorem dX0_shellAt_27 : decode cX0_shellAt 27 = .ok (.checkcast 21, 3) := by decide +kernel
theorem dX0_shellAt_30 : decode cX0_shellAt 30 = .ok (.areturn, 1) := by decide +kernel
abbrev cX0_habit : ByteArray := prog_1_method_11_code
def yX0_habit : MethodName := ⟨RX0, "habit", "(II)I"⟩
theorem dX0_habit_0 : decode cX0_habit 0 = .ok (.aload_n 0, 1) := by decide +kernel
theorem dX0_habit_1 : decode cX0_habit 1 = .ok (.iload_n 1, 1) := by decide +kernel
theorem dX0_habit_2 : decode cX0_habit 2 = .ok (.invokevirtual 128, 3) := by decide +kernel
theorem dX0_habit_5 : decode cX0_habit 5 = .ok (.astore_n 3, 1) := by decide +kernel
theorem dX0_habit_6 : decode cX0_habit 6 = .ok (.aload_n 3, 1) := by decide +kernel
theorem dX0_habit_7 : decode cX0_habit 7 = .ok (.ifnull 16, 3) := by decide +kernel
theorem dX0_habit_10 : decode cX0_habit 10 = .ok (.iload_n 2, 1) := by decide +kernel
theorem dX0_habit_11 : decode cX0_habit 11 = .ok (.iconst (-1), 1) := by decide +kernel
theorem dX0_habit_12 : decode cX0_habit 12 = .ok (.if_icmp .eq 13, 3) := by decide +kernel
theorem dX0_habit_15 : decode cX0_habit 15 = .ok (.aload_n 0, 1) := by decide +kernel
theorem dX0_habit_16 : decode cX0_habit 16 = .ok (.iload_n 2, 1) := by decide +kernel
theorem dX0_habit_17 : decode cX0_habit 17 = .ok (.invokevirtual 132, 3) := by decide +kernel
theorem dX0_habit_20 : decode cX0_habit 20 = .ok (.ifnonnull 5, 3) := by decide +kernel
theorem dX0_habit_23 : decode cX0_habit 23 = .ok (.iconst (-1), 1) := by decide +kernel
theorem dX0_habit_24 : decode cX0_habit 24 = .ok (.ireturn, 1) := by decide +kernel
theorem dX0_habit_25 : decode cX0_habit 25 = .ok (.aload_n 3, 1) := by decide +kernel
theorem dX0_habit_26 : decode cX0_habit 26 = .ok (.getfield 136, 3) := by decide +kernel
theorem dX0_habit_29 : decode cX0_habit 29 = .ok (.ifnonnull 8, 3) := by decide +kernel
theorem dX0_habit_32 : decode cX0_habit 32 = .ok (.bipush (-5), 2) := by decide +kernel
theorem dX0_habit_34 : decode cX0_habit 34 = .ok (.goto 10, 3) := by decide +kernel
theorem dX0_habit_37 : decode cX0_habit 37 = .ok (.aload_n 3, 1) := by decide +kernel
theorem dX0_habit_38 : decode cX0_habit 38 = .ok (.getfield 136, 3) := by decide +kernel
theorem dX0_habit_41 : decode cX0_habit 41 = .ok (.getfield 140, 3) := by decide +kernel
theorem dX0_habit_44 : decode cX0_habit 44 = .ok (.istore 4, 2) := by decide +kernel
theorem dX0_habit_46 : decode cX0_habit 46 = .ok (.aload_n 3, 1) := by decide +kernel
theorem dX0_habit_47 : decode cX0_habit 47 = .ok (.aload_n 0, 1) := by decide +kernel
theorem dX0_habit_48 : decode cX0_habit 48 = .ok (.iload_n 2, 1) := by decide +kernel
theorem dX0_habit_49 : decode cX0_habit 49 = .ok (.invokevirtual 132, 3) := by decide +kernel
theorem dX0_habit_52 : decode cX0_habit 52 = .ok (.putfield 136, 3) := by decide +kernel
theorem dX0_habit_55 : decode cX0_habit 55 = .ok (.iload 4, 2) := by decide +kernel
theorem dX0_habit_57 : decode cX0_habit 57 = .ok (.ireturn, 1) := by decide +kernel
abbrev cX0_crabAt : ByteArray := prog_1_method_8_code
def yX0_crabAt : MethodName := ⟨RX0, "crabAt", "(I)LShellBeach$Crab;"⟩
theorem dX0_crabAt_0 : decode cX0_crabAt 0 = .ok (.iload_n 1, 1) := by decide +kernel
theorem dX0_crabAt_1 : decode cX0_crabAt 1 = .ok (.ifCond .lt 14, 3) := by decide +kernel
theorem dX0_crabAt_4 : decode cX0_crabAt 4 = .ok (.iload_n 1, 1) := by decide +kernel
theorem dX0_crabAt_5 : decode cX0_crabAt 5 = .ok (.aload_n 0, 1) := by decide +kernel
theorem dX0_crabAt_6 : decode cX0_crabAt 6 = .ok (.getfield 34, 3) := by decide +kernel
theorem dX0_crabAt_9 : decode cX0_crabAt 9 = .ok (.invokevirtual 11, 3) := by decide +kernel
theorem dX0_crabAt_12 : decode cX0_crabAt 12 = .ok (.if_icmp .lt 7, 3) := by decide +kernel
theorem dX0_crabAt_15 : decode cX0_crabAt 15 = .ok (.aconst_null, 1) := by decide +kernel
theorem dX0_crabAt_16 : decode cX0_crabAt 16 = .ok (.goto 14, 3) := by decide +kernel
theorem dX0_crabAt_19 : decode cX0_crabAt 19 = .ok (.aload_n 0, 1) := by decide +kernel
theorem dX0_crabAt_20 : decode cX0_crabAt 20 = .ok (.getfield 34, 3) := by decide +kernel
theorem dX0_crabAt_23 : decode cX0_crabAt 23 = .ok (.iload_n 1, 1) := by decide +kernel
theorem dX0_crabAt_24 : decode cX0_crabAt 24 = .ok (.invokevirtual 17, 3) := by decide +kernel
theorem dX0_crabAt_27 : decode cX0_crabAt 27 = .ok (.checkcast 70, 3) := by decide +kernel
theorem dX0_crabAt_30 : decode cX0_crabAt 30 = .ok (.areturn, 1) := by decide +kernel
abbrev cX0_habitAt : ByteArray := prog_1_method_18_code
def yX0_habitAt : MethodName := ⟨RX0, "habitAt", "(I)LShellBeach$Habit;"⟩
theorem dX0_habitAt_0 : decode cX0_habitAt 0 = .ok (.iload_n 1, 1) := by decide +kernel
theorem dX0_habitAt_1 : decode cX0_habitAt 1 = .ok (.ifCond .lt 14, 3) := by decide +kernel
theorem dX0_habitAt_4 : decode cX0_habitAt 4 = .ok (.iload_n 1, 1) := by decide +kernel
theorem dX0_habitAt_5 : decode cX0_habitAt 5 = .ok (.aload_n 0, 1) := by decide +kernel
theorem dX0_habitAt_6 : decode cX0_habitAt 6 = .ok (.getfield 55, 3) := by decide +kernel
theorem dX0_habitAt_9 : decode cX0_habitAt 9 = .ok (.invokevirtual 11, 3) := by decide +kernel
theorem dX0_habitAt_12 : decode cX0_habitAt 12 = .ok (.if_icmp .lt 7, 3) := by decide +kernel
theorem dX0_habitAt_15 : decode cX0_habitAt 15 = .ok (.aconst_null, 1) := by decide +kernel
theorem dX0_habitAt_16 : decode cX0_habitAt 16 = .ok (.goto 14, 3) := by decide +kernel
theorem dX0_habitAt_19 : decode cX0_habitAt 19 = .ok (.aload_n 0, 1) := by decide +kernel
theorem dX0_habitAt_20 : decode cX0_habitAt 20 = .ok (.getfield 55, 3) := by decide +kernel
theorem dX0_habitAt_23 : decode cX0_habitAt 23 = .ok (.iload_n 1, 1) := by decide +kernel
theorem dX0_habitAt_24 : decode cX0_habitAt 24 = .ok (.invokevirtual 17, 3) := by decide +kernel
theorem dX0_habitAt_27 : decode cX0_habitAt 27 = .ok (.checkcast 141, 3) := by decide +kernel
theorem dX0_habitAt_30 : decode cX0_habitAt 30 = .ok (.areturn, 1) := by decide +kernel
abbrev cX0_walk : ByteArray := prog_1_method_12_code
def yX0_walk : MethodName := ⟨RX0, "walk", "(II)I"⟩
theorem dX0_walk_0 : decode cX0_walk 0 = .ok (.aload_n 0, 1) := by decide +kernel
theorem dX0_walk_1 : decode cX0_walk 1 = .ok (.iload_n 1, 1) := by decide +kernel
theorem dX0_walk_2 : decode cX0_walk 2 = .ok (.invokevirtual 128, 3) := by decide +kernel
theorem dX0_walk_5 : decode cX0_walk 5 = .ok (.astore_n 3, 1) := by decide +kernel
theorem dX0_walk_6 : decode cX0_walk 6 = .ok (.aload_n 3, 1) := by decide +kernel
theorem dX0_walk_7 : decode cX0_walk 7 = .ok (.ifnull 10, 3) := by decide +kernel
theorem dX0_walk_10 : decode cX0_walk 10 = .ok (.iload_n 2, 1) := by decide +kernel
theorem dX0_walk_11 : decode cX0_walk 11 = .ok (.invokestatic 86, 3) := by decide +kernel
theorem dX0_walk_14 : decode cX0_walk 14 = .ok (.ifCond .ne 5, 3) := by decide +kernel
theorem dX0_walk_17 : decode cX0_walk 17 = .ok (.iconst (-1), 1) := by decide +kernel
theorem dX0_walk_18 : decode cX0_walk 18 = .ok (.ireturn, 1) := by decide +kernel
theorem dX0_walk_19 : decode cX0_walk 19 = .ok (.aload_n 3, 1) := by decide +kernel
theorem dX0_walk_20 : decode cX0_walk 20 = .ok (.getfield 143, 3) := by decide +kernel
theorem dX0_walk_23 : decode cX0_walk 23 = .ok (.ifCond .eq 6, 3) := by decide +kernel
theorem dX0_walk_26 : decode cX0_walk 26 = .ok (.bipush (-3), 2) := by decide +kernel
theorem dX0_walk_28 : decode cX0_walk 28 = .ok (.ireturn, 1) := by decide +kernel
theorem dX0_walk_29 : decode cX0_walk 29 = .ok (.aload_n 3, 1) := by decide +kernel
theorem dX0_walk_30 : decode cX0_walk 30 = .ok (.getfield 104, 3) := by decide +kernel
theorem dX0_walk_33 : decode cX0_walk 33 = .ok (.istore 4, 2) := by decide +kernel
theorem dX0_walk_35 : decode cX0_walk 35 = .ok (.aload_n 3, 1) := by decide +kernel
theorem dX0_walk_36 : decode cX0_walk 36 = .ok (.iload_n 2, 1) := by decide +kernel
theorem dX0_walk_37 : decode cX0_walk 37 = .ok (.putfield 104, 3) := by decide +kernel
theorem dX0_walk_40 : decode cX0_walk 40 = .ok (.aload_n 3, 1) := by decide +kernel
theorem dX0_walk_41 : decode cX0_walk 41 = .ok (.getfield 147, 3) := by decide +kernel
theorem dX0_walk_44 : decode cX0_walk 44 = .ok (.ifnull 11, 3) := by decide +kernel
theorem dX0_walk_47 : decode cX0_walk 47 = .ok (.aload_n 3, 1) := by decide +kernel
theorem dX0_walk_48 : decode cX0_walk 48 = .ok (.getfield 147, 3) := by decide +kernel
theorem dX0_walk_51 : decode cX0_walk 51 = .ok (.iload_n 2, 1) := by decide +kernel
theorem dX0_walk_52 : decode cX0_walk 52 = .ok (.putfield 151, 3) := by decide +kernel
theorem dX0_walk_55 : decode cX0_walk 55 = .ok (.iload 4, 2) := by decide +kernel
theorem dX0_walk_57 : decode cX0_walk 57 = .ok (.ireturn, 1) := by decide +kernel
abbrev cX0_of : ByteArray := prog_1_method_13_code
def yX0_of : MethodName := ⟨RX0, "of", "(II)I"⟩
theorem dX0_of_0 : decode cX0_of 0 = .ok (.aload_n 0, 1) := by decide +kernel
theorem dX0_of_1 : decode cX0_of 1 = .ok (.iload_n 1, 1) := by decide +kernel
theorem dX0_of_2 : decode cX0_of 2 = .ok (.invokevirtual 111, 3) := by decide +kernel
theorem dX0_of_5 : decode cX0_of 5 = .ok (.astore_n 3, 1) := by decide +kernel
theorem dX0_of_6 : decode cX0_of 6 = .ok (.aload_n 3, 1) := by decide +kernel
theorem dX0_of_7 : decode cX0_of 7 = .ok (.ifnonnull 5, 3) := by decide +kernel
theorem dX0_of_10 : decode cX0_of 10 = .ok (.iconst (-1), 1) := by decide +kernel
theorem dX0_of_11 : decode cX0_of 11 = .ok (.ireturn, 1) := by decide +kernel
theorem dX0_of_12 : decode cX0_of 12 = .ok (.iload_n 2, 1) := by decide +kernel
theorem dX0_of_13 : decode cX0_of 13 = .ok (.tableswitch 84 0 5 #[39, 44, 49, 54, 59, 64], 39) := by decide +kernel
theorem dX0_of_52 : decode cX0_of 52 = .ok (.aload_n 3, 1) := by decide +kernel
theorem dX0_of_53 : decode cX0_of 53 = .ok (.getfield 152, 3) := by decide +kernel
theorem dX0_of_56 : decode cX0_of 56 = .ok (.ireturn, 1) := by decide +kernel
theorem dX0_of_57 : decode cX0_of 57 = .ok (.aload_n 3, 1) := by decide +kernel
theorem dX0_of_58 : decode cX0_of 58 = .ok (.getfield 151, 3) := by decide +kernel
theorem dX0_of_61 : decode cX0_of 61 = .ok (.ireturn, 1) := by decide +kernel
theorem dX0_of_62 : decode cX0_of 62 = .ok (.aload_n 3, 1) := by decide +kernel
theorem dX0_of_63 : decode cX0_of 63 = .ok (.getfield 155, 3) := by decide +kernel
theorem dX0_of_66 : decode cX0_of 66 = .ok (.ireturn, 1) := by decide +kernel
theorem dX0_of_67 : decode cX0_of 67 = .ok (.aload_n 3, 1) := by decide +kernel
theorem dX0_of_68 : decode cX0_of 68 = .ok (.getfield 158, 3) := by decide +kernel
theorem dX0_of_71 : decode cX0_of 71 = .ok (.ireturn, 1) := by decide +kernel
theorem dX0_of_72 : decode cX0_of 72 = .ok (.aload_n 3, 1) := by decide +kernel
theorem dX0_of_73 : decode cX0_of 73 = .ok (.getfield 161, 3) := by decide +kernel
theorem dX0_of_76 : decode cX0_of 76 = .ok (.ireturn, 1) := by decide +kernel
theorem dX0_of_77 : decode cX0_of 77 = .ok (.aload_n 3, 1) := by decide +kernel
theorem dX0_of_78 : decode cX0_of 78 = .ok (.getfield 164, 3) := by decide +kernel
theorem dX0_of_81 : decode cX0_of 81 = .ok (.ifnonnull 8, 3) := by decide +kernel
theorem dX0_of_84 : decode cX0_of 84 = .ok (.bipush (-5), 2) := by decide +kernel
theorem dX0_of_86 : decode cX0_of 86 = .ok (.goto 10, 3) := by decide +kernel
theorem dX0_of_89 : decode cX0_of 89 = .ok (.aload_n 3, 1) := by decide +kernel
theorem dX0_of_90 : decode cX0_of 90 = .ok (.getfield 164, 3) := by decide +kernel
theorem dX0_of_93 : decode cX0_of 93 = .ok (.getfield 125, 3) := by decide +kernel
theorem dX0_of_96 : decode cX0_of 96 = .ok (.ireturn, 1) := by decide +kernel
theorem dX0_of_97 : decode cX0_of 97 = .ok (.iconst (-1), 1) := by decide +kernel
theorem dX0_of_98 : decode cX0_of 98 = .ok (.ireturn, 1) := by decide +kernel
abbrev cX0_about : ByteArray := prog_1_method_14_code
def yX0_about : MethodName := ⟨RX0, "about", "(II)I"⟩
theorem dX0_about_0 : decode cX0_about 0 = .ok (.aload_n 0, 1) := by decide +kernel
theorem dX0_about_1 : decode cX0_about 1 = .ok (.iload_n 1, 1) := by decide +kernel
theorem dX0_about_2 : decode cX0_about 2 = .ok (.invokevirtual 128, 3) := by decide +kernel
theorem dX0_about_5 : decode cX0_about 5 = .ok (.astore_n 3, 1) := by decide +kernel
theorem dX0_about_6 : decode cX0_about 6 = .ok (.aload_n 3, 1) := by decide +kernel
theorem dX0_about_7 : decode cX0_about 7 = .ok (.ifnonnull 5, 3) := by decide +kernel
theorem dX0_about_10 : decode cX0_about 10 = .ok (.iconst (-1), 1) := by decide +kernel
theorem dX0_about_11 : decode cX0_about 11 = .ok (.ireturn, 1) := by decide +kernel
theorem dX0_about_12 : decode cX0_about 12 = .ok (.iload_n 2, 1) := by decide +kernel
theorem dX0_about_13 : decode cX0_about 13 = .ok (.tableswitch 120 0 7 #[47, 55, 60, 65, 85, 90, 95, 100], 47) := by decide +kernel
theorem dX0_about_60 : decode cX0_about 60 = .ok (.aload_n 3, 1) := by decide +kernel
theorem dX0_about_61 : decode cX0_about 61 = .ok (.invokevirtual 168, 3) := by decide +kernel
theorem dX0_about_64 : decode cX0_about 64 = .ok (.invokevirtual 172, 3) := by decide +kernel
theorem dX0_about_67 : decode cX0_about 67 = .ok (.ireturn, 1) := by decide +kernel
theorem dX0_about_68 : decode cX0_about 68 = .ok (.aload_n 3, 1) := by decide +kernel
theorem dX0_about_69 : decode cX0_about 69 = .ok (.getfield 104, 3) := by decide +kernel
theorem dX0_about_72 : decode cX0_about 72 = .ok (.ireturn, 1) := by decide +kernel
theorem dX0_about_73 : decode cX0_about 73 = .ok (.aload_n 3, 1) := by decide +kernel
theorem dX0_about_74 : decode cX0_about 74 = .ok (.getfield 177, 3) := by decide +kernel
theorem dX0_about_77 : decode cX0_about 77 = .ok (.ireturn, 1) := by decide +kernel
theorem dX0_about_78 : decode cX0_about 78 = .ok (.aload_n 3, 1) := by decide +kernel
theorem dX0_about_79 : decode cX0_about 79 = .ok (.getfield 147, 3) := by decide +kernel
theorem dX0_about_82 : decode cX0_about 82 = .ok (.ifnonnull 8, 3) := by decide +kernel
theorem dX0_about_85 : decode cX0_about 85 = .ok (.bipush (-5), 2) := by decide +kernel
theorem dX0_about_87 : decode cX0_about 87 = .ok (.goto 10, 3) := by decide +kernel
theorem dX0_about_90 : decode cX0_about 90 = .ok (.aload_n 3, 1) := by decide +kernel
theorem dX0_about_91 : decode cX0_about 91 = .ok (.getfield 147, 3) := by decide +kernel
theorem dX0_about_94 : decode cX0_about 94 = .ok (.getfield 179, 3) := by decide +kernel
theorem dX0_about_97 : decode cX0_about 97 = .ok (.ireturn, 1) := by decide +kernel
theorem dX0_about_98 : decode cX0_about 98 = .ok (.aload_n 3, 1) := by decide +kernel
theorem dX0_about_99 : decode cX0_about 99 = .ok (.getfield 180, 3) := by decide +kernel
theorem dX0_about_102 : decode cX0_about 102 = .ok (.ireturn, 1) := by decide +kernel
theorem dX0_about_103 : decode cX0_about 103 = .ok (.aload_n 3, 1) := by decide +kernel
theorem dX0_about_104 : decode cX0_about 104 = .ok (.invokevirtual 183, 3) := by decide +kernel
theorem dX0_about_107 : decode cX0_about 107 = .ok (.ireturn, 1) := by decide +kernel
theorem dX0_about_108 : decode cX0_about 108 = .ok (.aload_n 3, 1) := by decide +kernel
theorem dX0_about_109 : decode cX0_about 109 = .ok (.getfield 186, 3) := by decide +kernel
theorem dX0_about_112 : decode cX0_about 112 = .ok (.ireturn, 1) := by decide +kernel
theorem dX0_about_113 : decode cX0_about 113 = .ok (.aload_n 3, 1) := by decide +kernel
theorem dX0_about_114 : decode cX0_about 114 = .ok (.getfield 189, 3) := by decide +kernel
theorem dX0_about_117 : decode cX0_about 117 = .ok (.ifnonnull 8, 3) := by decide +kernel
theorem dX0_about_120 : decode cX0_about 120 = .ok (.bipush (-5), 2) := by decide +kernel
theorem dX0_about_122 : decode cX0_about 122 = .ok (.goto 10, 3) := by decide +kernel
theorem dX0_about_125 : decode cX0_about 125 = .ok (.aload_n 3, 1) := by decide +kernel
theorem dX0_about_126 : decode cX0_about 126 = .ok (.getfield 189, 3) := by decide +kernel
theorem dX0_about_129 : decode cX0_about 129 = .ok (.getfield 125, 3) := by decide +kernel
theorem dX0_about_132 : decode cX0_about 132 = .ok (.ireturn, 1) := by decide +kernel
theorem dX0_about_133 : decode cX0_about 133 = .ok (.iconst (-1), 1) := by decide +kernel
theorem dX0_about_134 : decode cX0_about 134 = .ok (.ireturn, 1) := by decide +kernel
abbrev cX0_isRowed : ByteArray := prog_1_method_9_code
def yX0_isRowed : MethodName := ⟨RX0, "isRowed", "(LShellBeach$Crab;)Z"⟩
theorem dX0_isRowed_0 : decode cX0_isRowed 0 = .ok (.iconst 0, 1) := by decide +kernel
theorem dX0_isRowed_1 : decode cX0_isRowed 1 = .ok (.istore_n 2, 1) := by decide +kernel
theorem dX0_isRowed_2 : decode cX0_isRowed 2 = .ok (.iload_n 2, 1) := by decide +kernel
theorem dX0_isRowed_3 : decode cX0_isRowed 3 = .ok (.aload_n 0, 1) := by decide +kernel
theorem dX0_isRowed_4 : decode cX0_isRowed 4 = .ok (.getfield 34, 3) := by decide +kernel
theorem dX0_isRowed_7 : decode cX0_isRowed 7 = .ok (.invokevirtual 11, 3) := by decide +kernel
theorem dX0_isRowed_10 : decode cX0_isRowed 10 = .ok (.if_icmp .ge 54, 3) := by decide +kernel
theorem dX0_isRowed_13 : decode cX0_isRowed 13 = .ok (.aload_n 0, 1) := by decide +kernel
theorem dX0_isRowed_14 : decode cX0_isRowed 14 = .ok (.getfield 34, 3) := by decide +kernel
theorem dX0_isRowed_17 : decode cX0_isRowed 17 = .ok (.iload_n 2, 1) := by decide +kernel
theorem dX0_isRowed_18 : decode cX0_isRowed 18 = .ok (.invokevirtual 17, 3) := by decide +kernel
theorem dX0_isRowed_21 : decode cX0_isRowed 21 = .ok (.checkcast 70, 3) := by decide +kernel
theorem dX0_isRowed_24 : decode cX0_isRowed 24 = .ok (.astore_n 3, 1) := by decide +kernel
theorem dX0_isRowed_25 : decode cX0_isRowed 25 = .ok (.aload_n 3, 1) := by decide +kernel
theorem dX0_isRowed_26 : decode cX0_isRowed 26 = .ok (.aload_n 1, 1) := by decide +kernel
theorem dX0_isRowed_27 : decode cX0_isRowed 27 = .ok (.if_acmp .eq 31, 3) := by decide +kernel
theorem dX0_isRowed_30 : decode cX0_isRowed 30 = .ok (.aload_n 3, 1) := by decide +kernel
theorem dX0_isRowed_31 : decode cX0_isRowed 31 = .ok (.invokevirtual 100, 3) := by decide +kernel
theorem dX0_isRowed_34 : decode cX0_isRowed 34 = .ok (.ifCond .eq 24, 3) := by decide +kernel
theorem dX0_isRowed_37 : decode cX0_isRowed 37 = .ok (.aload_n 3, 1) := by decide +kernel
theorem dX0_isRowed_38 : decode cX0_isRowed 38 = .ok (.getfield 104, 3) := by decide +kernel
theorem dX0_isRowed_41 : decode cX0_isRowed 41 = .ok (.aload_n 1, 1) := by decide +kernel
theorem dX0_isRowed_42 : decode cX0_isRowed 42 = .ok (.getfield 104, 3) := by decide +kernel
theorem dX0_isRowed_45 : decode cX0_isRowed 45 = .ok (.if_icmp .ne 13, 3) := by decide +kernel
theorem dX0_isRowed_48 : decode cX0_isRowed 48 = .ok (.aload_n 3, 1) := by decide +kernel
theorem dX0_isRowed_49 : decode cX0_isRowed 49 = .ok (.aload_n 1, 1) := by decide +kernel
theorem dX0_isRowed_50 : decode cX0_isRowed 50 = .ok (.invokevirtual 107, 3) := by decide +kernel
theorem dX0_isRowed_53 : decode cX0_isRowed 53 = .ok (.ifCond .eq 5, 3) := by decide +kernel
theorem dX0_isRowed_56 : decode cX0_isRowed 56 = .ok (.iconst 1, 1) := by decide +kernel
theorem dX0_isRowed_57 : decode cX0_isRowed 57 = .ok (.ireturn, 1) := by decide +kernel
theorem dX0_isRowed_58 : decode cX0_isRowed 58 = .ok (.iinc 2 1, 3) := by decide +kernel
theorem dX0_isRowed_61 : decode cX0_isRowed 61 = .ok (.goto (-59), 3) := by decide +kernel
theorem dX0_isRowed_64 : decode cX0_isRowed 64 = .ok (.iconst 0, 1) := by decide +kernel
theorem dX0_isRowed_65 : decode cX0_isRowed 65 = .ok (.ireturn, 1) := by decide +kernel
abbrev cX0_fit : ByteArray := prog_1_method_15_code
def yX0_fit : MethodName := ⟨RX0, "fit", "(II)I"⟩
theorem dX0_fit_0 : decode cX0_fit 0 = .ok (.aload_n 0, 1) := by decide +kernel
theorem dX0_fit_1 : decode cX0_fit 1 = .ok (.iload_n 1, 1) := by decide +kernel
theorem dX0_fit_2 : decode cX0_fit 2 = .ok (.invokevirtual 111, 3) := by decide +kernel
theorem dX0_fit_5 : decode cX0_fit 5 = .ok (.astore_n 3, 1) := by decide +kernel
theorem dX0_fit_6 : decode cX0_fit 6 = .ok (.aload_n 3, 1) := by decide +kernel
theorem dX0_fit_7 : decode cX0_fit 7 = .ok (.ifnonnull 5, 3) := by decide +kernel
theorem dX0_fit_10 : decode cX0_fit 10 = .ok (.iconst (-1), 1) := by decide +kernel
theorem dX0_fit_11 : decode cX0_fit 11 = .ok (.ireturn, 1) := by decide +kernel
theorem dX0_fit_12 : decode cX0_fit 12 = .ok (.iload_n 2, 1) := by decide +kernel
theorem dX0_fit_13 : decode cX0_fit 13 = .ok (.iconst 1, 1) := by decide +kernel
theorem dX0_fit_14 : decode cX0_fit 14 = .ok (.bipush 40, 2) := by decide +kernel
theorem dX0_fit_16 : decode cX0_fit 16 = .ok (.invokestatic 3, 3) := by decide +kernel
theorem dX0_fit_19 : decode cX0_fit 19 = .ok (.ifCond .eq 11, 3) := by decide +kernel
theorem dX0_fit_22 : decode cX0_fit 22 = .ok (.aload_n 3, 1) := by decide +kernel
theorem dX0_fit_23 : decode cX0_fit 23 = .ok (.iload_n 2, 1) := by decide +kernel
theorem dX0_fit_24 : decode cX0_fit 24 = .ok (.invokevirtual 192, 3) := by decide +kernel
theorem dX0_fit_27 : decode cX0_fit 27 = .ok (.goto 5, 3) := by decide +kernel
theorem dX0_fit_30 : decode cX0_fit 30 = .ok (.bipush (-2), 2) := by decide +kernel
theorem dX0_fit_32 : decode cX0_fit 32 = .ok (.ireturn, 1) := by decide +kernel
abbrev cX0_end : ByteArray := prog_1_method_16_code
def yX0_end : MethodName := ⟨RX0, "end", "(II)I"⟩
theorem dX0_end_0 : decode cX0_end 0 = .ok (.aload_n 0, 1) := by decide +kernel
theorem dX0_end_1 : decode cX0_end 1 = .ok (.iload_n 1, 1) := by decide +kernel
theorem dX0_end_2 : decode cX0_end 2 = .ok (.invokevirtual 111, 3) := by decide +kernel
theorem dX0_end_5 : decode cX0_end 5 = .ok (.astore_n 3, 1) := by decide +kernel
theorem dX0_end_6 : decode cX0_end 6 = .ok (.aload_n 3, 1) := by decide +kernel
theorem dX0_end_7 : decode cX0_end 7 = .ok (.ifnull 12, 3) := by decide +kernel
theorem dX0_end_10 : decode cX0_end 10 = .ok (.iload_n 2, 1) := by decide +kernel
theorem dX0_end_11 : decode cX0_end 11 = .ok (.iconst 0, 1) := by decide +kernel
theorem dX0_end_12 : decode cX0_end 12 = .ok (.iconst 2, 1) := by decide +kernel
theorem dX0_end_13 : decode cX0_end 13 = .ok (.invokestatic 3, 3) := by decide +kernel
theorem dX0_end_16 : decode cX0_end 16 = .ok (.ifCond .ne 5, 3) := by decide +kernel
theorem dX0_end_19 : decode cX0_end 19 = .ok (.iconst (-1), 1) := by decide +kernel
theorem dX0_end_20 : decode cX0_end 20 = .ok (.ireturn, 1) := by decide +kernel
theorem dX0_end_21 : decode cX0_end 21 = .ok (.aload_n 3, 1) := by decide +kernel
theorem dX0_end_22 : decode cX0_end 22 = .ok (.getfield 152, 3) := by decide +kernel
theorem dX0_end_25 : decode cX0_end 25 = .ok (.istore 4, 2) := by decide +kernel
theorem dX0_end_27 : decode cX0_end 27 = .ok (.iload 4, 2) := by decide +kernel
theorem dX0_end_29 : decode cX0_end 29 = .ok (.iconst 4, 1) := by decide +kernel
theorem dX0_end_30 : decode cX0_end 30 = .ok (.if_icmp .eq 24, 3) := by decide +kernel
theorem dX0_end_33 : decode cX0_end 33 = .ok (.iload_n 2, 1) := by decide +kernel
theorem dX0_end_34 : decode cX0_end 34 = .ok (.iconst 1, 1) := by decide +kernel
theorem dX0_end_35 : decode cX0_end 35 = .ok (.if_icmp .ne 8, 3) := by decide +kernel
theorem dX0_end_38 : decode cX0_end 38 = .ok (.iload 4, 2) := by decide +kernel
theorem dX0_end_40 : decode cX0_end 40 = .ok (.ifCond .ne 14, 3) := by decide +kernel
theorem dX0_end_43 : decode cX0_end 43 = .ok (.iload_n 2, 1) := by decide +kernel
theorem dX0_end_44 : decode cX0_end 44 = .ok (.iconst 2, 1) := by decide +kernel
theorem dX0_end_45 : decode cX0_end 45 = .ok (.if_icmp .ne 12, 3) := by decide +kernel
theorem dX0_end_48 : decode cX0_end 48 = .ok (.iload 4, 2) := by decide +kernel
theorem dX0_end_50 : decode cX0_end 50 = .ok (.iconst 3, 1) := by decide +kernel
theorem dX0_end_51 : decode cX0_end 51 = .ok (.if_icmp .eq 6, 3) := by decide +kernel
theorem dX0_end_54 : decode cX0_end 54 = .ok (.bipush (-3), 2) := by decide +kernel
theorem dX0_end_56 : decode cX0_end 56 = .ok (.ireturn, 1) := by decide +kernel
theorem dX0_end_57 : decode cX0_end 57 = .ok (.aload_n 3, 1) := by decide +kernel
theorem dX0_end_58 : decode cX0_end 58 = .ok (.getfield 164, 3) := by decide +kernel
theorem dX0_end_61 : decode cX0_end 61 = .ok (.ifnull 10, 3) := by decide +kernel
theorem dX0_end_64 : decode cX0_end 64 = .ok (.aload_n 3, 1) := by decide +kernel
theorem dX0_end_65 : decode cX0_end 65 = .ok (.getfield 164, 3) := by decide +kernel
theorem dX0_end_68 : decode cX0_end 68 = .ok (.invokevirtual 195, 3) := by decide +kernel
theorem dX0_end_71 : decode cX0_end 71 = .ok (.aload_n 3, 1) := by decide +kernel
theorem dX0_end_72 : decode cX0_end 72 = .ok (.iload_n 2, 1) := by decide +kernel
theorem dX0_end_73 : decode cX0_end 73 = .ok (.ifCond .ne 7, 3) := by decide +kernel
theorem dX0_end_76 : decode cX0_end 76 = .ok (.iconst 4, 1) := by decide +kernel
theorem dX0_end_77 : decode cX0_end 77 = .ok (.goto 13, 3) := by decide +kernel
theorem dX0_end_80 : decode cX0_end 80 = .ok (.iload_n 2, 1) := by decide +kernel
theorem dX0_end_81 : decode cX0_end 81 = .ok (.iconst 1, 1) := by decide +kernel
theorem dX0_end_82 : decode cX0_end 82 = .ok (.if_icmp .ne 7, 3) := by decide +kernel
theorem dX0_end_85 : decode cX0_end 85 = .ok (.iconst 3, 1) := by decide +kernel
theorem dX0_end_86 : decode cX0_end 86 = .ok (.goto 4, 3) := by decide +kernel
theorem dX0_end_89 : decode cX0_end 89 = .ok (.iconst 0, 1) := by decide +kernel
theorem dX0_end_90 : decode cX0_end 90 = .ok (.aconst_null, 1) := by decide +kernel
theorem dX0_end_91 : decode cX0_end 91 = .ok (.invokevirtual 198, 3) := by decide +kernel
theorem dX0_end_94 : decode cX0_end 94 = .ok (.iload 4, 2) := by decide +kernel
theorem dX0_end_96 : decode cX0_end 96 = .ok (.ireturn, 1) := by decide +kernel
abbrev cX0_eat : ByteArray := prog_1_method_17_code
def yX0_eat : MethodName := ⟨RX0, "eat", "(I)I"⟩
theorem dX0_eat_0 : decode cX0_eat 0 = .ok (.iload_n 1, 1) := by decide +kernel
theorem dX0_eat_1 : decode cX0_eat 1 = .ok (.invokestatic 86, 3) := by decide +kernel
theorem dX0_eat_4 : decode cX0_eat 4 = .ok (.ifCond .ne 5, 3) := by decide +kernel
theorem dX0_eat_7 : decode cX0_eat 7 = .ok (.iconst (-1), 1) := by decide +kernel
theorem dX0_eat_8 : decode cX0_eat 8 = .ok (.ireturn, 1) := by decide +kernel
theorem dX0_eat_9 : decode cX0_eat 9 = .ok (.iconst 0, 1) := by decide +kernel
theorem dX0_eat_10 : decode cX0_eat 10 = .ok (.istore_n 2, 1) := by decide +kernel
theorem dX0_eat_11 : decode cX0_eat 11 = .ok (.iconst 0, 1) := by decide +kernel
theorem dX0_eat_12 : decode cX0_eat 12 = .ok (.istore_n 3, 1) := by decide +kernel
theorem dX0_eat_13 : decode cX0_eat 13 = .ok (.iload_n 3, 1) := by decide +kernel
theorem dX0_eat_14 : decode cX0_eat 14 = .ok (.aload_n 0, 1) := by decide +kernel
theorem dX0_eat_15 : decode cX0_eat 15 = .ok (.getfield 34, 3) := by decide +kernel
theorem dX0_eat_18 : decode cX0_eat 18 = .ok (.invokevirtual 11, 3) := by decide +kernel
theorem dX0_eat_21 : decode cX0_eat 21 = .ok (.if_icmp .ge 74, 3) := by decide +kernel
theorem dX0_eat_24 : decode cX0_eat 24 = .ok (.aload_n 0, 1) := by decide +kernel
theorem dX0_eat_25 : decode cX0_eat 25 = .ok (.getfield 34, 3) := by decide +kernel
theorem dX0_eat_28 : decode cX0_eat 28 = .ok (.iload_n 3, 1) := by decide +kernel
theorem dX0_eat_29 : decode cX0_eat 29 = .ok (.invokevirtual 17, 3) := by decide +kernel
theorem dX0_eat_32 : decode cX0_eat 32 = .ok (.checkcast 70, 3) := by decide +kernel
theorem dX0_eat_35 : decode cX0_eat 35 = .ok (.astore 4, 2) := by decide +kernel
theorem dX0_eat_37 : decode cX0_eat 37 = .ok (.aload 4, 2) := by decide +kernel
theorem dX0_eat_39 : decode cX0_eat 39 = .ok (.invokevirtual 202, 3) := by decide +kernel
theorem dX0_eat_42 : decode cX0_eat 42 = .ok (.ifCond .eq 47, 3) := by decide +kernel
theorem dX0_eat_45 : decode cX0_eat 45 = .ok (.aload 4, 2) := by decide +kernel
theorem dX0_eat_47 : decode cX0_eat 47 = .ok (.getfield 104, 3) := by decide +kernel
theorem dX0_eat_50 : decode cX0_eat 50 = .ok (.iload_n 1, 1) := by decide +kernel
theorem dX0_eat_51 : decode cX0_eat 51 = .ok (.if_icmp .eq 6, 3) := by decide +kernel
theorem dX0_eat_54 : decode cX0_eat 54 = .ok (.goto 35, 3) := by decide +kernel
theorem dX0_eat_57 : decode cX0_eat 57 = .ok (.aload 4, 2) := by decide +kernel
theorem dX0_eat_59 : decode cX0_eat 59 = .ok (.getfield 147, 3) := by decide +kernel
theorem dX0_eat_62 : decode cX0_eat 62 = .ok (.ifnull 13, 3) := by decide +kernel
theorem dX0_eat_65 : decode cX0_eat 65 = .ok (.aload 4, 2) := by decide +kernel
theorem dX0_eat_67 : decode cX0_eat 67 = .ok (.getfield 147, 3) := by decide +kernel
theorem dX0_eat_70 : decode cX0_eat 70 = .ok (.iconst 0, 1) := by decide +kernel
theorem dX0_eat_71 : decode cX0_eat 71 = .ok (.aconst_null, 1) := by decide +kernel
theorem dX0_eat_72 : decode cX0_eat 72 = .ok (.invokevirtual 198, 3) := by decide +kernel
theorem dX0_eat_75 : decode cX0_eat 75 = .ok (.aload 4, 2) := by decide +kernel
theorem dX0_eat_77 : decode cX0_eat 77 = .ok (.invokevirtual 195, 3) := by decide +kernel
theorem dX0_eat_80 : decode cX0_eat 80 = .ok (.aload 4, 2) := by decide +kernel
theorem dX0_eat_82 : decode cX0_eat 82 = .ok (.iconst 1, 1) := by decide +kernel
theorem dX0_eat_83 : decode cX0_eat 83 = .ok (.putfield 143, 3) := by decide +kernel
theorem dX0_eat_86 : decode cX0_eat 86 = .ok (.iinc 2 1, 3) := by decide +kernel
theorem dX0_eat_89 : decode cX0_eat 89 = .ok (.iinc 3 1, 3) := by decide +kernel
theorem dX0_eat_92 : decode cX0_eat 92 = .ok (.goto (-79), 3) := by decide +kernel
theorem dX0_eat_95 : decode cX0_eat 95 = .ok (.iload_n 2, 1) := by decide +kernel
theorem dX0_eat_96 : decode cX0_eat 96 = .ok (.ireturn, 1) := by decide +kernel
abbrev cX0_feed : ByteArray := prog_1_method_19_code
def yX0_feed : MethodName := ⟨RX0, "feed", "(JI)I"⟩
theorem dX0_feed_0 : decode cX0_feed 0 = .ok (.iload_n 3, 1) := by decide +kernel
theorem dX0_feed_1 : decode cX0_feed 1 = .ok (.iconst 1, 1) := by decide +kernel
theorem dX0_feed_2 : decode cX0_feed 2 = .ok (.bipush 8, 2) := by decide +kernel
theorem dX0_feed_4 : decode cX0_feed 4 = .ok (.invokestatic 3, 3) := by decide +kernel
theorem dX0_feed_7 : decode cX0_feed 7 = .ok (.ifCond .ne 6, 3) := by decide +kernel
theorem dX0_feed_10 : decode cX0_feed 10 = .ok (.bipush (-2), 2) := by decide +kernel
theorem dX0_feed_12 : decode cX0_feed 12 = .ok (.ireturn, 1) := by decide +kernel
theorem dX0_feed_13 : decode cX0_feed 13 = .ok (.aload_n 0, 1) := by decide +kernel
theorem dX0_feed_14 : decode cX0_feed 14 = .ok (.getfield 205, 3) := by decide +kernel
theorem dX0_feed_17 : decode cX0_feed 17 = .ok (.iload_n 3, 1) := by decide +kernel
theorem dX0_feed_18 : decode cX0_feed 18 = .ok (.iadd, 1) := by decide +kernel
theorem dX0_feed_19 : decode cX0_feed 19 = .ok (.bipush 120, 2) := by decide +kernel
theorem dX0_feed_21 : decode cX0_feed 21 = .ok (.if_icmp .le 6, 3) := by decide +kernel
theorem dX0_feed_24 : decode cX0_feed 24 = .ok (.bipush (-4), 2) := by decide +kernel
theorem dX0_feed_26 : decode cX0_feed 26 = .ok (.ireturn, 1) := by decide +kernel
theorem dX0_feed_27 : decode cX0_feed 27 = .ok (.iload_n 3, 1) := by decide +kernel
theorem dX0_feed_28 : decode cX0_feed 28 = .ok (.iconst 1, 1) := by decide +kernel
theorem dX0_feed_29 : decode cX0_feed 29 = .ok (.isub, 1) := by decide +kernel
theorem dX0_feed_30 : decode cX0_feed 30 = .ok (.istore 4, 2) := by decide +kernel
theorem dX0_feed_32 : decode cX0_feed 32 = .ok (.iload 4, 2) := by decide +kernel
theorem dX0_feed_34 : decode cX0_feed 34 = .ok (.ifCond .lt 34, 3) := by decide +kernel
theorem dX0_feed_37 : decode cX0_feed 37 = .ok (.aload_n 0, 1) := by decide +kernel
theorem dX0_feed_38 : decode cX0_feed 38 = .ok (.getfield 44, 3) := by decide +kernel
theorem dX0_feed_41 : decode cX0_feed 41 = .ok (.aload_n 0, 1) := by decide +kernel
theorem dX0_feed_42 : decode cX0_feed 42 = .ok (.dup, 1) := by decide +kernel
theorem dX0_feed_43 : decode cX0_feed 43 = .ok (.getfield 205, 3) := by decide +kernel
theorem dX0_feed_46 : decode cX0_feed 46 = .ok (.dup_x1, 1) := by decide +kernel
theorem dX0_feed_47 : decode cX0_feed 47 = .ok (.iconst 1, 1) := by decide +kernel
theorem dX0_feed_48 : decode cX0_feed 48 = .ok (.iadd, 1) := by decide +kernel
theorem dX0_feed_49 : decode cX0_feed 49 = .ok (.putfield 205, 3) := by decide +kernel
theorem dX0_feed_52 : decode cX0_feed 52 = .ok (.lload_n 1, 1) := by decide +kernel
theorem dX0_feed_53 : decode cX0_feed 53 = .ok (.bipush 8, 2) := by decide +kernel
theorem dX0_feed_55 : decode cX0_feed 55 = .ok (.iload 4, 2) := by decide +kernel
theorem dX0_feed_57 : decode cX0_feed 57 = .ok (.imul, 1) := by decide +kernel
theorem dX0_feed_58 : decode cX0_feed 58 = .ok (.lshr, 1) := by decide +kernel
theorem dX0_feed_59 : decode cX0_feed 59 = .ok (.l2i, 1) := by decide +kernel
theorem dX0_feed_60 : decode cX0_feed 60 = .ok (.i2b, 1) := by decide +kernel
theorem dX0_feed_61 : decode cX0_feed 61 = .ok (.bastore, 1) := by decide +kernel
theorem dX0_feed_62 : decode cX0_feed 62 = .ok (.iinc 4 (-1), 3) := by decide +kernel
theorem dX0_feed_65 : decode cX0_feed 65 = .ok (.goto (-33), 3) := by decide +kernel
theorem dX0_feed_68 : decode cX0_feed 68 = .ok (.aload_n 0, 1) := by decide +kernel
theorem dX0_feed_69 : decode cX0_feed 69 = .ok (.getfield 205, 3) := by decide +kernel
theorem dX0_feed_72 : decode cX0_feed 72 = .ok (.ireturn, 1) := by decide +kernel
abbrev cX0_text : ByteArray := prog_1_method_20_code
def yX0_text : MethodName := ⟨RX0, "text", "()I"⟩
theorem dX0_text_0 : decode cX0_text 0 = .ok (.aload_n 0, 1) := by decide +kernel
theorem dX0_text_1 : decode cX0_text 1 = .ok (.getfield 55, 3) := by decide +kernel
theorem dX0_text_4 : decode cX0_text 4 = .ok (.invokevirtual 11, 3) := by decide +kernel
theorem dX0_text_7 : decode cX0_text 7 = .ok (.bipush 8, 2) := by decide +kernel
theorem dX0_text_9 : decode cX0_text 9 = .ok (.if_icmp .ne 6, 3) := by decide +kernel
theorem dX0_text_12 : decode cX0_text 12 = .ok (.bipush (-4), 2) := by decide +kernel
theorem dX0_text_14 : decode cX0_text 14 = .ok (.ireturn, 1) := by decide +kernel
theorem dX0_text_15 : decode cX0_text 15 = .ok (.aload_n 0, 1) := by decide +kernel
theorem dX0_text_16 : decode cX0_text 16 = .ok (.getfield 55, 3) := by decide +kernel
theorem dX0_text_19 : decode cX0_text 19 = .ok (.aload_n 0, 1) := by decide +kernel
theorem dX0_text_20 : decode cX0_text 20 = .ok (.getfield 63, 3) := by decide +kernel
theorem dX0_text_23 : decode cX0_text 23 = .ok (.invokevirtual 208, 3) := by decide +kernel
theorem dX0_text_26 : decode cX0_text 26 = .ok (.invokevirtual 93, 3) := by decide +kernel
theorem dX0_text_29 : decode cX0_text 29 = .ok (.pop, 1) := by decide +kernel
theorem dX0_text_30 : decode cX0_text 30 = .ok (.aload_n 0, 1) := by decide +kernel
theorem dX0_text_31 : decode cX0_text 31 = .ok (.getfield 55, 3) := by decide +kernel
theorem dX0_text_34 : decode cX0_text 34 = .ok (.invokevirtual 11, 3) := by decide +kernel
theorem dX0_text_37 : decode cX0_text 37 = .ok (.iconst 1, 1) := by decide +kernel
theorem dX0_text_38 : decode cX0_text 38 = .ok (.isub, 1) := by decide +kernel
theorem dX0_text_39 : decode cX0_text 39 = .ok (.istore_n 1, 1) := by decide +kernel
theorem dX0_text_40 : decode cX0_text 40 = .ok (.aload_n 0, 1) := by decide +kernel
theorem dX0_text_41 : decode cX0_text 41 = .ok (.iconst 0, 1) := by decide +kernel
theorem dX0_text_42 : decode cX0_text 42 = .ok (.putfield 205, 3) := by decide +kernel
theorem dX0_text_45 : decode cX0_text 45 = .ok (.iload_n 1, 1) := by decide +kernel
theorem dX0_text_46 : decode cX0_text 46 = .ok (.ireturn, 1) := by decide +kernel
theorem dX0_text_47 : decode cX0_text 47 = .ok (.astore_n 1, 1) := by decide +kernel
theorem dX0_text_48 : decode cX0_text 48 = .ok (.bipush (-10), 2) := by decide +kernel
theorem dX0_text_50 : decode cX0_text 50 = .ok (.aload_n 1, 1) := by decide +kernel
theorem dX0_text_51 : decode cX0_text 51 = .ok (.getfield 214, 3) := by decide +kernel
theorem dX0_text_54 : decode cX0_text 54 = .ok (.isub, 1) := by decide +kernel
theorem dX0_text_55 : decode cX0_text 55 = .ok (.istore_n 2, 1) := by decide +kernel
theorem dX0_text_56 : decode cX0_text 56 = .ok (.aload_n 0, 1) := by decide +kernel
theorem dX0_text_57 : decode cX0_text 57 = .ok (.iconst 0, 1) := by decide +kernel
theorem dX0_text_58 : decode cX0_text 58 = .ok (.putfield 205, 3) := by decide +kernel
theorem dX0_text_61 : decode cX0_text 61 = .ok (.iload_n 2, 1) := by decide +kernel
theorem dX0_text_62 : decode cX0_text 62 = .ok (.ireturn, 1) := by decide +kernel
theorem dX0_text_63 : decode cX0_text 63 = .ok (.astore_n 3, 1) := by decide +kernel
theorem dX0_text_64 : decode cX0_text 64 = .ok (.aload_n 0, 1) := by decide +kernel
theorem dX0_text_65 : decode cX0_text 65 = .ok (.iconst 0, 1) := by decide +kernel
theorem dX0_text_66 : decode cX0_text 66 = .ok (.putfield 205, 3) := by decide +kernel
theorem dX0_text_69 : decode cX0_text 69 = .ok (.aload_n 3, 1) := by decide +kernel
theorem dX0_text_70 : decode cX0_text 70 = .ok (.athrow, 1) := by decide +kernel
abbrev cX0_holds : ByteArray := prog_1_method_22_code
def yX0_holds : MethodName := ⟨RX0, "holds", "(IIIIIII)I"⟩
theorem dX0_holds_0 : decode cX0_holds 0 = .ok (.aload_n 0, 1) := by decide +kernel
theorem dX0_holds_1 : decode cX0_holds 1 = .ok (.iload_n 1, 1) := by decide +kernel
theorem dX0_holds_2 : decode cX0_holds 2 = .ok (.invokevirtual 132, 3) := by decide +kernel
theorem dX0_holds_5 : decode cX0_holds 5 = .ok (.astore 8, 2) := by decide +kernel
theorem dX0_holds_7 : decode cX0_holds 7 = .ok (.aload 8, 2) := by decide +kernel
theorem dX0_holds_9 : decode cX0_holds 9 = .ok (.ifnull 12, 3) := by decide +kernel
theorem dX0_holds_12 : decode cX0_holds 12 = .ok (.iload_n 2, 1) := by decide +kernel
theorem dX0_holds_13 : decode cX0_holds 13 = .ok (.iconst 0, 1) := by decide +kernel
theorem dX0_holds_14 : decode cX0_holds 14 = .ok (.iconst 3, 1) := by decide +kernel
theorem dX0_holds_15 : decode cX0_holds 15 = .ok (.invokestatic 3, 3) := by decide +kernel
theorem dX0_holds_18 : decode cX0_holds 18 = .ok (.ifCond .ne 5, 3) := by decide +kernel
theorem dX0_holds_21 : decode cX0_holds 21 = .ok (.iconst (-1), 1) := by decide +kernel
theorem dX0_holds_22 : decode cX0_holds 22 = .ok (.ireturn, 1) := by decide +kernel
theorem dX0_holds_23 : decode cX0_holds 23 = .ok (.iload_n 3, 1) := by decide +kernel
theorem dX0_holds_24 : decode cX0_holds 24 = .ok (.iload 4, 2) := by decide +kernel
theorem dX0_holds_26 : decode cX0_holds 26 = .ok (.iload 5, 2) := by decide +kernel
theorem dX0_holds_28 : decode cX0_holds 28 = .ok (.iload 6, 2) := by decide +kernel
theorem dX0_holds_30 : decode cX0_holds 30 = .ok (.iload 7, 2) := by decide +kernel
theorem dX0_holds_32 : decode cX0_holds 32 = .ok (.invokestatic 220, 3) := by decide +kernel
theorem dX0_holds_35 : decode cX0_holds 35 = .ok (.ifCond .ne 6, 3) := by decide +kernel
theorem dX0_holds_38 : decode cX0_holds 38 = .ok (.bipush (-2), 2) := by decide +kernel
theorem dX0_holds_40 : decode cX0_holds 40 = .ok (.ireturn, 1) := by decide +kernel
theorem dX0_holds_41 : decode cX0_holds 41 = .ok (.aload 8, 2) := by decide +kernel
theorem dX0_holds_43 : decode cX0_holds 43 = .ok (.iload_n 2, 1) := by decide +kernel
theorem dX0_holds_44 : decode cX0_holds 44 = .ok (.iload_n 3, 1) := by decide +kernel
theorem dX0_holds_45 : decode cX0_holds 45 = .ok (.iload 4, 2) := by decide +kernel
theorem dX0_holds_47 : decode cX0_holds 47 = .ok (.iload 5, 2) := by decide +kernel
theorem dX0_holds_49 : decode cX0_holds 49 = .ok (.iload 6, 2) := by decide +kernel
theorem dX0_holds_51 : decode cX0_holds 51 = .ok (.iload 7, 2) := by decide +kernel
theorem dX0_holds_53 : decode cX0_holds 53 = .ok (.invokevirtual 224, 3) := by decide +kernel
theorem dX0_holds_56 : decode cX0_holds 56 = .ok (.ifCond .eq 7, 3) := by decide +kernel
theorem dX0_holds_59 : decode cX0_holds 59 = .ok (.iconst 1, 1) := by decide +kernel
theorem dX0_holds_60 : decode cX0_holds 60 = .ok (.goto 4, 3) := by decide +kernel
theorem dX0_holds_63 : decode cX0_holds 63 = .ok (.iconst 0, 1) := by decide +kernel
theorem dX0_holds_64 : decode cX0_holds 64 = .ok (.ireturn, 1) := by decide +kernel
abbrev cX0_areNumbers : ByteArray := prog_1_method_21_code
def yX0_areNumbers : MethodName := ⟨RX0, "areNumbers", "(IIIII)Z"⟩
theorem dX0_areNumbers_0 : decode cX0_areNumbers 0 = .ok (.iload_n 0, 1) := by decide +kernel
theorem dX0_areNumbers_1 : decode cX0_areNumbers 1 = .ok (.invokestatic 217, 3) := by decide +kernel
theorem dX0_areNumbers_4 : decode cX0_areNumbers 4 = .ok (.ifCond .eq 36, 3) := by decide +kernel
theorem dX0_areNumbers_7 : decode cX0_areNumbers 7 = .ok (.iload_n 1, 1) := by decide +kernel
theorem dX0_areNumbers_8 : decode cX0_areNumbers 8 = .ok (.invokestatic 217, 3) := by decide +kernel
theorem dX0_areNumbers_11 : decode cX0_areNumbers 11 = .ok (.ifCond .eq 29, 3) := by decide +kernel
theorem dX0_areNumbers_14 : decode cX0_areNumbers 14 = .ok (.iload_n 2, 1) := by decide +kernel
theorem dX0_areNumbers_15 : decode cX0_areNumbers 15 = .ok (.invokestatic 217, 3) := by decide +kernel
theorem dX0_areNumbers_18 : decode cX0_areNumbers 18 = .ok (.ifCond .eq 22, 3) := by decide +kernel
theorem dX0_areNumbers_21 : decode cX0_areNumbers 21 = .ok (.iload_n 3, 1) := by decide +kernel
theorem dX0_areNumbers_22 : decode cX0_areNumbers 22 = .ok (.invokestatic 217, 3) := by decide +kernel
theorem dX0_areNumbers_25 : decode cX0_areNumbers 25 = .ok (.ifCond .eq 15, 3) := by decide +kernel
theorem dX0_areNumbers_28 : decode cX0_areNumbers 28 = .ok (.iload 4, 2) := by decide +kernel
theorem dX0_areNumbers_30 : decode cX0_areNumbers 30 = .ok (.invokestatic 217, 3) := by decide +kernel
theorem dX0_areNumbers_33 : decode cX0_areNumbers 33 = .ok (.ifCond .eq 7, 3) := by decide +kernel
theorem dX0_areNumbers_36 : decode cX0_areNumbers 36 = .ok (.iconst 1, 1) := by decide +kernel
theorem dX0_areNumbers_37 : decode cX0_areNumbers 37 = .ok (.goto 4, 3) := by decide +kernel
theorem dX0_areNumbers_40 : decode cX0_areNumbers 40 = .ok (.iconst 0, 1) := by decide +kernel
theorem dX0_areNumbers_41 : decode cX0_areNumbers 41 = .ok (.ireturn, 1) := by decide +kernel
abbrev cX0_isNumber : ByteArray := prog_1_method_3_code
def yX0_isNumber : MethodName := ⟨RX0, "isNumber", "(I)Z"⟩
theorem dX0_isNumber_0 : decode cX0_isNumber 0 = .ok (.iload_n 0, 1) := by decide +kernel
theorem dX0_isNumber_1 : decode cX0_isNumber 1 = .ok (.iconst 0, 1) := by decide +kernel
theorem dX0_isNumber_2 : decode cX0_isNumber 2 = .ok (.sipush 999, 3) := by decide +kernel
theorem dX0_isNumber_5 : decode cX0_isNumber 5 = .ok (.invokestatic 3, 3) := by decide +kernel
theorem dX0_isNumber_8 : decode cX0_isNumber 8 = .ok (.ireturn, 1) := by decide +kernel
abbrev cX0_set : ByteArray := prog_1_method_23_code
def yX0_set : MethodName := ⟨RX0, "set", "(II)I"⟩
theorem dX0_set_0 : decode cX0_set 0 = .ok (.iload_n 1, 1) := by decide +kernel
theorem dX0_set_1 : decode cX0_set 1 = .ok (.iconst 0, 1) := by decide +kernel
theorem dX0_set_2 : decode cX0_set 2 = .ok (.iconst 1, 1) := by decide +kernel
theorem dX0_set_3 : decode cX0_set 3 = .ok (.invokestatic 3, 3) := by decide +kernel
theorem dX0_set_6 : decode cX0_set 6 = .ok (.ifCond .ne 5, 3) := by decide +kernel
theorem dX0_set_9 : decode cX0_set 9 = .ok (.iconst (-1), 1) := by decide +kernel
theorem dX0_set_10 : decode cX0_set 10 = .ok (.ireturn, 1) := by decide +kernel
theorem dX0_set_11 : decode cX0_set 11 = .ok (.iload_n 2, 1) := by decide +kernel
theorem dX0_set_12 : decode cX0_set 12 = .ok (.iconst 0, 1) := by decide +kernel
theorem dX0_set_13 : decode cX0_set 13 = .ok (.iload_n 1, 1) := by decide +kernel
theorem dX0_set_14 : decode cX0_set 14 = .ok (.ifCond .ne 7, 3) := by decide +kernel
theorem dX0_set_17 : decode cX0_set 17 = .ok (.iconst 5, 1) := by decide +kernel
theorem dX0_set_18 : decode cX0_set 18 = .ok (.goto 5, 3) := by decide +kernel
theorem dX0_set_21 : decode cX0_set 21 = .ok (.bipush 50, 2) := by decide +kernel
theorem dX0_set_23 : decode cX0_set 23 = .ok (.invokestatic 3, 3) := by decide +kernel
theorem dX0_set_26 : decode cX0_set 26 = .ok (.ifCond .ne 6, 3) := by decide +kernel
theorem dX0_set_29 : decode cX0_set 29 = .ok (.bipush (-2), 2) := by decide +kernel
theorem dX0_set_31 : decode cX0_set 31 = .ok (.ireturn, 1) := by decide +kernel
theorem dX0_set_32 : decode cX0_set 32 = .ok (.iload_n 1, 1) := by decide +kernel
theorem dX0_set_33 : decode cX0_set 33 = .ok (.ifCond .ne 10, 3) := by decide +kernel
theorem dX0_set_36 : decode cX0_set 36 = .ok (.aload_n 0, 1) := by decide +kernel
theorem dX0_set_37 : decode cX0_set 37 = .ok (.getfield 37, 3) := by decide +kernel
theorem dX0_set_40 : decode cX0_set 40 = .ok (.goto 7, 3) := by decide +kernel
theorem dX0_set_43 : decode cX0_set 43 = .ok (.aload_n 0, 1) := by decide +kernel
theorem dX0_set_44 : decode cX0_set 44 = .ok (.getfield 228, 3) := by decide +kernel
theorem dX0_set_47 : decode cX0_set 47 = .ok (.istore_n 3, 1) := by decide +kernel
theorem dX0_set_48 : decode cX0_set 48 = .ok (.iload_n 1, 1) := by decide +kernel
theorem dX0_set_49 : decode cX0_set 49 = .ok (.ifCond .ne 11, 3) := by decide +kernel
theorem dX0_set_52 : decode cX0_set 52 = .ok (.aload_n 0, 1) := by decide +kernel
theorem dX0_set_53 : decode cX0_set 53 = .ok (.iload_n 2, 1) := by decide +kernel
theorem dX0_set_54 : decode cX0_set 54 = .ok (.putfield 37, 3) := by decide +kernel
theorem dX0_set_57 : decode cX0_set 57 = .ok (.goto 8, 3) := by decide +kernel
theorem dX0_set_60 : decode cX0_set 60 = .ok (.aload_n 0, 1) := by decide +kernel
theorem dX0_set_61 : decode cX0_set 61 = .ok (.iload_n 2, 1) := by decide +kernel
theorem dX0_set_62 : decode cX0_set 62 = .ok (.putfield 228, 3) := by decide +kernel
theorem dX0_set_65 : decode cX0_set 65 = .ok (.iload_n 3, 1) := by decide +kernel
theorem dX0_set_66 : decode cX0_set 66 = .ok (.ireturn, 1) := by decide +kernel
abbrev cX0_tick : ByteArray := prog_1_method_25_code
def yX0_tick : MethodName := ⟨RX0, "tick", "(I)I"⟩
theorem dX0_tick_0 : decode cX0_tick 0 = .ok (.iload_n 1, 1) := by decide +kernel
theorem dX0_tick_1 : decode cX0_tick 1 = .ok (.iconst 1, 1) := by decide +kernel
theorem dX0_tick_2 : decode cX0_tick 2 = .ok (.bipush 30, 2) := by decide +kernel
theorem dX0_tick_4 : decode cX0_tick 4 = .ok (.invokestatic 3, 3) := by decide +kernel
theorem dX0_tick_7 : decode cX0_tick 7 = .ok (.ifCond .ne 6, 3) := by decide +kernel
theorem dX0_tick_10 : decode cX0_tick 10 = .ok (.bipush (-2), 2) := by decide +kernel
theorem dX0_tick_12 : decode cX0_tick 12 = .ok (.ireturn, 1) := by decide +kernel
theorem dX0_tick_13 : decode cX0_tick 13 = .ok (.iconst 0, 1) := by decide +kernel
theorem dX0_tick_14 : decode cX0_tick 14 = .ok (.istore_n 2, 1) := by decide +kernel
theorem dX0_tick_15 : decode cX0_tick 15 = .ok (.iload_n 2, 1) := by decide +kernel
theorem dX0_tick_16 : decode cX0_tick 16 = .ok (.iload_n 1, 1) := by decide +kernel
theorem dX0_tick_17 : decode cX0_tick 17 = .ok (.if_icmp .ge 13, 3) := by decide +kernel
theorem dX0_tick_20 : decode cX0_tick 20 = .ok (.aload_n 0, 1) := by decide +kernel
theorem dX0_tick_21 : decode cX0_tick 21 = .ok (.invokevirtual 255, 3) := by decide +kernel
theorem dX0_tick_24 : decode cX0_tick 24 = .ok (.iinc 2 1, 3) := by decide +kernel
theorem dX0_tick_27 : decode cX0_tick 27 = .ok (.goto (-12), 3) := by decide +kernel
theorem dX0_tick_30 : decode cX0_tick 30 = .ok (.aload_n 0, 1) := by decide +kernel
theorem dX0_tick_31 : decode cX0_tick 31 = .ok (.getfield 246, 3) := by decide +kernel
theorem dX0_tick_34 : decode cX0_tick 34 = .ok (.ireturn, 1) := by decide +kernel
abbrev cX0_goTick : ByteArray := prog_1_method_24_code
def yX0_goTick : MethodName := ⟨RX0, "goTick", "()V"⟩
theorem dX0_goTick_0 : decode cX0_goTick 0 = .ok (.iconst 0, 1) := by decide +kernel
theorem dX0_goTick_1 : decode cX0_goTick 1 = .ok (.istore_n 1, 1) := by decide +kernel
theorem dX0_goTick_2 : decode cX0_goTick 2 = .ok (.iload_n 1, 1) := by decide +kernel
theorem dX0_goTick_3 : decode cX0_goTick 3 = .ok (.aload_n 0, 1) := by decide +kernel
theorem dX0_goTick_4 : decode cX0_goTick 4 = .ok (.getfield 34, 3) := by decide +kernel
theorem dX0_goTick_7 : decode cX0_goTick 7 = .ok (.invokevirtual 11, 3) := by decide +kernel
theorem dX0_goTick_10 : decode cX0_goTick 10 = .ok (.if_icmp .ge 42, 3) := by decide +kernel
theorem dX0_goTick_13 : decode cX0_goTick 13 = .ok (.aload_n 0, 1) := by decide +kernel
theorem dX0_goTick_14 : decode cX0_goTick 14 = .ok (.getfield 34, 3) := by decide +kernel
theorem dX0_goTick_17 : decode cX0_goTick 17 = .ok (.iload_n 1, 1) := by decide +kernel
theorem dX0_goTick_18 : decode cX0_goTick 18 = .ok (.invokevirtual 17, 3) := by decide +kernel
theorem dX0_goTick_21 : decode cX0_goTick 21 = .ok (.checkcast 70, 3) := by decide +kernel
theorem dX0_goTick_24 : decode cX0_goTick 24 = .ok (.astore_n 2, 1) := by decide +kernel
theorem dX0_goTick_25 : decode cX0_goTick 25 = .ok (.aload_n 2, 1) := by decide +kernel
theorem dX0_goTick_26 : decode cX0_goTick 26 = .ok (.iconst 0, 1) := by decide +kernel
theorem dX0_goTick_27 : decode cX0_goTick 27 = .ok (.putfield 231, 3) := by decide +kernel
theorem dX0_goTick_30 : decode cX0_goTick 30 = .ok (.aload_n 2, 1) := by decide +kernel
theorem dX0_goTick_31 : decode cX0_goTick 31 = .ok (.iconst 0, 1) := by decide +kernel
theorem dX0_goTick_32 : decode cX0_goTick 32 = .ok (.putfield 234, 3) := by decide +kernel
theorem dX0_goTick_35 : decode cX0_goTick 35 = .ok (.aload_n 2, 1) := by decide +kernel
theorem dX0_goTick_36 : decode cX0_goTick 36 = .ok (.invokevirtual 202, 3) := by decide +kernel
theorem dX0_goTick_39 : decode cX0_goTick 39 = .ok (.ifCond .eq 7, 3) := by decide +kernel
theorem dX0_goTick_42 : decode cX0_goTick 42 = .ok (.aload_n 2, 1) := by decide +kernel
theorem dX0_goTick_43 : decode cX0_goTick 43 = .ok (.invokevirtual 237, 3) := by decide +kernel
theorem dX0_goTick_46 : decode cX0_goTick 46 = .ok (.iinc 1 1, 3) := by decide +kernel
theorem dX0_goTick_49 : decode cX0_goTick 49 = .ok (.goto (-47), 3) := by decide +kernel
theorem dX0_goTick_52 : decode cX0_goTick 52 = .ok (.iconst 0, 1) := by decide +kernel
theorem dX0_goTick_53 : decode cX0_goTick 53 = .ok (.istore_n 1, 1) := by decide +kernel
theorem dX0_goTick_54 : decode cX0_goTick 54 = .ok (.iload_n 1, 1) := by decide +kernel
theorem dX0_goTick_55 : decode cX0_goTick 55 = .ok (.aload_n 0, 1) := by decide +kernel
theorem dX0_goTick_56 : decode cX0_goTick 56 = .ok (.getfield 34, 3) := by decide +kernel
theorem dX0_goTick_59 : decode cX0_goTick 59 = .ok (.invokevirtual 11, 3) := by decide +kernel
theorem dX0_goTick_62 : decode cX0_goTick 62 = .ok (.if_icmp .ge 40, 3) := by decide +kernel
theorem dX0_goTick_65 : decode cX0_goTick 65 = .ok (.aload_n 0, 1) := by decide +kernel
theorem dX0_goTick_66 : decode cX0_goTick 66 = .ok (.getfield 34, 3) := by decide +kernel
theorem dX0_goTick_69 : decode cX0_goTick 69 = .ok (.iload_n 1, 1) := by decide +kernel
theorem dX0_goTick_70 : decode cX0_goTick 70 = .ok (.invokevirtual 17, 3) := by decide +kernel
theorem dX0_goTick_73 : decode cX0_goTick 73 = .ok (.checkcast 70, 3) := by decide +kernel
theorem dX0_goTick_76 : decode cX0_goTick 76 = .ok (.invokevirtual 240, 3) := by decide +kernel
theorem dX0_goTick_79 : decode cX0_goTick 79 = .ok (.ifCond .eq 17, 3) := by decide +kernel
theorem dX0_goTick_82 : decode cX0_goTick 82 = .ok (.aload_n 0, 1) := by decide +kernel
theorem dX0_goTick_83 : decode cX0_goTick 83 = .ok (.getfield 34, 3) := by decide +kernel
theorem dX0_goTick_86 : decode cX0_goTick 86 = .ok (.iload_n 1, 1) := by decide +kernel
theorem dX0_goTick_87 : decode cX0_goTick 87 = .ok (.invokevirtual 17, 3) := by decide +kernel
theorem dX0_goTick_90 : decode cX0_goTick 90 = .ok (.checkcast 70, 3) := by decide +kernel
theorem dX0_goTick_93 : decode cX0_goTick 93 = .ok (.invokevirtual 243, 3) := by decide +kernel
theorem dX0_goTick_96 : decode cX0_goTick 96 = .ok (.iinc 1 1, 3) := by decide +kernel
theorem dX0_goTick_99 : decode cX0_goTick 99 = .ok (.goto (-45), 3) := by decide +kernel
theorem dX0_goTick_102 : decode cX0_goTick 102 = .ok (.aload_n 0, 1) := by decide +kernel
theorem dX0_goTick_103 : decode cX0_goTick 103 = .ok (.dup, 1) := by decide +kernel
theorem dX0_goTick_104 : decode cX0_goTick 104 = .ok (.getfield 246, 3) := by decide +kernel
theorem dX0_goTick_107 : decode cX0_goTick 107 = .ok (.iconst 1, 1) := by decide +kernel
theorem dX0_goTick_108 : decode cX0_goTick 108 = .ok (.iadd, 1) := by decide +kernel
theorem dX0_goTick_109 : decode cX0_goTick 109 = .ok (.putfield 246, 3) := by decide +kernel
theorem dX0_goTick_112 : decode cX0_goTick 112 = .ok (.aload_n 0, 1) := by decide +kernel
theorem dX0_goTick_113 : decode cX0_goTick 113 = .ok (.getfield 228, 3) := by decide +kernel
theorem dX0_goTick_116 : decode cX0_goTick 116 = .ok (.ifCond .eq 15, 3) := by decide +kernel
theorem dX0_goTick_119 : decode cX0_goTick 119 = .ok (.aload_n 0, 1) := by decide +kernel
theorem dX0_goTick_120 : decode cX0_goTick 120 = .ok (.getfield 246, 3) := by decide +kernel
theorem dX0_goTick_123 : decode cX0_goTick 123 = .ok (.aload_n 0, 1) := by decide +kernel
theorem dX0_goTick_124 : decode cX0_goTick 124 = .ok (.getfield 228, 3) := by decide +kernel
theorem dX0_goTick_127 : decode cX0_goTick 127 = .ok (.irem, 1) := by decide +kernel
theorem dX0_goTick_128 : decode cX0_goTick 128 = .ok (.ifCond .eq 4, 3) := by decide +kernel
theorem dX0_goTick_131 : decode cX0_goTick 131 = .ok (.return_, 1) := by decide +kernel
theorem dX0_goTick_132 : decode cX0_goTick 132 = .ok (.iconst 0, 1) := by decide +kernel
theorem dX0_goTick_133 : decode cX0_goTick 133 = .ok (.istore_n 1, 1) := by decide +kernel
theorem dX0_goTick_134 : decode cX0_goTick 134 = .ok (.iload_n 1, 1) := by decide +kernel
theorem dX0_goTick_135 : decode cX0_goTick 135 = .ok (.aload_n 0, 1) := by decide +kernel
theorem dX0_goTick_136 : decode cX0_goTick 136 = .ok (.getfield 34, 3) := by decide +kernel
theorem dX0_goTick_139 : decode cX0_goTick 139 = .ok (.invokevirtual 11, 3) := by decide +kernel
theorem dX0_goTick_142 : decode cX0_goTick 142 = .ok (.if_icmp .ge 52, 3) := by decide +kernel
theorem dX0_goTick_145 : decode cX0_goTick 145 = .ok (.aload_n 0, 1) := by decide +kernel
theorem dX0_goTick_146 : decode cX0_goTick 146 = .ok (.getfield 34, 3) := by decide +kernel
theorem dX0_goTick_149 : decode cX0_goTick 149 = .ok (.iload_n 1, 1) := by decide +kernel
theorem dX0_goTick_150 : decode cX0_goTick 150 = .ok (.invokevirtual 17, 3) := by decide +kernel
theorem dX0_goTick_153 : decode cX0_goTick 153 = .ok (.checkcast 70, 3) := by decide +kernel
theorem dX0_goTick_156 : decode cX0_goTick 156 = .ok (.astore_n 2, 1) := by decide +kernel
theorem dX0_goTick_157 : decode cX0_goTick 157 = .ok (.aload_n 2, 1) := by decide +kernel
theorem dX0_goTick_158 : decode cX0_goTick 158 = .ok (.invokevirtual 240, 3) := by decide +kernel
theorem dX0_goTick_161 : decode cX0_goTick 161 = .ok (.ifCond .eq 27, 3) := by decide +kernel
theorem dX0_goTick_164 : decode cX0_goTick 164 = .ok (.aload_n 2, 1) := by decide +kernel
theorem dX0_goTick_165 : decode cX0_goTick 165 = .ok (.invokevirtual 183, 3) := by decide +kernel
theorem dX0_goTick_168 : decode cX0_goTick 168 = .ok (.bipush 10, 2) := by decide +kernel
theorem dX0_goTick_170 : decode cX0_goTick 170 = .ok (.if_icmp .lt 18, 3) := by decide +kernel
theorem dX0_goTick_173 : decode cX0_goTick 173 = .ok (.aload_n 2, 1) := by decide +kernel
theorem dX0_goTick_174 : decode cX0_goTick 174 = .ok (.bipush 40, 2) := by decide +kernel
theorem dX0_goTick_176 : decode cX0_goTick 176 = .ok (.aload_n 2, 1) := by decide +kernel
theorem dX0_goTick_177 : decode cX0_goTick 177 = .ok (.getfield 177, 3) := by decide +kernel
theorem dX0_goTick_180 : decode cX0_goTick 180 = .ok (.iconst 1, 1) := by decide +kernel
theorem dX0_goTick_181 : decode cX0_goTick 181 = .ok (.iadd, 1) := by decide +kernel
theorem dX0_goTick_182 : decode cX0_goTick 182 = .ok (.invokestatic 249, 3) := by decide +kernel
theorem dX0_goTick_185 : decode cX0_goTick 185 = .ok (.putfield 177, 3) := by decide +kernel
theorem dX0_goTick_188 : decode cX0_goTick 188 = .ok (.iinc 1 1, 3) := by decide +kernel
theorem dX0_goTick_191 : decode cX0_goTick 191 = .ok (.goto (-57), 3) := by decide +kernel
theorem dX0_goTick_194 : decode cX0_goTick 194 = .ok (.return_, 1) := by decide +kernel
abbrev cX0_row : ByteArray := prog_1_method_26_code
def yX0_row : MethodName := ⟨RX0, "row", "(II)I"⟩
theorem dX0_row_0 : decode cX0_row 0 = .ok (.iload_n 1, 1) := by decide +kernel
theorem dX0_row_1 : decode cX0_row 1 = .ok (.invokestatic 86, 3) := by decide +kernel
theorem dX0_row_4 : decode cX0_row 4 = .ok (.ifCond .eq 8, 3) := by decide +kernel
theorem dX0_row_7 : decode cX0_row 7 = .ok (.iload_n 2, 1) := by decide +kernel
theorem dX0_row_8 : decode cX0_row 8 = .ok (.iconst (-1), 1) := by decide +kernel
theorem dX0_row_9 : decode cX0_row 9 = .ok (.if_icmp .ge 5, 3) := by decide +kernel
theorem dX0_row_12 : decode cX0_row 12 = .ok (.iconst (-1), 1) := by decide +kernel
theorem dX0_row_13 : decode cX0_row 13 = .ok (.ireturn, 1) := by decide +kernel
theorem dX0_row_14 : decode cX0_row 14 = .ok (.iconst 0, 1) := by decide +kernel
theorem dX0_row_15 : decode cX0_row 15 = .ok (.istore_n 3, 1) := by decide +kernel
theorem dX0_row_16 : decode cX0_row 16 = .ok (.iconst 0, 1) := by decide +kernel
theorem dX0_row_17 : decode cX0_row 17 = .ok (.istore 4, 2) := by decide +kernel
theorem dX0_row_19 : decode cX0_row 19 = .ok (.iload 4, 2) := by decide +kernel
theorem dX0_row_21 : decode cX0_row 21 = .ok (.aload_n 0, 1) := by decide +kernel
theorem dX0_row_22 : decode cX0_row 22 = .ok (.getfield 34, 3) := by decide +kernel
theorem dX0_row_25 : decode cX0_row 25 = .ok (.invokevirtual 11, 3) := by decide +kernel
theorem dX0_row_28 : decode cX0_row 28 = .ok (.if_icmp .ge 153, 3) := by decide +kernel
theorem dX0_row_31 : decode cX0_row 31 = .ok (.aload_n 0, 1) := by decide +kernel
theorem dX0_row_32 : decode cX0_row 32 = .ok (.getfield 34, 3) := by decide +kernel
theorem dX0_row_35 : decode cX0_row 35 = .ok (.iload 4, 2) := by decide +kernel
theorem dX0_row_37 : decode cX0_row 37 = .ok (.invokevirtual 17, 3) := by decide +kernel
theorem dX0_row_40 : decode cX0_row 40 = .ok (.checkcast 70, 3) := by decide +kernel
theorem dX0_row_43 : decode cX0_row 43 = .ok (.astore 5, 2) := by decide +kernel
theorem dX0_row_45 : decode cX0_row 45 = .ok (.aload 5, 2) := by decide +kernel
theorem dX0_row_47 : decode cX0_row 47 = .ok (.invokevirtual 100, 3) := by decide +kernel
theorem dX0_row_50 : decode cX0_row 50 = .ok (.ifCond .eq 125, 3) := by decide +kernel
theorem dX0_row_53 : decode cX0_row 53 = .ok (.aload 5, 2) := by decide +kernel
theorem dX0_row_55 : decode cX0_row 55 = .ok (.getfield 104, 3) := by decide +kernel
theorem dX0_row_58 : decode cX0_row 58 = .ok (.iload_n 1, 1) := by decide +kernel
theorem dX0_row_59 : decode cX0_row 59 = .ok (.if_icmp .eq 6, 3) := by decide +kernel
theorem dX0_row_62 : decode cX0_row 62 = .ok (.goto 113, 3) := by decide +kernel
theorem dX0_row_65 : decode cX0_row 65 = .ok (.iinc 3 1, 3) := by decide +kernel
theorem dX0_row_68 : decode cX0_row 68 = .ok (.iconst 0, 1) := by decide +kernel
theorem dX0_row_69 : decode cX0_row 69 = .ok (.istore 6, 2) := by decide +kernel
theorem dX0_row_71 : decode cX0_row 71 = .ok (.iconst 0, 1) := by decide +kernel
theorem dX0_row_72 : decode cX0_row 72 = .ok (.istore 7, 2) := by decide +kernel
theorem dX0_row_74 : decode cX0_row 74 = .ok (.iload 7, 2) := by decide +kernel
theorem dX0_row_76 : decode cX0_row 76 = .ok (.aload_n 0, 1) := by decide +kernel
theorem dX0_row_77 : decode cX0_row 77 = .ok (.getfield 34, 3) := by decide +kernel
theorem dX0_row_80 : decode cX0_row 80 = .ok (.invokevirtual 11, 3) := by decide +kernel
theorem dX0_row_83 : decode cX0_row 83 = .ok (.if_icmp .ge 83, 3) := by decide +kernel
theorem dX0_row_86 : decode cX0_row 86 = .ok (.iload 6, 2) := by decide +kernel
theorem dX0_row_88 : decode cX0_row 88 = .ok (.iload 7, 2) := by decide +kernel
theorem dX0_row_90 : decode cX0_row 90 = .ok (.iload 4, 2) := by decide +kernel
theorem dX0_row_92 : decode cX0_row 92 = .ok (.if_icmp .eq 64, 3) := by decide +kernel
theorem dX0_row_95 : decode cX0_row 95 = .ok (.aload_n 0, 1) := by decide +kernel
theorem dX0_row_96 : decode cX0_row 96 = .ok (.getfield 34, 3) := by decide +kernel
theorem dX0_row_99 : decode cX0_row 99 = .ok (.iload 7, 2) := by decide +kernel
theorem dX0_row_101 : decode cX0_row 101 = .ok (.invokevirtual 17, 3) := by decide +kernel
theorem dX0_row_104 : decode cX0_row 104 = .ok (.checkcast 70, 3) := by decide +kernel
theorem dX0_row_107 : decode cX0_row 107 = .ok (.invokevirtual 100, 3) := by decide +kernel
theorem dX0_row_110 : decode cX0_row 110 = .ok (.ifCond .eq 46, 3) := by decide +kernel
theorem dX0_row_113 : decode cX0_row 113 = .ok (.aload_n 0, 1) := by decide +kernel
theorem dX0_row_114 : decode cX0_row 114 = .ok (.getfield 34, 3) := by decide +kernel
theorem dX0_row_117 : decode cX0_row 117 = .ok (.iload 7, 2) := by decide +kernel
theorem dX0_row_119 : decode cX0_row 119 = .ok (.invokevirtual 17, 3) := by decide +kernel
theorem dX0_row_122 : decode cX0_row 122 = .ok (.checkcast 70, 3) := by decide +kernel
theorem dX0_row_125 : decode cX0_row 125 = .ok (.getfield 104, 3) := by decide +kernel
theorem dX0_row_128 : decode cX0_row 128 = .ok (.iload_n 1, 1) := by decide +kernel
theorem dX0_row_129 : decode cX0_row 129 = .ok (.if_icmp .ne 27, 3) := by decide +kernel
theorem dX0_row_132 : decode cX0_row 132 = .ok (.aload_n 0, 1) := by decide +kernel
theorem dX0_row_133 : decode cX0_row 133 = .ok (.getfield 34, 3) := by decide +kernel
theorem dX0_row_136 : decode cX0_row 136 = .ok (.iload 7, 2) := by decide +kernel
theorem dX0_row_138 : decode cX0_row 138 = .ok (.invokevirtual 17, 3) := by decide +kernel
theorem dX0_row_141 : decode cX0_row 141 = .ok (.checkcast 70, 3) := by decide +kernel
theorem dX0_row_144 : decode cX0_row 144 = .ok (.aload 5, 2) := by decide +kernel
theorem dX0_row_146 : decode cX0_row 146 = .ok (.invokevirtual 107, 3) := by decide +kernel
theorem dX0_row_149 : decode cX0_row 149 = .ok (.ifCond .eq 7, 3) := by decide +kernel
theorem dX0_row_152 : decode cX0_row 152 = .ok (.iconst 1, 1) := by decide +kernel
theorem dX0_row_153 : decode cX0_row 153 = .ok (.goto 4, 3) := by decide +kernel
theorem dX0_row_156 : decode cX0_row 156 = .ok (.iconst 0, 1) := by decide +kernel
theorem dX0_row_157 : decode cX0_row 157 = .ok (.iadd, 1) := by decide +kernel
theorem dX0_row_158 : decode cX0_row 158 = .ok (.istore 6, 2) := by decide +kernel
theorem dX0_row_160 : decode cX0_row 160 = .ok (.iinc 7 1, 3) := by decide +kernel
theorem dX0_row_163 : decode cX0_row 163 = .ok (.goto (-89), 3) := by decide +kernel
theorem dX0_row_166 : decode cX0_row 166 = .ok (.iload 6, 2) := by decide +kernel
theorem dX0_row_168 : decode cX0_row 168 = .ok (.iload_n 2, 1) := by decide +kernel
theorem dX0_row_169 : decode cX0_row 169 = .ok (.if_icmp .ne 6, 3) := by decide +kernel
theorem dX0_row_172 : decode cX0_row 172 = .ok (.iload 4, 2) := by decide +kernel
theorem dX0_row_174 : decode cX0_row 174 = .ok (.ireturn, 1) := by decide +kernel
theorem dX0_row_175 : decode cX0_row 175 = .ok (.iinc 4 1, 3) := by decide +kernel
theorem dX0_row_178 : decode cX0_row 178 = .ok (.goto (-159), 3) := by decide +kernel
theorem dX0_row_181 : decode cX0_row 181 = .ok (.iload_n 2, 1) := by decide +kernel
theorem dX0_row_182 : decode cX0_row 182 = .ok (.iconst (-1), 1) := by decide +kernel
theorem dX0_row_183 : decode cX0_row 183 = .ok (.if_icmp .ne 7, 3) := by decide +kernel
theorem dX0_row_186 : decode cX0_row 186 = .ok (.iload_n 3, 1) := by decide +kernel
theorem dX0_row_187 : decode cX0_row 187 = .ok (.goto 4, 3) := by decide +kernel
theorem dX0_row_190 : decode cX0_row 190 = .ok (.iconst (-1), 1) := by decide +kernel
theorem dX0_row_191 : decode cX0_row 191 = .ok (.ireturn, 1) := by decide +kernel
abbrev cX0_exchanges : ByteArray := prog_1_method_27_code
def yX0_exchanges : MethodName := ⟨RX0, "exchanges", "(I)I"⟩
theorem dX0_exchanges_0 : decode cX0_exchanges 0 = .ok (.iload_n 1, 1) := by decide +kernel
theorem dX0_exchanges_1 : decode cX0_exchanges 1 = .ok (.iconst 0, 1) := by decide +kernel
theorem dX0_exchanges_2 : decode cX0_exchanges 2 = .ok (.iconst 2, 1) := by decide +kernel
theorem dX0_exchanges_3 : decode cX0_exchanges 3 = .ok (.invokestatic 3, 3) := by decide +kernel
theorem dX0_exchanges_6 : decode cX0_exchanges 6 = .ok (.ifCond .eq 12, 3) := by decide +kernel
theorem dX0_exchanges_9 : decode cX0_exchanges 9 = .ok (.aload_n 0, 1) := by decide +kernel
theorem dX0_exchanges_10 : decode cX0_exchanges 10 = .ok (.getfield 41, 3) := by decide +kernel
theorem dX0_exchanges_13 : decode cX0_exchanges 13 = .ok (.iload_n 1, 1) := by decide +kernel
theorem dX0_exchanges_14 : decode cX0_exchanges 14 = .ok (.iaload, 1) := by decide +kernel
theorem dX0_exchanges_15 : decode cX0_exchanges 15 = .ok (.goto 4, 3) := by decide +kernel
theorem dX0_exchanges_18 : decode cX0_exchanges 18 = .ok (.iconst (-1), 1) := by decide +kernel
theorem dX0_exchanges_19 : decode cX0_exchanges 19 = .ok (.ireturn, 1) := by decide +kernel
abbrev cX0_points : ByteArray := prog_1_method_28_code
def yX0_points : MethodName := ⟨RX0, "points", "()I"⟩
theorem dX0_points_0 : decode cX0_points 0 = .ok (.iconst 0, 1) := by decide +kernel
theorem dX0_points_1 : decode cX0_points 1 = .ok (.istore_n 1, 1) := by decide +kernel
theorem dX0_points_2 : decode cX0_points 2 = .ok (.iconst 0, 1) := by decide +kernel
theorem dX0_points_3 : decode cX0_points 3 = .ok (.istore_n 2, 1) := by decide +kernel
theorem dX0_points_4 : decode cX0_points 4 = .ok (.iload_n 2, 1) := by decide +kernel
theorem dX0_points_5 : decode cX0_points 5 = .ok (.aload_n 0, 1) := by decide +kernel
theorem dX0_points_6 : decode cX0_points 6 = .ok (.getfield 34, 3) := by decide +kernel
theorem dX0_points_9 : decode cX0_points 9 = .ok (.invokevirtual 11, 3) := by decide +kernel
theorem dX0_points_12 : decode cX0_points 12 = .ok (.if_icmp .ge 47, 3) := by decide +kernel
theorem dX0_points_15 : decode cX0_points 15 = .ok (.iload_n 1, 1) := by decide +kernel
theorem dX0_points_16 : decode cX0_points 16 = .ok (.aload_n 0, 1) := by decide +kernel
theorem dX0_points_17 : decode cX0_points 17 = .ok (.getfield 34, 3) := by decide +kernel
theorem dX0_points_20 : decode cX0_points 20 = .ok (.iload_n 2, 1) := by decide +kernel
theorem dX0_points_21 : decode cX0_points 21 = .ok (.invokevirtual 17, 3) := by decide +kernel
theorem dX0_points_24 : decode cX0_points 24 = .ok (.checkcast 70, 3) := by decide +kernel
theorem dX0_points_27 : decode cX0_points 27 = .ok (.invokevirtual 240, 3) := by decide +kernel
theorem dX0_points_30 : decode cX0_points 30 = .ok (.ifCond .eq 20, 3) := by decide +kernel
theorem dX0_points_33 : decode cX0_points 33 = .ok (.aload_n 0, 1) := by decide +kernel
theorem dX0_points_34 : decode cX0_points 34 = .ok (.getfield 34, 3) := by decide +kernel
theorem dX0_points_37 : decode cX0_points 37 = .ok (.iload_n 2, 1) := by decide +kernel
theorem dX0_points_38 : decode cX0_points 38 = .ok (.invokevirtual 17, 3) := by decide +kernel
theorem dX0_points_41 : decode cX0_points 41 = .ok (.checkcast 70, 3) := by decide +kernel
theorem dX0_points_44 : decode cX0_points 44 = .ok (.invokevirtual 183, 3) := by decide +kernel
theorem dX0_points_47 : decode cX0_points 47 = .ok (.goto 4, 3) := by decide +kernel
theorem dX0_points_50 : decode cX0_points 50 = .ok (.iconst 0, 1) := by decide +kernel
theorem dX0_points_51 : decode cX0_points 51 = .ok (.iadd, 1) := by decide +kernel
theorem dX0_points_52 : decode cX0_points 52 = .ok (.istore_n 1, 1) := by decide +kernel
theorem dX0_points_53 : decode cX0_points 53 = .ok (.iinc 2 1, 3) := by decide +kernel
theorem dX0_points_56 : decode cX0_points 56 = .ok (.goto (-52), 3) := by decide +kernel
theorem dX0_points_59 : decode cX0_points 59 = .ok (.iload_n 1, 1) := by decide +kernel
theorem dX0_points_60 : decode cX0_points 60 = .ok (.ireturn, 1) := by decide +kernel
abbrev cX0_chain : ByteArray := prog_1_method_30_code
def yX0_chain : MethodName := ⟨RX0, "chain", "(II)I"⟩
theorem dX0_chain_0 : decode cX0_chain 0 = .ok (.aload_n 0, 1) := by decide +kernel
theorem dX0_chain_1 : decode cX0_chain 1 = .ok (.iload_n 1, 1) := by decide +kernel
theorem dX0_chain_2 : decode cX0_chain 2 = .ok (.invokevirtual 111, 3) := by decide +kernel
theorem dX0_chain_5 : decode cX0_chain 5 = .ok (.astore_n 3, 1) := by decide +kernel
theorem dX0_chain_6 : decode cX0_chain 6 = .ok (.aload_n 3, 1) := by decide +kernel
theorem dX0_chain_7 : decode cX0_chain 7 = .ok (.ifnull 9, 3) := by decide +kernel
theorem dX0_chain_10 : decode cX0_chain 10 = .ok (.iload_n 2, 1) := by decide +kernel
theorem dX0_chain_11 : decode cX0_chain 11 = .ok (.bipush (-3), 2) := by decide +kernel
theorem dX0_chain_13 : decode cX0_chain 13 = .ok (.if_icmp .ge 5, 3) := by decide +kernel
theorem dX0_chain_16 : decode cX0_chain 16 = .ok (.iconst (-1), 1) := by decide +kernel
theorem dX0_chain_17 : decode cX0_chain 17 = .ok (.ireturn, 1) := by decide +kernel
theorem dX0_chain_18 : decode cX0_chain 18 = .ok (.aload_n 3, 1) := by decide +kernel
theorem dX0_chain_19 : decode cX0_chain 19 = .ok (.getfield 152, 3) := by decide +kernel
theorem dX0_chain_22 : decode cX0_chain 22 = .ok (.ifCond .eq 6, 3) := by decide +kernel
theorem dX0_chain_25 : decode cX0_chain 25 = .ok (.bipush (-3), 2) := by decide +kernel
theorem dX0_chain_27 : decode cX0_chain 27 = .ok (.ireturn, 1) := by decide +kernel
theorem dX0_chain_28 : decode cX0_chain 28 = .ok (.aload_n 0, 1) := by decide +kernel
theorem dX0_chain_29 : decode cX0_chain 29 = .ok (.aload_n 3, 1) := by decide +kernel
theorem dX0_chain_30 : decode cX0_chain 30 = .ok (.invokevirtual 267, 3) := by decide +kernel
theorem dX0_chain_33 : decode cX0_chain 33 = .ok (.iload_n 2, 1) := by decide +kernel
theorem dX0_chain_34 : decode cX0_chain 34 = .ok (.tableswitch 44 (-3) (-1) #[36, 31, 26], 26) := by decide +kernel
theorem dX0_chain_60 : decode cX0_chain 60 = .ok (.aload_n 0, 1) := by decide +kernel
theorem dX0_chain_61 : decode cX0_chain 61 = .ok (.getfield 258, 3) := by decide +kernel
theorem dX0_chain_64 : decode cX0_chain 64 = .ok (.ireturn, 1) := by decide +kernel
theorem dX0_chain_65 : decode cX0_chain 65 = .ok (.aload_n 0, 1) := by decide +kernel
theorem dX0_chain_66 : decode cX0_chain 66 = .ok (.getfield 261, 3) := by decide +kernel
theorem dX0_chain_69 : decode cX0_chain 69 = .ok (.ireturn, 1) := by decide +kernel
theorem dX0_chain_70 : decode cX0_chain 70 = .ok (.aload_n 0, 1) := by decide +kernel
theorem dX0_chain_71 : decode cX0_chain 71 = .ok (.getfield 264, 3) := by decide +kernel
theorem dX0_chain_74 : decode cX0_chain 74 = .ok (.getfield 179, 3) := by decide +kernel
theorem dX0_chain_77 : decode cX0_chain 77 = .ok (.ireturn, 1) := by decide +kernel
theorem dX0_chain_78 : decode cX0_chain 78 = .ok (.iload_n 2, 1) := by decide +kernel
theorem dX0_chain_79 : decode cX0_chain 79 = .ok (.aload_n 0, 1) := by decide +kernel
theorem dX0_chain_80 : decode cX0_chain 80 = .ok (.getfield 258, 3) := by decide +kernel
theorem dX0_chain_83 : decode cX0_chain 83 = .ok (.if_icmp .ge 12, 3) := by decide +kernel
theorem dX0_chain_86 : decode cX0_chain 86 = .ok (.aload_n 0, 1) := by decide +kernel
theorem dX0_chain_87 : decode cX0_chain 87 = .ok (.getfield 67, 3) := by decide +kernel
theorem dX0_chain_90 : decode cX0_chain 90 = .ok (.iload_n 2, 1) := by decide +kernel
theorem dX0_chain_91 : decode cX0_chain 91 = .ok (.iaload, 1) := by decide +kernel
theorem dX0_chain_92 : decode cX0_chain 92 = .ok (.goto 4, 3) := by decide +kernel
theorem dX0_chain_95 : decode cX0_chain 95 = .ok (.iconst (-1), 1) := by decide +kernel
theorem dX0_chain_96 : decode cX0_chain 96 = .ok (.ireturn, 1) := by decide +kernel
abbrev cX0_findChain : ByteArray := prog_1_method_29_code
def yX0_findChain : MethodName := ⟨RX0, "findChain", "(LShellBeach$Shell;)V"⟩
theorem dX0_findChain_0 : decode cX0_findChain 0 = .ok (.aload_n 0, 1) := by decide +kernel
theorem dX0_findChain_1 : decode cX0_findChain 1 = .ok (.iconst 0, 1) := by decide +kernel
theorem dX0_findChain_2 : decode cX0_findChain 2 = .ok (.putfield 258, 3) := by decide +kernel
theorem dX0_findChain_5 : decode cX0_findChain 5 = .ok (.aload_n 0, 1) := by decide +kernel
theorem dX0_findChain_6 : decode cX0_findChain 6 = .ok (.iconst 0, 1) := by decide +kernel
theorem dX0_findChain_7 : decode cX0_findChain 7 = .ok (.putfield 261, 3) := by decide +kernel
theorem dX0_findChain_10 : decode cX0_findChain 10 = .ok (.aload_n 0, 1) := by decide +kernel
theorem dX0_findChain_11 : decode cX0_findChain 11 = .ok (.aload_n 1, 1) := by decide +kernel
theorem dX0_findChain_12 : decode cX0_findChain 12 = .ok (.putfield 264, 3) := by decide +kernel
theorem dX0_findChain_15 : decode cX0_findChain 15 = .ok (.iconst 0, 1) := by decide +kernel
theorem dX0_findChain_16 : decode cX0_findChain 16 = .ok (.istore_n 2, 1) := by decide +kernel
theorem dX0_findChain_17 : decode cX0_findChain 17 = .ok (.aconst_null, 1) := by decide +kernel
theorem dX0_findChain_18 : decode cX0_findChain 18 = .ok (.astore_n 3, 1) := by decide +kernel
theorem dX0_findChain_19 : decode cX0_findChain 19 = .ok (.iconst 0, 1) := by decide +kernel
theorem dX0_findChain_20 : decode cX0_findChain 20 = .ok (.istore 4, 2) := by decide +kernel
theorem dX0_findChain_22 : decode cX0_findChain 22 = .ok (.iconst 0, 1) := by decide +kernel
theorem dX0_findChain_23 : decode cX0_findChain 23 = .ok (.istore 5, 2) := by decide +kernel
theorem dX0_findChain_25 : decode cX0_findChain 25 = .ok (.iload 5, 2) := by decide +kernel
theorem dX0_findChain_27 : decode cX0_findChain 27 = .ok (.aload_n 0, 1) := by decide +kernel
theorem dX0_findChain_28 : decode cX0_findChain 28 = .ok (.getfield 34, 3) := by decide +kernel
theorem dX0_findChain_31 : decode cX0_findChain 31 = .ok (.invokevirtual 11, 3) := by decide +kernel
theorem dX0_findChain_34 : decode cX0_findChain 34 = .ok (.if_icmp .ge 90, 3) := by decide +kernel
theorem dX0_findChain_37 : decode cX0_findChain 37 = .ok (.aload_n 0, 1) := by decide +kernel
theorem dX0_findChain_38 : decode cX0_findChain 38 = .ok (.getfield 34, 3) := by decide +kernel
theorem dX0_findChain_41 : decode cX0_findChain 41 = .ok (.iload 5, 2) := by decide +kernel
theorem dX0_findChain_43 : decode cX0_findChain 43 = .ok (.invokevirtual 17, 3) := by decide +kernel
theorem dX0_findChain_46 : decode cX0_findChain 46 = .ok (.checkcast 70, 3) := by decide +kernel
theorem dX0_findChain_49 : decode cX0_findChain 49 = .ok (.astore 6, 2) := by decide +kernel
theorem dX0_findChain_51 : decode cX0_findChain 51 = .ok (.aload 6, 2) := by decide +kernel
theorem dX0_findChain_53 : decode cX0_findChain 53 = .ok (.invokevirtual 240, 3) := by decide +kernel
theorem dX0_findChain_56 : decode cX0_findChain 56 = .ok (.ifCond .eq 62, 3) := by decide +kernel
theorem dX0_findChain_59 : decode cX0_findChain 59 = .ok (.iload_n 2, 1) := by decide +kernel
theorem dX0_findChain_60 : decode cX0_findChain 60 = .ok (.iload 5, 2) := by decide +kernel
theorem dX0_findChain_62 : decode cX0_findChain 62 = .ok (.ishr, 1) := by decide +kernel
theorem dX0_findChain_63 : decode cX0_findChain 63 = .ok (.iconst 1, 1) := by decide +kernel
theorem dX0_findChain_64 : decode cX0_findChain 64 = .ok (.iand, 1) := by decide +kernel
theorem dX0_findChain_65 : decode cX0_findChain 65 = .ok (.iconst 1, 1) := by decide +kernel
theorem dX0_findChain_66 : decode cX0_findChain 66 = .ok (.if_icmp .eq 52, 3) := by decide +kernel
theorem dX0_findChain_69 : decode cX0_findChain 69 = .ok (.aload_n 0, 1) := by decide +kernel
theorem dX0_findChain_70 : decode cX0_findChain 70 = .ok (.getfield 264, 3) := by decide +kernel
theorem dX0_findChain_73 : decode cX0_findChain 73 = .ok (.aload 6, 2) := by decide +kernel
theorem dX0_findChain_75 : decode cX0_findChain 75 = .ok (.getfield 177, 3) := by decide +kernel
theorem dX0_findChain_78 : decode cX0_findChain 78 = .ok (.invokevirtual 192, 3) := by decide +kernel
theorem dX0_findChain_81 : decode cX0_findChain 81 = .ok (.aload 6, 2) := by decide +kernel
theorem dX0_findChain_83 : decode cX0_findChain 83 = .ok (.invokevirtual 183, 3) := by decide +kernel
theorem dX0_findChain_86 : decode cX0_findChain 86 = .ok (.isub, 1) := by decide +kernel
theorem dX0_findChain_87 : decode cX0_findChain 87 = .ok (.iload 4, 2) := by decide +kernel
theorem dX0_findChain_89 : decode cX0_findChain 89 = .ok (.if_icmp .gt 6, 3) := by decide +kernel
theorem dX0_findChain_92 : decode cX0_findChain 92 = .ok (.goto 26, 3) := by decide +kernel
theorem dX0_findChain_95 : decode cX0_findChain 95 = .ok (.aload_n 0, 1) := by decide +kernel
theorem dX0_findChain_96 : decode cX0_findChain 96 = .ok (.getfield 264, 3) := by decide +kernel
theorem dX0_findChain_99 : decode cX0_findChain 99 = .ok (.aload 6, 2) := by decide +kernel
theorem dX0_findChain_101 : decode cX0_findChain 101 = .ok (.getfield 177, 3) := by decide +kernel
theorem dX0_findChain_104 : decode cX0_findChain 104 = .ok (.invokevirtual 192, 3) := by decide +kernel
theorem dX0_findChain_107 : decode cX0_findChain 107 = .ok (.aload 6, 2) := by decide +kernel
theorem dX0_findChain_109 : decode cX0_findChain 109 = .ok (.invokevirtual 183, 3) := by decide +kernel
theorem dX0_findChain_112 : decode cX0_findChain 112 = .ok (.isub, 1) := by decide +kernel
theorem dX0_findChain_113 : decode cX0_findChain 113 = .ok (.istore 4, 2) := by decide +kernel
theorem dX0_findChain_115 : decode cX0_findChain 115 = .ok (.aload 6, 2) := by decide +kernel
theorem dX0_findChain_117 : decode cX0_findChain 117 = .ok (.astore_n 3, 1) := by decide +kernel
theorem dX0_findChain_118 : decode cX0_findChain 118 = .ok (.iinc 5 1, 3) := by decide +kernel
theorem dX0_findChain_121 : decode cX0_findChain 121 = .ok (.goto (-96), 3) := by decide +kernel
theorem dX0_findChain_124 : decode cX0_findChain 124 = .ok (.aload_n 3, 1) := by decide +kernel
theorem dX0_findChain_125 : decode cX0_findChain 125 = .ok (.ifnonnull 4, 3) := by decide +kernel
theorem dX0_findChain_128 : decode cX0_findChain 128 = .ok (.return_, 1) := by decide +kernel
theorem dX0_findChain_129 : decode cX0_findChain 129 = .ok (.iload_n 2, 1) := by decide +kernel
theorem dX0_findChain_130 : decode cX0_findChain 130 = .ok (.iconst 1, 1) := by decide +kernel
theorem dX0_findChain_131 : decode cX0_findChain 131 = .ok (.aload_n 3, 1) := by decide +kernel
theorem dX0_findChain_132 : decode cX0_findChain 132 = .ok (.getfield 125, 3) := by decide +kernel
theorem dX0_findChain_135 : decode cX0_findChain 135 = .ok (.ishl, 1) := by decide +kernel
theorem dX0_findChain_136 : decode cX0_findChain 136 = .ok (.ior, 1) := by decide +kernel
theorem dX0_findChain_137 : decode cX0_findChain 137 = .ok (.istore_n 2, 1) := by decide +kernel
theorem dX0_findChain_138 : decode cX0_findChain 138 = .ok (.aload_n 0, 1) := by decide +kernel
theorem dX0_findChain_139 : decode cX0_findChain 139 = .ok (.getfield 67, 3) := by decide +kernel
theorem dX0_findChain_142 : decode cX0_findChain 142 = .ok (.aload_n 0, 1) := by decide +kernel
theorem dX0_findChain_143 : decode cX0_findChain 143 = .ok (.dup, 1) := by decide +kernel
theorem dX0_findChain_144 : decode cX0_findChain 144 = .ok (.getfield 258, 3) := by decide +kernel
theorem dX0_findChain_147 : decode cX0_findChain 147 = .ok (.dup_x1, 1) := by decide +kernel
theorem dX0_findChain_148 : decode cX0_findChain 148 = .ok (.iconst 1, 1) := by decide +kernel
theorem dX0_findChain_149 : decode cX0_findChain 149 = .ok (.iadd, 1) := by decide +kernel
theorem dX0_findChain_150 : decode cX0_findChain 150 = .ok (.putfield 258, 3) := by decide +kernel
theorem dX0_findChain_153 : decode cX0_findChain 153 = .ok (.aload_n 3, 1) := by decide +kernel
theorem dX0_findChain_154 : decode cX0_findChain 154 = .ok (.getfield 125, 3) := by decide +kernel
theorem dX0_findChain_157 : decode cX0_findChain 157 = .ok (.iastore, 1) := by decide +kernel
theorem dX0_findChain_158 : decode cX0_findChain 158 = .ok (.aload_n 0, 1) := by decide +kernel
theorem dX0_findChain_159 : decode cX0_findChain 159 = .ok (.dup, 1) := by decide +kernel
theorem dX0_findChain_160 : decode cX0_findChain 160 = .ok (.getfield 261, 3) := by decide +kernel
theorem dX0_findChain_163 : decode cX0_findChain 163 = .ok (.iload 4, 2) := by decide +kernel
theorem dX0_findChain_165 : decode cX0_findChain 165 = .ok (.iadd, 1) := by decide +kernel
theorem dX0_findChain_166 : decode cX0_findChain 166 = .ok (.putfield 261, 3) := by decide +kernel
theorem dX0_findChain_169 : decode cX0_findChain 169 = .ok (.aload_n 0, 1) := by decide +kernel
theorem dX0_findChain_170 : decode cX0_findChain 170 = .ok (.aload_n 3, 1) := by decide +kernel
theorem dX0_findChain_171 : decode cX0_findChain 171 = .ok (.getfield 147, 3) := by decide +kernel
theorem dX0_findChain_174 : decode cX0_findChain 174 = .ok (.putfield 264, 3) := by decide +kernel
theorem dX0_findChain_177 : decode cX0_findChain 177 = .ok (.goto (-160), 3) := by decide +kernel
abbrev cX0_value : ByteArray := prog_1_method_32_code
def yX0_value : MethodName := ⟨RX0, "value", "(I)I"⟩
theorem dX0_value_0 : decode cX0_value 0 = .ok (.iload_n 1, 1) := by decide +kernel
theorem dX0_value_1 : decode cX0_value 1 = .ok (.iconst 1, 1) := by decide +kernel
theorem dX0_value_2 : decode cX0_value 2 = .ok (.bipush 40, 2) := by decide +kernel
theorem dX0_value_4 : decode cX0_value 4 = .ok (.invokestatic 3, 3) := by decide +kernel
theorem dX0_value_7 : decode cX0_value 7 = .ok (.ifCond .eq 11, 3) := by decide +kernel
theorem dX0_value_10 : decode cX0_value 10 = .ok (.aload_n 0, 1) := by decide +kernel
theorem dX0_value_11 : decode cX0_value 11 = .ok (.iload_n 1, 1) := by decide +kernel
theorem dX0_value_12 : decode cX0_value 12 = .ok (.invokevirtual 270, 3) := by decide +kernel
theorem dX0_value_15 : decode cX0_value 15 = .ok (.goto 5, 3) := by decide +kernel
theorem dX0_value_18 : decode cX0_value 18 = .ok (.bipush (-2), 2) := by decide +kernel
theorem dX0_value_20 : decode cX0_value 20 = .ok (.ireturn, 1) := by decide +kernel
abbrev cX0_valueOf : ByteArray := prog_1_method_31_code
def yX0_valueOf : MethodName := ⟨RX0, "valueOf", "(I)I"⟩
theorem dX0_valueOf_0 : decode cX0_valueOf 0 = .ok (.aload_n 0, 1) := by decide +kernel
theorem dX0_valueOf_1 : decode cX0_valueOf 1 = .ok (.new 21, 3) := by decide +kernel
theorem dX0_valueOf_4 : decode cX0_valueOf 4 = .ok (.dup, 1) := by decide +kernel
theorem dX0_valueOf_5 : decode cX0_valueOf 5 = .ok (.iconst (-1), 1) := by decide +kernel
theorem dX0_valueOf_6 : decode cX0_valueOf 6 = .ok (.iconst 0, 1) := by decide +kernel
theorem dX0_valueOf_7 : decode cX0_valueOf 7 = .ok (.iload_n 1, 1) := by decide +kernel
theorem dX0_valueOf_8 : decode cX0_valueOf 8 = .ok (.iconst 0, 1) := by decide +kernel
theorem dX0_valueOf_9 : decode cX0_valueOf 9 = .ok (.iconst 0, 1) := by decide +kernel
theorem dX0_valueOf_10 : decode cX0_valueOf 10 = .ok (.invokespecial 90, 3) := by decide +kernel
theorem dX0_valueOf_13 : decode cX0_valueOf 13 = .ok (.invokevirtual 267, 3) := by decide +kernel
theorem dX0_valueOf_16 : decode cX0_valueOf 16 = .ok (.aload_n 0, 1) := by decide +kernel
theorem dX0_valueOf_17 : decode cX0_valueOf 17 = .ok (.getfield 261, 3) := by decide +kernel
theorem dX0_valueOf_20 : decode cX0_valueOf 20 = .ok (.ireturn, 1) := by decide +kernel
abbrev cX0_first : ByteArray := prog_1_method_33_code
def yX0_first : MethodName := ⟨RX0, "first", "()I"⟩
theorem dX0_first_0 : decode cX0_first 0 = .ok (.iconst 1, 1) := by decide +kernel
