set_option maxRecDepth 100000
/-! ShellBeach$Case -/
def RX1 : String := "ShellBeach$Case"
def TX1 : u_T := fun k => match k with
  | 0 => ("ShellBeach$Case", "f", "I", false)
  | 1 => ("ShellBeach$Case", "g", "I", false)
  | 2 => ("ShellBeach$Case", "s", "I", false)
  | 3 => ("ShellBeach$Case", "o", "I", false)
  | _ => ("ShellBeach$Case", "n", "I", false)
def tyX1 : Nat → FieldType := fun k => match k with
  | 0 => .int
  | 1 => .int
  | 2 => .int
  | 3 => .int
  | _ => .int
abbrev wsX10 : List Cond := u_ws RX1 TX1 5
theorem nmX1 : ∀ a, a < 5 → ∀ b, b < 5 → a ≠ b → (TX1 a).2.1 ≠ (TX1 b).2.1 := by decide +kernel
theorem tyX1_ok : ∀ k, k < 5 → parseFieldDescriptor (TX1 k).2.2.1 = some (tyX1 k) := by decide +kernel
abbrev cX1_init : ByteArray := prog_3_method_1_code
def yX1_init : MethodName := ⟨RX1, "<init>", "()V"⟩
theorem dX1_init_0 : decode cX1_init 0 = .ok (.aload_n 0, 1) := by decide +kernel
theorem dX1_init_1 : decode cX1_init 1 = .ok (.invokespecial 1, 3) := by decide +kernel
theorem dX1_init_4 : decode cX1_init 4 = .ok (.return_, 1) := by decide +kernel
abbrev cX1_with : ByteArray := prog_3_method_2_code
def yX1_with : MethodName := ⟨RX1, "with", "(IIIII)LShellBeach$Case;"⟩
theorem dX1_with_0 : decode cX1_with 0 = .ok (.aload_n 0, 1) := by decide +kernel
theorem dX1_with_1 : decode cX1_with 1 = .ok (.iload_n 1, 1) := by decide +kernel
theorem dX1_with_2 : decode cX1_with 2 = .ok (.putfield 7, 3) := by decide +kernel
theorem dX1_with_5 : decode cX1_with 5 = .ok (.aload_n 0, 1) := by decide +kernel
theorem dX1_with_6 : decode cX1_with 6 = .ok (.iload_n 2, 1) := by decide +kernel
theorem dX1_with_7 : decode cX1_with 7 = .ok (.putfield 13, 3) := by decide +kernel
theorem dX1_with_10 : decode cX1_with 10 = .ok (.aload_n 0, 1) := by decide +kernel
theorem dX1_with_11 : decode cX1_with 11 = .ok (.iload_n 3, 1) := by decide +kernel
theorem dX1_with_12 : decode cX1_with 12 = .ok (.putfield 16, 3) := by decide +kernel
theorem dX1_with_15 : decode cX1_with 15 = .ok (.aload_n 0, 1) := by decide +kernel
theorem dX1_with_16 : decode cX1_with 16 = .ok (.iload 4, 2) := by decide +kernel
theorem dX1_with_18 : decode cX1_with 18 = .ok (.putfield 19, 3) := by decide +kernel
theorem dX1_with_21 : decode cX1_with 21 = .ok (.aload_n 0, 1) := by decide +kernel
theorem dX1_with_22 : decode cX1_with 22 = .ok (.iload 5, 2) := by decide +kernel
theorem dX1_with_24 : decode cX1_with 24 = .ok (.putfield 22, 3) := by decide +kernel
theorem dX1_with_27 : decode cX1_with 27 = .ok (.aload_n 0, 1) := by decide +kernel
theorem dX1_with_28 : decode cX1_with 28 = .ok (.areturn, 1) := by decide +kernel
abbrev cX1_fact : ByteArray := prog_3_method_3_code
def yX1_fact : MethodName := ⟨RX1, "fact", "(I)I"⟩
theorem dX1_fact_0 : decode cX1_fact 0 = .ok (.iload_n 1, 1) := by decide +kernel
theorem dX1_fact_1 : decode cX1_fact 1 = .ok (.lookupswitch 63 #[(102, 43), (103, 48), (111, 58), (115, 53)], 43) := by decide +kernel
theorem dX1_fact_44 : decode cX1_fact 44 = .ok (.aload_n 0, 1) := by decide +kernel
theorem dX1_fact_45 : decode cX1_fact 45 = .ok (.getfield 7, 3) := by decide +kernel
theorem dX1_fact_48 : decode cX1_fact 48 = .ok (.ireturn, 1) := by decide +kernel
theorem dX1_fact_49 : decode cX1_fact 49 = .ok (.aload_n 0, 1) := by decide +kernel
theorem dX1_fact_50 : decode cX1_fact 50 = .ok (.getfield 13, 3) := by decide +kernel
theorem dX1_fact_53 : decode cX1_fact 53 = .ok (.ireturn, 1) := by decide +kernel
theorem dX1_fact_54 : decode cX1_fact 54 = .ok (.aload_n 0, 1) := by decide +kernel
theorem dX1_fact_55 : decode cX1_fact 55 = .ok (.getfield 16, 3) := by decide +kernel
theorem dX1_fact_58 : decode cX1_fact 58 = .ok (.ireturn, 1) := by decide +kernel
theorem dX1_fact_59 : decode cX1_fact 59 = .ok (.aload_n 0, 1) := by decide +kernel
theorem dX1_fact_60 : decode cX1_fact 60 = .ok (.getfield 19, 3) := by decide +kernel
theorem dX1_fact_63 : decode cX1_fact 63 = .ok (.ireturn, 1) := by decide +kernel
theorem dX1_fact_64 : decode cX1_fact 64 = .ok (.aload_n 0, 1) := by decide +kernel
theorem dX1_fact_65 : decode cX1_fact 65 = .ok (.getfield 22, 3) := by decide +kernel
theorem dX1_fact_68 : decode cX1_fact 68 = .ok (.ireturn, 1) := by decide +kernel
theorem q90 : (Jvm.Cond.initialized "ShellBeach$Case") ∈ lw_all := lw_g (lw_at lw_m1 5 rfl) rfl
theorem q156 : (Jvm.Cond.instantiable "ShellBeach$Case" (5 : Nat)) ∈ lw_all := lw_g (lw_at lw_m1 71 rfl) rfl
theorem q158 : (Jvm.Cond.instanceMethod ({ cls := "ShellBeach$Case", name := "<init>", desc := "()V" } : Jvm.MethodName)) ∈ lw_all := lw_g (lw_at lw_m1 73 rfl) rfl
theorem q159 : (Jvm.Cond.code ({ cls := "ShellBeach$Case", name := "<init>", desc := "()V" } : Jvm.MethodName) prog_3_method_1_code (1 : Nat) (Option.none : Option Jvm.ClassFile.FieldType)) ∈ lw_all := lw_g (lw_at lw_m1 74 rfl) rfl
theorem q160 : (Jvm.Cond.methodLink "ShellBeach$Case" (1 : Nat) ({ cls := "java/lang/Object", name := "<init>", desc := "()V" } : Jvm.MethodName)) ∈ lw_all := lw_g (lw_at lw_m1 75 rfl) rfl
theorem q161 : (Jvm.Cond.fieldLink "ShellBeach$Case" (7 : Nat) "ShellBeach$Case" "f" "I") ∈ lw_all := lw_g (lw_at lw_m1 76 rfl) rfl
theorem q162 : (Jvm.Cond.fieldLink "ShellBeach$Case" (13 : Nat) "ShellBeach$Case" "g" "I") ∈ lw_all := lw_g (lw_at lw_m1 77 rfl) rfl
theorem q163 : (Jvm.Cond.fieldLink "ShellBeach$Case" (16 : Nat) "ShellBeach$Case" "s" "I") ∈ lw_all := lw_g (lw_at lw_m1 78 rfl) rfl
theorem q164 : (Jvm.Cond.fieldLink "ShellBeach$Case" (19 : Nat) "ShellBeach$Case" "o" "I") ∈ lw_all := lw_g (lw_at lw_m1 79 rfl) rfl
theorem q165 : (Jvm.Cond.fieldLink "ShellBeach$Case" (22 : Nat) "ShellBeach$Case" "n" "I") ∈ lw_all := lw_g (lw_at lw_m1 80 rfl) rfl
theorem q166 : (Jvm.Cond.lays "ShellBeach$Case" "ShellBeach$Case" "f" "I") ∈ lw_all := lw_g (lw_at lw_m1 81 rfl) rfl
theorem q167 : (Jvm.Cond.soleField "ShellBeach$Case" "f") ∈ lw_all := lw_g (lw_at lw_m1 82 rfl) rfl
theorem q168 : (Jvm.Cond.lays "ShellBeach$Case" "ShellBeach$Case" "g" "I") ∈ lw_all := lw_g (lw_at lw_m1 83 rfl) rfl
theorem q169 : (Jvm.Cond.soleField "ShellBeach$Case" "g") ∈ lw_all := lw_g (lw_at lw_m1 84 rfl) rfl
theorem q170 : (Jvm.Cond.lays "ShellBeach$Case" "ShellBeach$Case" "s" "I") ∈ lw_all := lw_g (lw_at lw_m1 85 rfl) rfl
theorem q171 : (Jvm.Cond.soleField "ShellBeach$Case" "s") ∈ lw_all := lw_g (lw_at lw_m1 86 rfl) rfl
theorem q172 : (Jvm.Cond.lays "ShellBeach$Case" "ShellBeach$Case" "o" "I") ∈ lw_all := lw_g (lw_at lw_m1 87 rfl) rfl
theorem q173 : (Jvm.Cond.soleField "ShellBeach$Case" "o") ∈ lw_all := lw_g (lw_at lw_m1 88 rfl) rfl
theorem q174 : (Jvm.Cond.lays "ShellBeach$Case" "ShellBeach$Case" "n" "I") ∈ lw_all := lw_g (lw_at lw_m1 89 rfl) rfl
theorem q175 : (Jvm.Cond.soleField "ShellBeach$Case" "n") ∈ lw_all := lw_g (lw_at lw_m1 90 rfl) rfl
theorem q176 : (Jvm.Cond.superclass "ShellBeach$Case" "java/lang/Object") ∈ lw_all := lw_g (lw_at lw_m1 91 rfl) rfl
theorem q391 : (Jvm.Cond.selects "ShellBeach$Case" ({ cls := "java/lang/Object", name := "getClass", desc := "()Ljava/lang/Class;" } : Jvm.MethodName) ({ cls := "java/lang/Object", name := "getClass", desc := "()Ljava/lang/Class;" } : Jvm.MethodName)) ∈ lw_all := lw_g (lw_at lw_m2 66 rfl) rfl
theorem q917 : (Jvm.Cond.instanceMethod ({ cls := "ShellBeach$Case", name := "with", desc := "(IIIII)LShellBeach$Case;" } : Jvm.MethodName)) ∈ lw_all := lw_g (lw_at lw_m4 112 rfl) rfl
theorem q918 : (Jvm.Cond.selects "ShellBeach$Case" ({ cls := "ShellBeach$Case", name := "with", desc := "(IIIII)LShellBeach$Case;" } : Jvm.MethodName) ({ cls := "ShellBeach$Case", name := "with", desc := "(IIIII)LShellBeach$Case;" } : Jvm.MethodName)) ∈ lw_all := lw_g (lw_at lw_m4 113 rfl) rfl
theorem q919 : (Jvm.Cond.code ({ cls := "ShellBeach$Case", name := "with", desc := "(IIIII)LShellBeach$Case;" } : Jvm.MethodName) prog_3_method_2_code (6 : Nat) (Option.some (Jvm.ClassFile.FieldType.object "ShellBeach$Case"))) ∈ lw_all := lw_g (lw_at lw_m4 114 rfl) rfl
theorem q934 : (Jvm.Cond.instanceMethod ({ cls := "ShellBeach$Case", name := "fact", desc := "(I)I" } : Jvm.MethodName)) ∈ lw_all := lw_g (lw_at lw_m4 129 rfl) rfl
theorem q935 : (Jvm.Cond.selects "ShellBeach$Case" ({ cls := "ShellBeach$Case", name := "fact", desc := "(I)I" } : Jvm.MethodName) ({ cls := "ShellBeach$Case", name := "fact", desc := "(I)I" } : Jvm.MethodName)) ∈ lw_all := lw_g (lw_at lw_m4 130 rfl) rfl
theorem q936 : (Jvm.Cond.code ({ cls := "ShellBeach$Case", name := "fact", desc := "(I)I" } : Jvm.MethodName) prog_3_method_3_code (2 : Nat) (Option.some Jvm.ClassFile.FieldType.int)) ∈ lw_all := lw_g (lw_at lw_m4 131 rfl) rfl
theorem q1878 : (Jvm.Cond.castable "ShellBeach$Case" "java/lang/Object") ∈ lw_tbl := lw_at lw_m8 113 rfl
theorem in_X1 : ∀ w ∈ wsX10, w ∈ lw_all := lw_in wsX10 [166, 168, 170, 172, 174] (by decide +kernel) (by decide +kernel)
/-! ShellBeach$Reader -/
def RX2 : String := "ShellBeach$Reader"
def TX2 : u_T := fun k => match k with
  | 0 => ("ShellBeach$Reader", "words", "[[C", true)
  | 1 => ("ShellBeach$Reader", "at", "I", false)
  | 2 => ("ShellBeach$Reader", "open", "I", false)
  | 3 => ("ShellBeach$Reader", "habit", "LShellBeach$Habit;", false)
  | _ => ("ShellBeach$Reader", "this$0", "LShellBeach;", true)
def tyX2 : Nat → FieldType := fun k => match k with
  | 0 => .array (.array .char)
  | 1 => .int
  | 2 => .int
  | 3 => .object "ShellBeach$Habit"
  | _ => .object "ShellBeach"
abbrev wsX20 : List Cond := u_ws RX2 TX2 5
theorem nmX2 : ∀ a, a < 5 → ∀ b, b < 5 → a ≠ b → (TX2 a).2.1 ≠ (TX2 b).2.1 := by decide +kernel
theorem tyX2_ok : ∀ k, k < 5 → parseFieldDescriptor (TX2 k).2.2.1 = some (tyX2 k) := by decide +kernel
abbrev cX2_init : ByteArray := prog_13_method_1_code
def yX2_init : MethodName := ⟨RX2, "<init>", "(LShellBeach;)V"⟩
theorem dX2_init_0 : decode cX2_init 0 = .ok (.aload_n 0, 1) := by decide +kernel
theorem dX2_init_1 : decode cX2_init 1 = .ok (.aload_n 1, 1) := by decide +kernel
theorem dX2_init_2 : decode cX2_init 2 = .ok (.putfield 3, 3) := by decide +kernel
theorem dX2_init_5 : decode cX2_init 5 = .ok (.aload_n 0, 1) := by decide +kernel
theorem dX2_init_6 : decode cX2_init 6 = .ok (.invokespecial 9, 3) := by decide +kernel
theorem dX2_init_9 : decode cX2_init 9 = .ok (.aload_n 0, 1) := by decide +kernel
theorem dX2_init_10 : decode cX2_init 10 = .ok (.iconst 4, 1) := by decide +kernel
theorem dX2_init_11 : decode cX2_init 11 = .ok (.anewarray 15, 3) := by decide +kernel
theorem dX2_init_14 : decode cX2_init 14 = .ok (.dup, 1) := by decide +kernel
theorem dX2_init_15 : decode cX2_init 15 = .ok (.iconst 0, 1) := by decide +kernel
theorem dX2_init_16 : decode cX2_init 16 = .ok (.iconst 4, 1) := by decide +kernel
theorem dX2_init_17 : decode cX2_init 17 = .ok (.newarray .char, 2) := by decide +kernel
theorem dX2_init_19 : decode cX2_init 19 = .ok (.dup, 1) := by decide +kernel
theorem dX2_init_20 : decode cX2_init 20 = .ok (.iconst 0, 1) := by decide +kernel
theorem dX2_init_21 : decode cX2_init 21 = .ok (.bipush 116, 2) := by decide +kernel
theorem dX2_init_23 : decode cX2_init 23 = .ok (.castore, 1) := by decide +kernel
theorem dX2_init_24 : decode cX2_init 24 = .ok (.dup, 1) := by decide +kernel
theorem dX2_init_25 : decode cX2_init 25 = .ok (.iconst 1, 1) := by decide +kernel
theorem dX2_init_26 : decode cX2_init 26 = .ok (.bipush 97, 2) := by decide +kernel
theorem dX2_init_28 : decode cX2_init 28 = .ok (.castore, 1) := by decide +kernel
theorem dX2_init_29 : decode cX2_init 29 = .ok (.dup, 1) := by decide +kernel
theorem dX2_init_30 : decode cX2_init 30 = .ok (.iconst 2, 1) := by decide +kernel
theorem dX2_init_31 : decode cX2_init 31 = .ok (.bipush 107, 2) := by decide +kernel
theorem dX2_init_33 : decode cX2_init 33 = .ok (.castore, 1) := by decide +kernel
theorem dX2_init_34 : decode cX2_init 34 = .ok (.dup, 1) := by decide +kernel
theorem dX2_init_35 : decode cX2_init 35 = .ok (.iconst 3, 1) := by decide +kernel
theorem dX2_init_36 : decode cX2_init 36 = .ok (.bipush 101, 2) := by decide +kernel
theorem dX2_init_38 : decode cX2_init 38 = .ok (.castore, 1) := by decide +kernel
theorem dX2_init_39 : decode cX2_init 39 = .ok (.aastore, 1) := by decide +kernel
theorem dX2_init_40 : decode cX2_init 40 = .ok (.dup, 1) := by decide +kernel
theorem dX2_init_41 : decode cX2_init 41 = .ok (.iconst 1, 1) := by decide +kernel
theorem dX2_init_42 : decode cX2_init 42 = .ok (.iconst 5, 1) := by decide +kernel
theorem dX2_init_43 : decode cX2_init 43 = .ok (.newarray .char, 2) := by decide +kernel
theorem dX2_init_45 : decode cX2_init 45 = .ok (.dup, 1) := by decide +kernel
theorem dX2_init_46 : decode cX2_init 46 = .ok (.iconst 0, 1) := by decide +kernel
theorem dX2_init_47 : decode cX2_init 47 = .ok (.bipush 107, 2) := by decide +kernel
theorem dX2_init_49 : decode cX2_init 49 = .ok (.castore, 1) := by decide +kernel
theorem dX2_init_50 : decode cX2_init 50 = .ok (.dup, 1) := by decide +kernel
theorem dX2_init_51 : decode cX2_init 51 = .ok (.iconst 1, 1) := by decide +kernel
theorem dX2_init_52 : decode cX2_init 52 = .ok (.bipush 110, 2) := by decide +kernel
theorem dX2_init_54 : decode cX2_init 54 = .ok (.castore, 1) := by decide +kernel
theorem dX2_init_55 : decode cX2_init 55 = .ok (.dup, 1) := by decide +kernel
theorem dX2_init_56 : decode cX2_init 56 = .ok (.iconst 2, 1) := by decide +kernel
theorem dX2_init_57 : decode cX2_init 57 = .ok (.bipush 111, 2) := by decide +kernel
theorem dX2_init_59 : decode cX2_init 59 = .ok (.castore, 1) := by decide +kernel
theorem dX2_init_60 : decode cX2_init 60 = .ok (.dup, 1) := by decide +kernel
theorem dX2_init_61 : decode cX2_init 61 = .ok (.iconst 3, 1) := by decide +kernel
theorem dX2_init_62 : decode cX2_init 62 = .ok (.bipush 99, 2) := by decide +kernel
theorem dX2_init_64 : decode cX2_init 64 = .ok (.castore, 1) := by decide +kernel
theorem dX2_init_65 : decode cX2_init 65 = .ok (.dup, 1) := by decide +kernel
theorem dX2_init_66 : decode cX2_init 66 = .ok (.iconst 4, 1) := by decide +kernel
theorem dX2_init_67 : decode cX2_init 67 = .ok (.bipush 107, 2) := by decide +kernel
theorem dX2_init_69 : decode cX2_init 69 = .ok (.castore, 1) := by decide +kernel
theorem dX2_init_70 : decode cX2_init 70 = .ok (.aastore, 1) := by decide +kernel
theorem dX2_init_71 : decode cX2_init 71 = .ok (.dup, 1) := by decide +kernel
theorem dX2_init_72 : decode cX2_init 72 = .ok (.iconst 2, 1) := by decide +kernel
theorem dX2_init_73 : decode cX2_init 73 = .ok (.iconst 4, 1) := by decide +kernel
theorem dX2_init_74 : decode cX2_init 74 = .ok (.newarray .char, 2) := by decide +kernel
theorem dX2_init_76 : decode cX2_init 76 = .ok (.dup, 1) := by decide +kernel
theorem dX2_init_77 : decode cX2_init 77 = .ok (.iconst 0, 1) := by decide +kernel
theorem dX2_init_78 : decode cX2_init 78 = .ok (.bipush 103, 2) := by decide +kernel
theorem dX2_init_80 : decode cX2_init 80 = .ok (.castore, 1) := by decide +kernel
theorem dX2_init_81 : decode cX2_init 81 = .ok (.dup, 1) := by decide +kernel
theorem dX2_init_82 : decode cX2_init 82 = .ok (.iconst 1, 1) := by decide +kernel
theorem dX2_init_83 : decode cX2_init 83 = .ok (.bipush 105, 2) := by decide +kernel
theorem dX2_init_85 : decode cX2_init 85 = .ok (.castore, 1) := by decide +kernel
theorem dX2_init_86 : decode cX2_init 86 = .ok (.dup, 1) := by decide +kernel
theorem dX2_init_87 : decode cX2_init 87 = .ok (.iconst 2, 1) := by decide +kernel
theorem dX2_init_88 : decode cX2_init 88 = .ok (.bipush 118, 2) := by decide +kernel
theorem dX2_init_90 : decode cX2_init 90 = .ok (.castore, 1) := by decide +kernel
theorem dX2_init_91 : decode cX2_init 91 = .ok (.dup, 1) := by decide +kernel
theorem dX2_init_92 : decode cX2_init 92 = .ok (.iconst 3, 1) := by decide +kernel
theorem dX2_init_93 : decode cX2_init 93 = .ok (.bipush 101, 2) := by decide +kernel
theorem dX2_init_95 : decode cX2_init 95 = .ok (.castore, 1) := by decide +kernel
theorem dX2_init_96 : decode cX2_init 96 = .ok (.aastore, 1) := by decide +kernel
theorem dX2_init_97 : decode cX2_init 97 = .ok (.dup, 1) := by decide +kernel
theorem dX2_init_98 : decode cX2_init 98 = .ok (.iconst 3, 1) := by decide +kernel
theorem dX2_init_99 : decode cX2_init 99 = .ok (.iconst 4, 1) := by decide +kernel
theorem dX2_init_100 : decode cX2_init 100 = .ok (.newarray .char, 2) := by decide +kernel
theorem dX2_init_102 : decode cX2_init 102 = .ok (.dup, 1) := by decide +kernel
theorem dX2_init_103 : decode cX2_init 103 = .ok (.iconst 0, 1) := by decide +kernel
theorem dX2_init_104 : decode cX2_init 104 = .ok (.bipush 119, 2) := by decide +kernel
theorem dX2_init_106 : decode cX2_init 106 = .ok (.castore, 1) := by decide +kernel
theorem dX2_init_107 : decode cX2_init 107 = .ok (.dup, 1) := by decide +kernel
theorem dX2_init_108 : decode cX2_init 108 = .ok (.iconst 1, 1) := by decide +kernel
theorem dX2_init_109 : decode cX2_init 109 = .ok (.bipush 97, 2) := by decide +kernel
theorem dX2_init_111 : decode cX2_init 111 = .ok (.castore, 1) := by decide +kernel
theorem dX2_init_112 : decode cX2_init 112 = .ok (.dup, 1) := by decide +kernel
theorem dX2_init_113 : decode cX2_init 113 = .ok (.iconst 2, 1) := by decide +kernel
theorem dX2_init_114 : decode cX2_init 114 = .ok (.bipush 105, 2) := by decide +kernel
theorem dX2_init_116 : decode cX2_init 116 = .ok (.castore, 1) := by decide +kernel
theorem dX2_init_117 : decode cX2_init 117 = .ok (.dup, 1) := by decide +kernel
theorem dX2_init_118 : decode cX2_init 118 = .ok (.iconst 3, 1) := by decide +kernel
theorem dX2_init_119 : decode cX2_init 119 = .ok (.bipush 116, 2) := by decide +kernel
theorem dX2_init_121 : decode cX2_init 121 = .ok (.castore, 1) := by decide +kernel
theorem dX2_init_122 : decode cX2_init 122 = .ok (.aastore, 1) := by decide +kernel
theorem dX2_init_123 : decode cX2_init 123 = .ok (.putfield 17, 3) := by decide +kernel
theorem dX2_init_126 : decode cX2_init 126 = .ok (.return_, 1) := by decide +kernel
abbrev cX2_read : ByteArray := prog_13_method_11_code
def yX2_read : MethodName := ⟨RX2, "read", "()LShellBeach$Habit;"⟩
theorem dX2_read_0 : decode cX2_read 0 = .ok (.aload_n 0, 1) := by decide +kernel
theorem dX2_read_1 : decode cX2_read 1 = .ok (.iconst 0, 1) := by decide +kernel
theorem dX2_read_2 : decode cX2_read 2 = .ok (.putfield 21, 3) := by decide +kernel
theorem dX2_read_5 : decode cX2_read 5 = .ok (.aload_n 0, 1) := by decide +kernel
theorem dX2_read_6 : decode cX2_read 6 = .ok (.new 75, 3) := by decide +kernel
theorem dX2_read_9 : decode cX2_read 9 = .ok (.dup, 1) := by decide +kernel
theorem dX2_read_10 : decode cX2_read 10 = .ok (.aload_n 0, 1) := by decide +kernel
theorem dX2_read_11 : decode cX2_read 11 = .ok (.getfield 3, 3) := by decide +kernel
theorem dX2_read_14 : decode cX2_read 14 = .ok (.aload_n 0, 1) := by decide +kernel
theorem dX2_read_15 : decode cX2_read 15 = .ok (.getfield 3, 3) := by decide +kernel
theorem dX2_read_18 : decode cX2_read 18 = .ok (.getfield 106, 3) := by decide +kernel
theorem dX2_read_21 : decode cX2_read 21 = .ok (.invokevirtual 103, 3) := by decide +kernel
theorem dX2_read_24 : decode cX2_read 24 = .ok (.invokespecial 109, 3) := by decide +kernel
theorem dX2_read_27 : decode cX2_read 27 = .ok (.putfield 70, 3) := by decide +kernel
theorem dX2_read_30 : decode cX2_read 30 = .ok (.aload_n 0, 1) := by decide +kernel
theorem dX2_read_31 : decode cX2_read 31 = .ok (.invokevirtual 112, 3) := by decide +kernel
theorem dX2_read_34 : decode cX2_read 34 = .ok (.aload_n 0, 1) := by decide +kernel
theorem dX2_read_35 : decode cX2_read 35 = .ok (.getfield 21, 3) := by decide +kernel
theorem dX2_read_38 : decode cX2_read 38 = .ok (.aload_n 0, 1) := by decide +kernel
theorem dX2_read_39 : decode cX2_read 39 = .ok (.getfield 3, 3) := by decide +kernel
theorem dX2_read_42 : decode cX2_read 42 = .ok (.getfield 25, 3) := by decide +kernel
theorem dX2_read_45 : decode cX2_read 45 = .ok (.if_icmp .ge 56, 3) := by decide +kernel
theorem dX2_read_48 : decode cX2_read 48 = .ok (.aload_n 0, 1) := by decide +kernel
theorem dX2_read_49 : decode cX2_read 49 = .ok (.invokevirtual 32, 3) := by decide +kernel
theorem dX2_read_52 : decode cX2_read 52 = .ok (.bipush 59, 2) := by decide +kernel
theorem dX2_read_54 : decode cX2_read 54 = .ok (.if_icmp .ne 18, 3) := by decide +kernel
theorem dX2_read_57 : decode cX2_read 57 = .ok (.aload_n 0, 1) := by decide +kernel
theorem dX2_read_58 : decode cX2_read 58 = .ok (.getfield 70, 3) := by decide +kernel
theorem dX2_read_61 : decode cX2_read 61 = .ok (.getfield 100, 3) := by decide +kernel
theorem dX2_read_64 : decode cX2_read 64 = .ok (.invokevirtual 103, 3) := by decide +kernel
theorem dX2_read_67 : decode cX2_read 67 = .ok (.bipush 8, 2) := by decide +kernel
theorem dX2_read_69 : decode cX2_read 69 = .ok (.if_icmp .ne 15, 3) := by decide +kernel
theorem dX2_read_72 : decode cX2_read 72 = .ok (.new 36, 3) := by decide +kernel
theorem dX2_read_75 : decode cX2_read 75 = .ok (.dup, 1) := by decide +kernel
theorem dX2_read_76 : decode cX2_read 76 = .ok (.aload_n 0, 1) := by decide +kernel
theorem dX2_read_77 : decode cX2_read 77 = .ok (.getfield 21, 3) := by decide +kernel
theorem dX2_read_80 : decode cX2_read 80 = .ok (.invokespecial 38, 3) := by decide +kernel
theorem dX2_read_83 : decode cX2_read 83 = .ok (.athrow, 1) := by decide +kernel
theorem dX2_read_84 : decode cX2_read 84 = .ok (.aload_n 0, 1) := by decide +kernel
theorem dX2_read_85 : decode cX2_read 85 = .ok (.dup, 1) := by decide +kernel
theorem dX2_read_86 : decode cX2_read 86 = .ok (.getfield 21, 3) := by decide +kernel
theorem dX2_read_89 : decode cX2_read 89 = .ok (.iconst 1, 1) := by decide +kernel
theorem dX2_read_90 : decode cX2_read 90 = .ok (.iadd, 1) := by decide +kernel
theorem dX2_read_91 : decode cX2_read 91 = .ok (.putfield 21, 3) := by decide +kernel
theorem dX2_read_94 : decode cX2_read 94 = .ok (.aload_n 0, 1) := by decide +kernel
theorem dX2_read_95 : decode cX2_read 95 = .ok (.invokevirtual 112, 3) := by decide +kernel
theorem dX2_read_98 : decode cX2_read 98 = .ok (.goto (-64), 3) := by decide +kernel
theorem dX2_read_101 : decode cX2_read 101 = .ok (.aload_n 0, 1) := by decide +kernel
theorem dX2_read_102 : decode cX2_read 102 = .ok (.getfield 70, 3) := by decide +kernel
theorem dX2_read_105 : decode cX2_read 105 = .ok (.areturn, 1) := by decide +kernel
abbrev cX2_clause : ByteArray := prog_13_method_10_code
def yX2_clause : MethodName := ⟨RX2, "clause", "()V"⟩
theorem dX2_clause_0 : decode cX2_clause 0 = .ok (.aload_n 0, 1) := by decide +kernel
theorem dX2_clause_1 : decode cX2_clause 1 = .ok (.invokevirtual 94, 3) := by decide +kernel
theorem dX2_clause_4 : decode cX2_clause 4 = .ok (.istore_n 1, 1) := by decide +kernel
theorem dX2_clause_5 : decode cX2_clause 5 = .ok (.aload_n 0, 1) := by decide +kernel
theorem dX2_clause_6 : decode cX2_clause 6 = .ok (.iconst 0, 1) := by decide +kernel
theorem dX2_clause_7 : decode cX2_clause 7 = .ok (.putfield 44, 3) := by decide +kernel
theorem dX2_clause_10 : decode cX2_clause 10 = .ok (.aload_n 0, 1) := by decide +kernel
theorem dX2_clause_11 : decode cX2_clause 11 = .ok (.getfield 70, 3) := by decide +kernel
theorem dX2_clause_14 : decode cX2_clause 14 = .ok (.getfield 97, 3) := by decide +kernel
theorem dX2_clause_17 : decode cX2_clause 17 = .ok (.aload_n 0, 1) := by decide +kernel
theorem dX2_clause_18 : decode cX2_clause 18 = .ok (.getfield 70, 3) := by decide +kernel
theorem dX2_clause_21 : decode cX2_clause 21 = .ok (.getfield 100, 3) := by decide +kernel
theorem dX2_clause_24 : decode cX2_clause 24 = .ok (.invokevirtual 103, 3) := by decide +kernel
theorem dX2_clause_27 : decode cX2_clause 27 = .ok (.iload_n 1, 1) := by decide +kernel
theorem dX2_clause_28 : decode cX2_clause 28 = .ok (.iastore, 1) := by decide +kernel
theorem dX2_clause_29 : decode cX2_clause 29 = .ok (.aload_n 0, 1) := by decide +kernel
theorem dX2_clause_30 : decode cX2_clause 30 = .ok (.getfield 70, 3) := by decide +kernel
theorem dX2_clause_33 : decode cX2_clause 33 = .ok (.getfield 100, 3) := by decide +kernel
theorem dX2_clause_36 : decode cX2_clause 36 = .ok (.aload_n 0, 1) := by decide +kernel
theorem dX2_clause_37 : decode cX2_clause 37 = .ok (.invokevirtual 59, 3) := by decide +kernel
theorem dX2_clause_40 : decode cX2_clause 40 = .ok (.invokevirtual 80, 3) := by decide +kernel
theorem dX2_clause_43 : decode cX2_clause 43 = .ok (.pop, 1) := by decide +kernel
theorem dX2_clause_44 : decode cX2_clause 44 = .ok (.return_, 1) := by decide +kernel
abbrev cX2_word : ByteArray := prog_13_method_4_code
def yX2_word : MethodName := ⟨RX2, "word", "()I"⟩
theorem dX2_word_0 : decode cX2_word 0 = .ok (.iconst 3, 1) := by decide +kernel
theorem dX2_word_1 : decode cX2_word 1 = .ok (.istore_n 1, 1) := by decide +kernel
theorem dX2_word_2 : decode cX2_word 2 = .ok (.iload_n 1, 1) := by decide +kernel
theorem dX2_word_3 : decode cX2_word 3 = .ok (.ifCond .lt 24, 3) := by decide +kernel
theorem dX2_word_6 : decode cX2_word 6 = .ok (.aload_n 0, 1) := by decide +kernel
theorem dX2_word_7 : decode cX2_word 7 = .ok (.getfield 17, 3) := by decide +kernel
theorem dX2_word_10 : decode cX2_word 10 = .ok (.iload_n 1, 1) := by decide +kernel
theorem dX2_word_11 : decode cX2_word 11 = .ok (.aaload, 1) := by decide +kernel
theorem dX2_word_12 : decode cX2_word 12 = .ok (.iconst 0, 1) := by decide +kernel
theorem dX2_word_13 : decode cX2_word 13 = .ok (.caload, 1) := by decide +kernel
theorem dX2_word_14 : decode cX2_word 14 = .ok (.aload_n 0, 1) := by decide +kernel
theorem dX2_word_15 : decode cX2_word 15 = .ok (.invokevirtual 32, 3) := by decide +kernel
theorem dX2_word_18 : decode cX2_word 18 = .ok (.if_icmp .eq 9, 3) := by decide +kernel
theorem dX2_word_21 : decode cX2_word 21 = .ok (.iinc 1 (-1), 3) := by decide +kernel
theorem dX2_word_24 : decode cX2_word 24 = .ok (.goto (-22), 3) := by decide +kernel
theorem dX2_word_27 : decode cX2_word 27 = .ok (.iload_n 1, 1) := by decide +kernel
theorem dX2_word_28 : decode cX2_word 28 = .ok (.ifCond .ge 15, 3) := by decide +kernel
theorem dX2_word_31 : decode cX2_word 31 = .ok (.new 36, 3) := by decide +kernel
theorem dX2_word_34 : decode cX2_word 34 = .ok (.dup, 1) := by decide +kernel
theorem dX2_word_35 : decode cX2_word 35 = .ok (.aload_n 0, 1) := by decide +kernel
theorem dX2_word_36 : decode cX2_word 36 = .ok (.getfield 21, 3) := by decide +kernel
theorem dX2_word_39 : decode cX2_word 39 = .ok (.invokespecial 38, 3) := by decide +kernel
theorem dX2_word_42 : decode cX2_word 42 = .ok (.athrow, 1) := by decide +kernel
theorem dX2_word_43 : decode cX2_word 43 = .ok (.aload_n 0, 1) := by decide +kernel
theorem dX2_word_44 : decode cX2_word 44 = .ok (.getfield 17, 3) := by decide +kernel
theorem dX2_word_47 : decode cX2_word 47 = .ok (.iload_n 1, 1) := by decide +kernel
theorem dX2_word_48 : decode cX2_word 48 = .ok (.aaload, 1) := by decide +kernel
theorem dX2_word_49 : decode cX2_word 49 = .ok (.astore_n 2, 1) := by decide +kernel
theorem dX2_word_50 : decode cX2_word 50 = .ok (.aload_n 2, 1) := by decide +kernel
theorem dX2_word_51 : decode cX2_word 51 = .ok (.arraylength, 1) := by decide +kernel
theorem dX2_word_52 : decode cX2_word 52 = .ok (.istore_n 3, 1) := by decide +kernel
theorem dX2_word_53 : decode cX2_word 53 = .ok (.iconst 0, 1) := by decide +kernel
theorem dX2_word_54 : decode cX2_word 54 = .ok (.istore 4, 2) := by decide +kernel
theorem dX2_word_56 : decode cX2_word 56 = .ok (.iload 4, 2) := by decide +kernel
theorem dX2_word_58 : decode cX2_word 58 = .ok (.iload_n 3, 1) := by decide +kernel
theorem dX2_word_59 : decode cX2_word 59 = .ok (.if_icmp .ge 21, 3) := by decide +kernel
theorem dX2_word_62 : decode cX2_word 62 = .ok (.aload_n 2, 1) := by decide +kernel
theorem dX2_word_63 : decode cX2_word 63 = .ok (.iload 4, 2) := by decide +kernel
theorem dX2_word_65 : decode cX2_word 65 = .ok (.caload, 1) := by decide +kernel
theorem dX2_word_66 : decode cX2_word 66 = .ok (.istore 5, 2) := by decide +kernel
theorem dX2_word_68 : decode cX2_word 68 = .ok (.aload_n 0, 1) := by decide +kernel
theorem dX2_word_69 : decode cX2_word 69 = .ok (.iload 5, 2) := by decide +kernel
theorem dX2_word_71 : decode cX2_word 71 = .ok (.invokevirtual 41, 3) := by decide +kernel
theorem dX2_word_74 : decode cX2_word 74 = .ok (.iinc 4 1, 3) := by decide +kernel
theorem dX2_word_77 : decode cX2_word 77 = .ok (.goto (-21), 3) := by decide +kernel
theorem dX2_word_80 : decode cX2_word 80 = .ok (.aload_n 0, 1) := by decide +kernel
theorem dX2_word_81 : decode cX2_word 81 = .ok (.bipush 32, 2) := by decide +kernel
theorem dX2_word_83 : decode cX2_word 83 = .ok (.invokevirtual 41, 3) := by decide +kernel
theorem dX2_word_86 : decode cX2_word 86 = .ok (.iload_n 1, 1) := by decide +kernel
theorem dX2_word_87 : decode cX2_word 87 = .ok (.ireturn, 1) := by decide +kernel
abbrev cX2_next : ByteArray := prog_13_method_2_code
def yX2_next : MethodName := ⟨RX2, "next", "()I"⟩
theorem dX2_next_0 : decode cX2_next 0 = .ok (.aload_n 0, 1) := by decide +kernel
theorem dX2_next_1 : decode cX2_next 1 = .ok (.getfield 21, 3) := by decide +kernel
theorem dX2_next_4 : decode cX2_next 4 = .ok (.aload_n 0, 1) := by decide +kernel
theorem dX2_next_5 : decode cX2_next 5 = .ok (.getfield 3, 3) := by decide +kernel
theorem dX2_next_8 : decode cX2_next 8 = .ok (.getfield 25, 3) := by decide +kernel
theorem dX2_next_11 : decode cX2_next 11 = .ok (.if_icmp .ge 18, 3) := by decide +kernel
theorem dX2_next_14 : decode cX2_next 14 = .ok (.aload_n 0, 1) := by decide +kernel
theorem dX2_next_15 : decode cX2_next 15 = .ok (.getfield 3, 3) := by decide +kernel
theorem dX2_next_18 : decode cX2_next 18 = .ok (.getfield 28, 3) := by decide +kernel
theorem dX2_next_21 : decode cX2_next 21 = .ok (.aload_n 0, 1) := by decide +kernel
theorem dX2_next_22 : decode cX2_next 22 = .ok (.getfield 21, 3) := by decide +kernel
theorem dX2_next_25 : decode cX2_next 25 = .ok (.baload, 1) := by decide +kernel
theorem dX2_next_26 : decode cX2_next 26 = .ok (.goto 4, 3) := by decide +kernel
theorem dX2_next_29 : decode cX2_next 29 = .ok (.iconst (-1), 1) := by decide +kernel
theorem dX2_next_30 : decode cX2_next 30 = .ok (.ireturn, 1) := by decide +kernel
abbrev cX2_sign : ByteArray := prog_13_method_3_code
def yX2_sign : MethodName := ⟨RX2, "sign", "(I)V"⟩
theorem dX2_sign_0 : decode cX2_sign 0 = .ok (.aload_n 0, 1) := by decide +kernel
theorem dX2_sign_1 : decode cX2_sign 1 = .ok (.invokevirtual 32, 3) := by decide +kernel
theorem dX2_sign_4 : decode cX2_sign 4 = .ok (.iload_n 1, 1) := by decide +kernel
theorem dX2_sign_5 : decode cX2_sign 5 = .ok (.if_icmp .eq 15, 3) := by decide +kernel
theorem dX2_sign_8 : decode cX2_sign 8 = .ok (.new 36, 3) := by decide +kernel
theorem dX2_sign_11 : decode cX2_sign 11 = .ok (.dup, 1) := by decide +kernel
theorem dX2_sign_12 : decode cX2_sign 12 = .ok (.aload_n 0, 1) := by decide +kernel
theorem dX2_sign_13 : decode cX2_sign 13 = .ok (.getfield 21, 3) := by decide +kernel
theorem dX2_sign_16 : decode cX2_sign 16 = .ok (.invokespecial 38, 3) := by decide +kernel
theorem dX2_sign_19 : decode cX2_sign 19 = .ok (.athrow, 1) := by decide +kernel
theorem dX2_sign_20 : decode cX2_sign 20 = .ok (.aload_n 0, 1) := by decide +kernel
theorem dX2_sign_21 : decode cX2_sign 21 = .ok (.dup, 1) := by decide +kernel
theorem dX2_sign_22 : decode cX2_sign 22 = .ok (.getfield 21, 3) := by decide +kernel
theorem dX2_sign_25 : decode cX2_sign 25 = .ok (.iconst 1, 1) := by decide +kernel
theorem dX2_sign_26 : decode cX2_sign 26 = .ok (.iadd, 1) := by decide +kernel
theorem dX2_sign_27 : decode cX2_sign 27 = .ok (.putfield 21, 3) := by decide +kernel
theorem dX2_sign_30 : decode cX2_sign 30 = .ok (.return_, 1) := by decide +kernel
abbrev cX2_some : ByteArray := prog_13_method_9_code
def yX2_some : MethodName := ⟨RX2, "some", "()LShellBeach$Test;"⟩
theorem dX2_some_0 : decode cX2_some 0 = .ok (.aload_n 0, 1) := by decide +kernel
theorem dX2_some_1 : decode cX2_some 1 = .ok (.invokevirtual 91, 3) := by decide +kernel
theorem dX2_some_4 : decode cX2_some 4 = .ok (.astore_n 1, 1) := by decide +kernel
theorem dX2_some_5 : decode cX2_some 5 = .ok (.aload_n 0, 1) := by decide +kernel
theorem dX2_some_6 : decode cX2_some 6 = .ok (.invokevirtual 32, 3) := by decide +kernel
theorem dX2_some_9 : decode cX2_some 9 = .ok (.bipush 124, 2) := by decide +kernel
theorem dX2_some_11 : decode cX2_some 11 = .ok (.if_icmp .ne 30, 3) := by decide +kernel
theorem dX2_some_14 : decode cX2_some 14 = .ok (.aload_n 0, 1) := by decide +kernel
theorem dX2_some_15 : decode cX2_some 15 = .ok (.dup, 1) := by decide +kernel
theorem dX2_some_16 : decode cX2_some 16 = .ok (.getfield 21, 3) := by decide +kernel
theorem dX2_some_19 : decode cX2_some 19 = .ok (.iconst 1, 1) := by decide +kernel
theorem dX2_some_20 : decode cX2_some 20 = .ok (.iadd, 1) := by decide +kernel
theorem dX2_some_21 : decode cX2_some 21 = .ok (.putfield 21, 3) := by decide +kernel
theorem dX2_some_24 : decode cX2_some 24 = .ok (.new 86, 3) := by decide +kernel
theorem dX2_some_27 : decode cX2_some 27 = .ok (.dup, 1) := by decide +kernel
theorem dX2_some_28 : decode cX2_some 28 = .ok (.aload_n 1, 1) := by decide +kernel
theorem dX2_some_29 : decode cX2_some 29 = .ok (.aload_n 0, 1) := by decide +kernel
theorem dX2_some_30 : decode cX2_some 30 = .ok (.invokevirtual 91, 3) := by decide +kernel
theorem dX2_some_33 : decode cX2_some 33 = .ok (.iconst 0, 1) := by decide +kernel
theorem dX2_some_34 : decode cX2_some 34 = .ok (.invokespecial 88, 3) := by decide +kernel
theorem dX2_some_37 : decode cX2_some 37 = .ok (.astore_n 1, 1) := by decide +kernel
theorem dX2_some_38 : decode cX2_some 38 = .ok (.goto (-33), 3) := by decide +kernel
theorem dX2_some_41 : decode cX2_some 41 = .ok (.aload_n 1, 1) := by decide +kernel
theorem dX2_some_42 : decode cX2_some 42 = .ok (.areturn, 1) := by decide +kernel
abbrev cX2_both : ByteArray := prog_13_method_8_code
def yX2_both : MethodName := ⟨RX2, "both", "()LShellBeach$Test;"⟩
theorem dX2_both_0 : decode cX2_both 0 = .ok (.aload_n 0, 1) := by decide +kernel
theorem dX2_both_1 : decode cX2_both 1 = .ok (.invokevirtual 50, 3) := by decide +kernel
theorem dX2_both_4 : decode cX2_both 4 = .ok (.astore_n 1, 1) := by decide +kernel
theorem dX2_both_5 : decode cX2_both 5 = .ok (.aload_n 0, 1) := by decide +kernel
theorem dX2_both_6 : decode cX2_both 6 = .ok (.invokevirtual 32, 3) := by decide +kernel
theorem dX2_both_9 : decode cX2_both 9 = .ok (.bipush 38, 2) := by decide +kernel
theorem dX2_both_11 : decode cX2_both 11 = .ok (.if_icmp .ne 30, 3) := by decide +kernel
theorem dX2_both_14 : decode cX2_both 14 = .ok (.aload_n 0, 1) := by decide +kernel
theorem dX2_both_15 : decode cX2_both 15 = .ok (.dup, 1) := by decide +kernel
theorem dX2_both_16 : decode cX2_both 16 = .ok (.getfield 21, 3) := by decide +kernel
theorem dX2_both_19 : decode cX2_both 19 = .ok (.iconst 1, 1) := by decide +kernel
theorem dX2_both_20 : decode cX2_both 20 = .ok (.iadd, 1) := by decide +kernel
theorem dX2_both_21 : decode cX2_both 21 = .ok (.putfield 21, 3) := by decide +kernel
theorem dX2_both_24 : decode cX2_both 24 = .ok (.new 86, 3) := by decide +kernel
theorem dX2_both_27 : decode cX2_both 27 = .ok (.dup, 1) := by decide +kernel
theorem dX2_both_28 : decode cX2_both 28 = .ok (.aload_n 1, 1) := by decide +kernel
theorem dX2_both_29 : decode cX2_both 29 = .ok (.aload_n 0, 1) := by decide +kernel
theorem dX2_both_30 : decode cX2_both 30 = .ok (.invokevirtual 50, 3) := by decide +kernel
theorem dX2_both_33 : decode cX2_both 33 = .ok (.iconst 1, 1) := by decide +kernel
theorem dX2_both_34 : decode cX2_both 34 = .ok (.invokespecial 88, 3) := by decide +kernel
theorem dX2_both_37 : decode cX2_both 37 = .ok (.astore_n 1, 1) := by decide +kernel
theorem dX2_both_38 : decode cX2_both 38 = .ok (.goto (-33), 3) := by decide +kernel
theorem dX2_both_41 : decode cX2_both 41 = .ok (.aload_n 1, 1) := by decide +kernel
theorem dX2_both_42 : decode cX2_both 42 = .ok (.areturn, 1) := by decide +kernel
abbrev cX2_fact : ByteArray := prog_13_method_7_code
def yX2_fact : MethodName := ⟨RX2, "fact", "()LShellBeach$Test;"⟩
theorem dX2_fact_0 : decode cX2_fact 0 = .ok (.aload_n 0, 1) := by decide +kernel
theorem dX2_fact_1 : decode cX2_fact 1 = .ok (.invokevirtual 32, 3) := by decide +kernel
theorem dX2_fact_4 : decode cX2_fact 4 = .ok (.istore_n 1, 1) := by decide +kernel
theorem dX2_fact_5 : decode cX2_fact 5 = .ok (.iload_n 1, 1) := by decide +kernel
theorem dX2_fact_6 : decode cX2_fact 6 = .ok (.lookupswitch 212 #[(33, 66), (40, 94), (102, 121), (103, 121), (110, 121), (111, 121), (115, 121)], 66) := by decide +kernel
theorem dX2_fact_72 : decode cX2_fact 72 = .ok (.aload_n 0, 1) := by decide +kernel
theorem dX2_fact_73 : decode cX2_fact 73 = .ok (.invokevirtual 47, 3) := by decide +kernel
theorem dX2_fact_76 : decode cX2_fact 76 = .ok (.aload_n 0, 1) := by decide +kernel
theorem dX2_fact_77 : decode cX2_fact 77 = .ok (.invokevirtual 50, 3) := by decide +kernel
theorem dX2_fact_80 : decode cX2_fact 80 = .ok (.astore_n 2, 1) := by decide +kernel
theorem dX2_fact_81 : decode cX2_fact 81 = .ok (.aload_n 0, 1) := by decide +kernel
theorem dX2_fact_82 : decode cX2_fact 82 = .ok (.dup, 1) := by decide +kernel
theorem dX2_fact_83 : decode cX2_fact 83 = .ok (.getfield 44, 3) := by decide +kernel
theorem dX2_fact_86 : decode cX2_fact 86 = .ok (.iconst 1, 1) := by decide +kernel
theorem dX2_fact_87 : decode cX2_fact 87 = .ok (.isub, 1) := by decide +kernel
theorem dX2_fact_88 : decode cX2_fact 88 = .ok (.putfield 44, 3) := by decide +kernel
theorem dX2_fact_91 : decode cX2_fact 91 = .ok (.new 54, 3) := by decide +kernel
theorem dX2_fact_94 : decode cX2_fact 94 = .ok (.dup, 1) := by decide +kernel
theorem dX2_fact_95 : decode cX2_fact 95 = .ok (.aload_n 2, 1) := by decide +kernel
theorem dX2_fact_96 : decode cX2_fact 96 = .ok (.invokespecial 56, 3) := by decide +kernel
theorem dX2_fact_99 : decode cX2_fact 99 = .ok (.areturn, 1) := by decide +kernel
theorem dX2_fact_100 : decode cX2_fact 100 = .ok (.aload_n 0, 1) := by decide +kernel
theorem dX2_fact_101 : decode cX2_fact 101 = .ok (.invokevirtual 47, 3) := by decide +kernel
theorem dX2_fact_104 : decode cX2_fact 104 = .ok (.aload_n 0, 1) := by decide +kernel
theorem dX2_fact_105 : decode cX2_fact 105 = .ok (.invokevirtual 59, 3) := by decide +kernel
theorem dX2_fact_108 : decode cX2_fact 108 = .ok (.astore_n 3, 1) := by decide +kernel
theorem dX2_fact_109 : decode cX2_fact 109 = .ok (.aload_n 0, 1) := by decide +kernel
theorem dX2_fact_110 : decode cX2_fact 110 = .ok (.bipush 41, 2) := by decide +kernel
theorem dX2_fact_112 : decode cX2_fact 112 = .ok (.invokevirtual 41, 3) := by decide +kernel
theorem dX2_fact_115 : decode cX2_fact 115 = .ok (.aload_n 0, 1) := by decide +kernel
theorem dX2_fact_116 : decode cX2_fact 116 = .ok (.dup, 1) := by decide +kernel
theorem dX2_fact_117 : decode cX2_fact 117 = .ok (.getfield 44, 3) := by decide +kernel
theorem dX2_fact_120 : decode cX2_fact 120 = .ok (.iconst 1, 1) := by decide +kernel
theorem dX2_fact_121 : decode cX2_fact 121 = .ok (.isub, 1) := by decide +kernel
theorem dX2_fact_122 : decode cX2_fact 122 = .ok (.putfield 44, 3) := by decide +kernel
theorem dX2_fact_125 : decode cX2_fact 125 = .ok (.aload_n 3, 1) := by decide +kernel
theorem dX2_fact_126 : decode cX2_fact 126 = .ok (.areturn, 1) := by decide +kernel
theorem dX2_fact_127 : decode cX2_fact 127 = .ok (.aload_n 0, 1) := by decide +kernel
theorem dX2_fact_128 : decode cX2_fact 128 = .ok (.dup, 1) := by decide +kernel
theorem dX2_fact_129 : decode cX2_fact 129 = .ok (.getfield 21, 3) := by decide +kernel
theorem dX2_fact_132 : decode cX2_fact 132 = .ok (.iconst 1, 1) := by decide +kernel
theorem dX2_fact_133 : decode cX2_fact 133 = .ok (.iadd, 1) := by decide +kernel
theorem dX2_fact_134 : decode cX2_fact 134 = .ok (.putfield 21, 3) := by decide +kernel
theorem dX2_fact_137 : decode cX2_fact 137 = .ok (.aload_n 0, 1) := by decide +kernel
theorem dX2_fact_138 : decode cX2_fact 138 = .ok (.invokevirtual 32, 3) := by decide +kernel
theorem dX2_fact_141 : decode cX2_fact 141 = .ok (.istore 4, 2) := by decide +kernel
theorem dX2_fact_143 : decode cX2_fact 143 = .ok (.iload 4, 2) := by decide +kernel
theorem dX2_fact_145 : decode cX2_fact 145 = .ok (.bipush 60, 2) := by decide +kernel
theorem dX2_fact_147 : decode cX2_fact 147 = .ok (.if_icmp .eq 29, 3) := by decide +kernel
theorem dX2_fact_150 : decode cX2_fact 150 = .ok (.iload 4, 2) := by decide +kernel
theorem dX2_fact_152 : decode cX2_fact 152 = .ok (.bipush 61, 2) := by decide +kernel
theorem dX2_fact_154 : decode cX2_fact 154 = .ok (.if_icmp .eq 22, 3) := by decide +kernel
theorem dX2_fact_157 : decode cX2_fact 157 = .ok (.iload 4, 2) := by decide +kernel
theorem dX2_fact_159 : decode cX2_fact 159 = .ok (.bipush 62, 2) := by decide +kernel
theorem dX2_fact_161 : decode cX2_fact 161 = .ok (.if_icmp .eq 15, 3) := by decide +kernel
theorem dX2_fact_164 : decode cX2_fact 164 = .ok (.new 36, 3) := by decide +kernel
theorem dX2_fact_167 : decode cX2_fact 167 = .ok (.dup, 1) := by decide +kernel
theorem dX2_fact_168 : decode cX2_fact 168 = .ok (.aload_n 0, 1) := by decide +kernel
theorem dX2_fact_169 : decode cX2_fact 169 = .ok (.getfield 21, 3) := by decide +kernel
theorem dX2_fact_172 : decode cX2_fact 172 = .ok (.invokespecial 38, 3) := by decide +kernel
theorem dX2_fact_175 : decode cX2_fact 175 = .ok (.athrow, 1) := by decide +kernel
theorem dX2_fact_176 : decode cX2_fact 176 = .ok (.aload_n 0, 1) := by decide +kernel
theorem dX2_fact_177 : decode cX2_fact 177 = .ok (.dup, 1) := by decide +kernel
theorem dX2_fact_178 : decode cX2_fact 178 = .ok (.getfield 21, 3) := by decide +kernel
theorem dX2_fact_181 : decode cX2_fact 181 = .ok (.iconst 1, 1) := by decide +kernel
theorem dX2_fact_182 : decode cX2_fact 182 = .ok (.iadd, 1) := by decide +kernel
theorem dX2_fact_183 : decode cX2_fact 183 = .ok (.putfield 21, 3) := by decide +kernel
theorem dX2_fact_186 : decode cX2_fact 186 = .ok (.new 62, 3) := by decide +kernel
theorem dX2_fact_189 : decode cX2_fact 189 = .ok (.dup, 1) := by decide +kernel
theorem dX2_fact_190 : decode cX2_fact 190 = .ok (.iload_n 1, 1) := by decide +kernel
theorem dX2_fact_191 : decode cX2_fact 191 = .ok (.iload 4, 2) := by decide +kernel
theorem dX2_fact_193 : decode cX2_fact 193 = .ok (.aload_n 0, 1) := by decide +kernel
theorem dX2_fact_194 : decode cX2_fact 194 = .ok (.invokevirtual 64, 3) := by decide +kernel
theorem dX2_fact_197 : decode cX2_fact 197 = .ok (.invokespecial 67, 3) := by decide +kernel
theorem dX2_fact_200 : decode cX2_fact 200 = .ok (.astore 5, 2) := by decide +kernel
theorem dX2_fact_202 : decode cX2_fact 202 = .ok (.aload_n 0, 1) := by decide +kernel
theorem dX2_fact_203 : decode cX2_fact 203 = .ok (.getfield 70, 3) := by decide +kernel
theorem dX2_fact_206 : decode cX2_fact 206 = .ok (.getfield 74, 3) := by decide +kernel
theorem dX2_fact_209 : decode cX2_fact 209 = .ok (.aload 5, 2) := by decide +kernel
theorem dX2_fact_211 : decode cX2_fact 211 = .ok (.invokevirtual 80, 3) := by decide +kernel
theorem dX2_fact_214 : decode cX2_fact 214 = .ok (.pop, 1) := by decide +kernel
theorem dX2_fact_215 : decode cX2_fact 215 = .ok (.aload 5, 2) := by decide +kernel
theorem dX2_fact_217 : decode cX2_fact 217 = .ok (.areturn, 1) := by decide +kernel
theorem dX2_fact_218 : decode cX2_fact 218 = .ok (.new 36, 3) := by decide +kernel
theorem dX2_fact_221 : decode cX2_fact 221 = .ok (.dup, 1) := by decide +kernel
theorem dX2_fact_222 : decode cX2_fact 222 = .ok (.aload_n 0, 1) := by decide +kernel
theorem dX2_fact_223 : decode cX2_fact 223 = .ok (.getfield 21, 3) := by decide +kernel
theorem dX2_fact_226 : decode cX2_fact 226 = .ok (.invokespecial 38, 3) := by decide +kernel
theorem dX2_fact_229 : decode cX2_fact 229 = .ok (.athrow, 1) := by decide +kernel
abbrev cX2_opens : ByteArray := prog_13_method_6_code
def yX2_opens : MethodName := ⟨RX2, "opens", "()V"⟩
theorem dX2_opens_0 : decode cX2_opens 0 = .ok (.aload_n 0, 1) := by decide +kernel
theorem dX2_opens_1 : decode cX2_opens 1 = .ok (.getfield 44, 3) := by decide +kernel
theorem dX2_opens_4 : decode cX2_opens 4 = .ok (.iconst 5, 1) := by decide +kernel
theorem dX2_opens_5 : decode cX2_opens 5 = .ok (.if_icmp .ne 15, 3) := by decide +kernel
theorem dX2_opens_8 : decode cX2_opens 8 = .ok (.new 36, 3) := by decide +kernel
theorem dX2_opens_11 : decode cX2_opens 11 = .ok (.dup, 1) := by decide +kernel
theorem dX2_opens_12 : decode cX2_opens 12 = .ok (.aload_n 0, 1) := by decide +kernel
theorem dX2_opens_13 : decode cX2_opens 13 = .ok (.getfield 21, 3) := by decide +kernel
theorem dX2_opens_16 : decode cX2_opens 16 = .ok (.invokespecial 38, 3) := by decide +kernel
theorem dX2_opens_19 : decode cX2_opens 19 = .ok (.athrow, 1) := by decide +kernel
theorem dX2_opens_20 : decode cX2_opens 20 = .ok (.aload_n 0, 1) := by decide +kernel
theorem dX2_opens_21 : decode cX2_opens 21 = .ok (.dup, 1) := by decide +kernel
theorem dX2_opens_22 : decode cX2_opens 22 = .ok (.getfield 44, 3) := by decide +kernel
theorem dX2_opens_25 : decode cX2_opens 25 = .ok (.iconst 1, 1) := by decide +kernel
theorem dX2_opens_26 : decode cX2_opens 26 = .ok (.iadd, 1) := by decide +kernel
theorem dX2_opens_27 : decode cX2_opens 27 = .ok (.putfield 44, 3) := by decide +kernel
theorem dX2_opens_30 : decode cX2_opens 30 = .ok (.aload_n 0, 1) := by decide +kernel
theorem dX2_opens_31 : decode cX2_opens 31 = .ok (.dup, 1) := by decide +kernel
theorem dX2_opens_32 : decode cX2_opens 32 = .ok (.getfield 21, 3) := by decide +kernel
theorem dX2_opens_35 : decode cX2_opens 35 = .ok (.iconst 1, 1) := by decide +kernel
theorem dX2_opens_36 : decode cX2_opens 36 = .ok (.iadd, 1) := by decide +kernel
theorem dX2_opens_37 : decode cX2_opens 37 = .ok (.putfield 21, 3) := by decide +kernel
theorem dX2_opens_40 : decode cX2_opens 40 = .ok (.return_, 1) := by decide +kernel
abbrev cX2_number : ByteArray := prog_13_method_5_code
def yX2_number : MethodName := ⟨RX2, "number", "()I"⟩
theorem dX2_number_0 : decode cX2_number 0 = .ok (.aload_n 0, 1) := by decide +kernel
theorem dX2_number_1 : decode cX2_number 1 = .ok (.invokevirtual 32, 3) := by decide +kernel
theorem dX2_number_4 : decode cX2_number 4 = .ok (.bipush 48, 2) := by decide +kernel
theorem dX2_number_6 : decode cX2_number 6 = .ok (.if_icmp .lt 12, 3) := by decide +kernel
theorem dX2_number_9 : decode cX2_number 9 = .ok (.aload_n 0, 1) := by decide +kernel
theorem dX2_number_10 : decode cX2_number 10 = .ok (.invokevirtual 32, 3) := by decide +kernel
theorem dX2_number_13 : decode cX2_number 13 = .ok (.bipush 57, 2) := by decide +kernel
theorem dX2_number_15 : decode cX2_number 15 = .ok (.if_icmp .le 15, 3) := by decide +kernel
theorem dX2_number_18 : decode cX2_number 18 = .ok (.new 36, 3) := by decide +kernel
theorem dX2_number_21 : decode cX2_number 21 = .ok (.dup, 1) := by decide +kernel
theorem dX2_number_22 : decode cX2_number 22 = .ok (.aload_n 0, 1) := by decide +kernel
theorem dX2_number_23 : decode cX2_number 23 = .ok (.getfield 21, 3) := by decide +kernel
theorem dX2_number_26 : decode cX2_number 26 = .ok (.invokespecial 38, 3) := by decide +kernel
theorem dX2_number_29 : decode cX2_number 29 = .ok (.athrow, 1) := by decide +kernel
theorem dX2_number_30 : decode cX2_number 30 = .ok (.aload_n 0, 1) := by decide +kernel
theorem dX2_number_31 : decode cX2_number 31 = .ok (.getfield 3, 3) := by decide +kernel
theorem dX2_number_34 : decode cX2_number 34 = .ok (.getfield 28, 3) := by decide +kernel
theorem dX2_number_37 : decode cX2_number 37 = .ok (.aload_n 0, 1) := by decide +kernel
theorem dX2_number_38 : decode cX2_number 38 = .ok (.dup, 1) := by decide +kernel
theorem dX2_number_39 : decode cX2_number 39 = .ok (.getfield 21, 3) := by decide +kernel
theorem dX2_number_42 : decode cX2_number 42 = .ok (.dup_x1, 1) := by decide +kernel
theorem dX2_number_43 : decode cX2_number 43 = .ok (.iconst 1, 1) := by decide +kernel
theorem dX2_number_44 : decode cX2_number 44 = .ok (.iadd, 1) := by decide +kernel
theorem dX2_number_45 : decode cX2_number 45 = .ok (.putfield 21, 3) := by decide +kernel
theorem dX2_number_48 : decode cX2_number 48 = .ok (.baload, 1) := by decide +kernel
theorem dX2_number_49 : decode cX2_number 49 = .ok (.bipush 48, 2) := by decide +kernel
theorem dX2_number_51 : decode cX2_number 51 = .ok (.isub, 1) := by decide +kernel
theorem dX2_number_52 : decode cX2_number 52 = .ok (.istore_n 1, 1) := by decide +kernel
theorem dX2_number_53 : decode cX2_number 53 = .ok (.iconst 1, 1) := by decide +kernel
theorem dX2_number_54 : decode cX2_number 54 = .ok (.istore_n 2, 1) := by decide +kernel
theorem dX2_number_55 : decode cX2_number 55 = .ok (.iload_n 2, 1) := by decide +kernel
theorem dX2_number_56 : decode cX2_number 56 = .ok (.iconst 3, 1) := by decide +kernel
theorem dX2_number_57 : decode cX2_number 57 = .ok (.if_icmp .ge 59, 3) := by decide +kernel
theorem dX2_number_60 : decode cX2_number 60 = .ok (.iload_n 1, 1) := by decide +kernel
theorem dX2_number_61 : decode cX2_number 61 = .ok (.ifCond .le 55, 3) := by decide +kernel
theorem dX2_number_64 : decode cX2_number 64 = .ok (.aload_n 0, 1) := by decide +kernel
theorem dX2_number_65 : decode cX2_number 65 = .ok (.invokevirtual 32, 3) := by decide +kernel
theorem dX2_number_68 : decode cX2_number 68 = .ok (.bipush 48, 2) := by decide +kernel
theorem dX2_number_70 : decode cX2_number 70 = .ok (.if_icmp .lt 46, 3) := by decide +kernel
theorem dX2_number_73 : decode cX2_number 73 = .ok (.aload_n 0, 1) := by decide +kernel
theorem dX2_number_74 : decode cX2_number 74 = .ok (.invokevirtual 32, 3) := by decide +kernel
theorem dX2_number_77 : decode cX2_number 77 = .ok (.bipush 57, 2) := by decide +kernel
theorem dX2_number_79 : decode cX2_number 79 = .ok (.if_icmp .gt 37, 3) := by decide +kernel
theorem dX2_number_82 : decode cX2_number 82 = .ok (.bipush 10, 2) := by decide +kernel
theorem dX2_number_84 : decode cX2_number 84 = .ok (.iload_n 1, 1) := by decide +kernel
theorem dX2_number_85 : decode cX2_number 85 = .ok (.imul, 1) := by decide +kernel
theorem dX2_number_86 : decode cX2_number 86 = .ok (.aload_n 0, 1) := by decide +kernel
theorem dX2_number_87 : decode cX2_number 87 = .ok (.getfield 3, 3) := by decide +kernel
theorem dX2_number_90 : decode cX2_number 90 = .ok (.getfield 28, 3) := by decide +kernel
theorem dX2_number_93 : decode cX2_number 93 = .ok (.aload_n 0, 1) := by decide +kernel
theorem dX2_number_94 : decode cX2_number 94 = .ok (.dup, 1) := by decide +kernel
theorem dX2_number_95 : decode cX2_number 95 = .ok (.getfield 21, 3) := by decide +kernel
theorem dX2_number_98 : decode cX2_number 98 = .ok (.dup_x1, 1) := by decide +kernel
theorem dX2_number_99 : decode cX2_number 99 = .ok (.iconst 1, 1) := by decide +kernel
theorem dX2_number_100 : decode cX2_number 100 = .ok (.iadd, 1) := by decide +kernel
theorem dX2_number_101 : decode cX2_number 101 = .ok (.putfield 21, 3) := by decide +kernel
theorem dX2_number_104 : decode cX2_number 104 = .ok (.baload, 1) := by decide +kernel
theorem dX2_number_105 : decode cX2_number 105 = .ok (.iadd, 1) := by decide +kernel
theorem dX2_number_106 : decode cX2_number 106 = .ok (.bipush 48, 2) := by decide +kernel
theorem dX2_number_108 : decode cX2_number 108 = .ok (.isub, 1) := by decide +kernel
theorem dX2_number_109 : decode cX2_number 109 = .ok (.istore_n 1, 1) := by decide +kernel
theorem dX2_number_110 : decode cX2_number 110 = .ok (.iinc 2 1, 3) := by decide +kernel
theorem dX2_number_113 : decode cX2_number 113 = .ok (.goto (-58), 3) := by decide +kernel
theorem dX2_number_116 : decode cX2_number 116 = .ok (.iload_n 1, 1) := by decide +kernel
theorem dX2_number_117 : decode cX2_number 117 = .ok (.ireturn, 1) := by decide +kernel
theorem q91 : (Jvm.Cond.initialized "ShellBeach$Reader") ∈ lw_all := lw_g (lw_at lw_m1 6 rfl) rfl
theorem q180 : (Jvm.Cond.instantiable "ShellBeach$Reader" (5 : Nat)) ∈ lw_all := lw_g (lw_at lw_m1 95 rfl) rfl
theorem q182 : (Jvm.Cond.instanceMethod ({ cls := "ShellBeach$Reader", name := "<init>", desc := "(LShellBeach;)V" } : Jvm.MethodName)) ∈ lw_all := lw_g (lw_at lw_m1 97 rfl) rfl
theorem q183 : (Jvm.Cond.code ({ cls := "ShellBeach$Reader", name := "<init>", desc := "(LShellBeach;)V" } : Jvm.MethodName) prog_13_method_1_code (2 : Nat) (Option.none : Option Jvm.ClassFile.FieldType)) ∈ lw_all := lw_g (lw_at lw_m1 98 rfl) rfl
theorem q184 : (Jvm.Cond.methodLink "ShellBeach$Reader" (9 : Nat) ({ cls := "java/lang/Object", name := "<init>", desc := "()V" } : Jvm.MethodName)) ∈ lw_all := lw_g (lw_at lw_m1 99 rfl) rfl
theorem q185 : (Jvm.Cond.classLink "ShellBeach$Reader" (15 : Nat) "[C") ∈ lw_all := lw_g (lw_at lw_m1 100 rfl) rfl
theorem q187 : (Jvm.Cond.fieldLink "ShellBeach$Reader" (17 : Nat) "ShellBeach$Reader" "words" "[[C") ∈ lw_all := lw_g (lw_at lw_m1 102 rfl) rfl
theorem q188 : (Jvm.Cond.fieldLink "ShellBeach$Reader" (21 : Nat) "ShellBeach$Reader" "at" "I") ∈ lw_all := lw_g (lw_at lw_m1 103 rfl) rfl
theorem q189 : (Jvm.Cond.fieldLink "ShellBeach$Reader" (44 : Nat) "ShellBeach$Reader" "open" "I") ∈ lw_all := lw_g (lw_at lw_m1 104 rfl) rfl
theorem q190 : (Jvm.Cond.fieldLink "ShellBeach$Reader" (70 : Nat) "ShellBeach$Reader" "habit" "LShellBeach$Habit;") ∈ lw_all := lw_g (lw_at lw_m1 105 rfl) rfl
theorem q191 : (Jvm.Cond.fieldLink "ShellBeach$Reader" (3 : Nat) "ShellBeach$Reader" "this$0" "LShellBeach;") ∈ lw_all := lw_g (lw_at lw_m1 106 rfl) rfl
theorem q192 : (Jvm.Cond.laysFinal "ShellBeach$Reader" "ShellBeach$Reader" "words" "[[C") ∈ lw_all := lw_g (lw_at lw_m1 107 rfl) rfl
theorem q193 : (Jvm.Cond.soleField "ShellBeach$Reader" "words") ∈ lw_all := lw_g (lw_at lw_m1 108 rfl) rfl
theorem q194 : (Jvm.Cond.lays "ShellBeach$Reader" "ShellBeach$Reader" "at" "I") ∈ lw_all := lw_g (lw_at lw_m1 109 rfl) rfl
theorem q195 : (Jvm.Cond.soleField "ShellBeach$Reader" "at") ∈ lw_all := lw_g (lw_at lw_m1 110 rfl) rfl
theorem q196 : (Jvm.Cond.lays "ShellBeach$Reader" "ShellBeach$Reader" "open" "I") ∈ lw_all := lw_g (lw_at lw_m1 111 rfl) rfl
theorem q197 : (Jvm.Cond.soleField "ShellBeach$Reader" "open") ∈ lw_all := lw_g (lw_at lw_m1 112 rfl) rfl
theorem q198 : (Jvm.Cond.lays "ShellBeach$Reader" "ShellBeach$Reader" "habit" "LShellBeach$Habit;") ∈ lw_all := lw_g (lw_at lw_m1 113 rfl) rfl
theorem q199 : (Jvm.Cond.soleField "ShellBeach$Reader" "habit") ∈ lw_all := lw_g (lw_at lw_m1 114 rfl) rfl
theorem q200 : (Jvm.Cond.laysFinal "ShellBeach$Reader" "ShellBeach$Reader" "this$0" "LShellBeach;") ∈ lw_all := lw_g (lw_at lw_m1 115 rfl) rfl
theorem q201 : (Jvm.Cond.soleField "ShellBeach$Reader" "this$0") ∈ lw_all := lw_g (lw_at lw_m1 116 rfl) rfl
theorem q202 : (Jvm.Cond.superclass "ShellBeach$Reader" "java/lang/Object") ∈ lw_all := lw_g (lw_at lw_m1 117 rfl) rfl
theorem q226 : (Jvm.Cond.fieldLinkNest "ShellBeach$Reader" (28 : Nat) "ShellBeach" "tape" "[B" "ShellBeach") ∈ lw_tbl := lw_at lw_m1 141 rfl
theorem q228 : (Jvm.Cond.fieldLinkNest "ShellBeach$Reader" (25 : Nat) "ShellBeach" "taped" "I" "ShellBeach") ∈ lw_tbl := lw_at lw_m1 143 rfl
theorem q233 : (Jvm.Cond.fieldLinkNest "ShellBeach$Reader" (106 : Nat) "ShellBeach" "habits" "Ljava/util/ArrayList;" "ShellBeach") ∈ lw_tbl := lw_at lw_m1 148 rfl
theorem q401 : (Jvm.Cond.selects "ShellBeach$Reader" ({ cls := "java/lang/Object", name := "getClass", desc := "()Ljava/lang/Class;" } : Jvm.MethodName) ({ cls := "java/lang/Object", name := "getClass", desc := "()Ljava/lang/Class;" } : Jvm.MethodName)) ∈ lw_all := lw_g (lw_at lw_m2 76 rfl) rfl
theorem q726 : (Jvm.Cond.instanceMethod ({ cls := "ShellBeach$Reader", name := "read", desc := "()LShellBeach$Habit;" } : Jvm.MethodName)) ∈ lw_all := lw_g (lw_at lw_m3 161 rfl) rfl
theorem q727 : (Jvm.Cond.selects "ShellBeach$Reader" ({ cls := "ShellBeach$Reader", name := "read", desc := "()LShellBeach$Habit;" } : Jvm.MethodName) ({ cls := "ShellBeach$Reader", name := "read", desc := "()LShellBeach$Habit;" } : Jvm.MethodName)) ∈ lw_all := lw_g (lw_at lw_m3 162 rfl) rfl
theorem q728 : (Jvm.Cond.code ({ cls := "ShellBeach$Reader", name := "read", desc := "()LShellBeach$Habit;" } : Jvm.MethodName) prog_13_method_11_code (1 : Nat) (Option.some (Jvm.ClassFile.FieldType.object "ShellBeach$Habit"))) ∈ lw_all := lw_g (lw_at lw_m3 163 rfl) rfl
theorem q729 : (Jvm.Cond.classLink "ShellBeach$Reader" (75 : Nat) "ShellBeach$Habit") ∈ lw_all := lw_g (lw_at lw_m3 164 rfl) rfl
theorem q731 : (Jvm.Cond.methodLink "ShellBeach$Reader" (103 : Nat) ({ cls := "java/util/ArrayList", name := "size", desc := "()I" } : Jvm.MethodName)) ∈ lw_all := lw_g (lw_at lw_m3 166 rfl) rfl
theorem q732 : (Jvm.Cond.methodLink "ShellBeach$Reader" (109 : Nat) ({ cls := "ShellBeach$Habit", name := "<init>", desc := "(LShellBeach;I)V" } : Jvm.MethodName)) ∈ lw_all := lw_g (lw_at lw_m3 167 rfl) rfl
theorem q741 : (Jvm.Cond.fieldLinkNest "ShellBeach$Reader" (100 : Nat) "ShellBeach$Habit" "tests" "Ljava/util/ArrayList;" "ShellBeach") ∈ lw_tbl := lw_at lw_m3 176 rfl
theorem q743 : (Jvm.Cond.fieldLinkNest "ShellBeach$Reader" (97 : Nat) "ShellBeach$Habit" "words" "[I" "ShellBeach") ∈ lw_tbl := lw_at lw_m3 178 rfl
theorem q745 : (Jvm.Cond.fieldLinkNest "ShellBeach$Reader" (74 : Nat) "ShellBeach$Habit" "facts" "Ljava/util/ArrayList;" "ShellBeach") ∈ lw_tbl := lw_at lw_m3 180 rfl
theorem q759 : (Jvm.Cond.methodLink "ShellBeach$Reader" (112 : Nat) ({ cls := "ShellBeach$Reader", name := "clause", desc := "()V" } : Jvm.MethodName)) ∈ lw_all := lw_g (lw_at lw_m3 194 rfl) rfl
theorem q760 : (Jvm.Cond.privateMethod ({ cls := "ShellBeach$Reader", name := "clause", desc := "()V" } : Jvm.MethodName)) ∈ lw_tbl := lw_at lw_m3 195 rfl
theorem q761 : (Jvm.Cond.instanceMethod ({ cls := "ShellBeach$Reader", name := "clause", desc := "()V" } : Jvm.MethodName)) ∈ lw_all := lw_g (lw_at lw_m3 196 rfl) rfl
theorem q762 : (Jvm.Cond.code ({ cls := "ShellBeach$Reader", name := "clause", desc := "()V" } : Jvm.MethodName) prog_13_method_10_code (2 : Nat) (Option.none : Option Jvm.ClassFile.FieldType)) ∈ lw_all := lw_g (lw_at lw_m3 197 rfl) rfl
theorem q763 : (Jvm.Cond.methodLink "ShellBeach$Reader" (94 : Nat) ({ cls := "ShellBeach$Reader", name := "word", desc := "()I" } : Jvm.MethodName)) ∈ lw_all := lw_g (lw_at lw_m3 198 rfl) rfl
theorem q764 : (Jvm.Cond.privateMethod ({ cls := "ShellBeach$Reader", name := "word", desc := "()I" } : Jvm.MethodName)) ∈ lw_tbl := lw_at lw_m3 199 rfl
theorem q765 : (Jvm.Cond.instanceMethod ({ cls := "ShellBeach$Reader", name := "word", desc := "()I" } : Jvm.MethodName)) ∈ lw_all := lw_g (lw_at lw_m3 200 rfl) rfl
theorem q766 : (Jvm.Cond.code ({ cls := "ShellBeach$Reader", name := "word", desc := "()I" } : Jvm.MethodName) prog_13_method_4_code (6 : Nat) (Option.some Jvm.ClassFile.FieldType.int)) ∈ lw_all := lw_g (lw_at lw_m3 201 rfl) rfl
theorem q767 : (Jvm.Cond.methodLink "ShellBeach$Reader" (32 : Nat) ({ cls := "ShellBeach$Reader", name := "next", desc := "()I" } : Jvm.MethodName)) ∈ lw_all := lw_g (lw_at lw_m3 202 rfl) rfl
theorem q768 : (Jvm.Cond.privateMethod ({ cls := "ShellBeach$Reader", name := "next", desc := "()I" } : Jvm.MethodName)) ∈ lw_tbl := lw_at lw_m3 203 rfl
theorem q769 : (Jvm.Cond.instanceMethod ({ cls := "ShellBeach$Reader", name := "next", desc := "()I" } : Jvm.MethodName)) ∈ lw_all := lw_g (lw_at lw_m3 204 rfl) rfl
theorem q770 : (Jvm.Cond.code ({ cls := "ShellBeach$Reader", name := "next", desc := "()I" } : Jvm.MethodName) prog_13_method_2_code (1 : Nat) (Option.some Jvm.ClassFile.FieldType.int)) ∈ lw_all := lw_g (lw_at lw_m3 205 rfl) rfl
theorem q771 : (Jvm.Cond.classLink "ShellBeach$Reader" (36 : Nat) "ShellBeach$Wrong") ∈ lw_all := lw_g (lw_at lw_m3 206 rfl) rfl
theorem q808 : (Jvm.Cond.methodLink "ShellBeach$Reader" (38 : Nat) ({ cls := "ShellBeach$Wrong", name := "<init>", desc := "(I)V" } : Jvm.MethodName)) ∈ lw_all := lw_g (lw_at lw_m4 3 rfl) rfl
theorem q834 : (Jvm.Cond.methodLink "ShellBeach$Reader" (41 : Nat) ({ cls := "ShellBeach$Reader", name := "sign", desc := "(I)V" } : Jvm.MethodName)) ∈ lw_all := lw_g (lw_at lw_m4 29 rfl) rfl
theorem q835 : (Jvm.Cond.privateMethod ({ cls := "ShellBeach$Reader", name := "sign", desc := "(I)V" } : Jvm.MethodName)) ∈ lw_tbl := lw_at lw_m4 30 rfl
theorem q836 : (Jvm.Cond.instanceMethod ({ cls := "ShellBeach$Reader", name := "sign", desc := "(I)V" } : Jvm.MethodName)) ∈ lw_all := lw_g (lw_at lw_m4 31 rfl) rfl
theorem q837 : (Jvm.Cond.code ({ cls := "ShellBeach$Reader", name := "sign", desc := "(I)V" } : Jvm.MethodName) prog_13_method_3_code (2 : Nat) (Option.none : Option Jvm.ClassFile.FieldType)) ∈ lw_all := lw_g (lw_at lw_m4 32 rfl) rfl
theorem q838 : (Jvm.Cond.methodLink "ShellBeach$Reader" (59 : Nat) ({ cls := "ShellBeach$Reader", name := "some", desc := "()LShellBeach$Test;" } : Jvm.MethodName)) ∈ lw_all := lw_g (lw_at lw_m4 33 rfl) rfl
theorem q839 : (Jvm.Cond.privateMethod ({ cls := "ShellBeach$Reader", name := "some", desc := "()LShellBeach$Test;" } : Jvm.MethodName)) ∈ lw_tbl := lw_at lw_m4 34 rfl
theorem q840 : (Jvm.Cond.instanceMethod ({ cls := "ShellBeach$Reader", name := "some", desc := "()LShellBeach$Test;" } : Jvm.MethodName)) ∈ lw_all := lw_g (lw_at lw_m4 35 rfl) rfl
theorem q841 : (Jvm.Cond.code ({ cls := "ShellBeach$Reader", name := "some", desc := "()LShellBeach$Test;" } : Jvm.MethodName) prog_13_method_9_code (2 : Nat) (Option.some (Jvm.ClassFile.FieldType.object "ShellBeach$Test"))) ∈ lw_all := lw_g (lw_at lw_m4 36 rfl) rfl
theorem q842 : (Jvm.Cond.methodLink "ShellBeach$Reader" (91 : Nat) ({ cls := "ShellBeach$Reader", name := "both", desc := "()LShellBeach$Test;" } : Jvm.MethodName)) ∈ lw_all := lw_g (lw_at lw_m4 37 rfl) rfl
theorem q843 : (Jvm.Cond.privateMethod ({ cls := "ShellBeach$Reader", name := "both", desc := "()LShellBeach$Test;" } : Jvm.MethodName)) ∈ lw_tbl := lw_at lw_m4 38 rfl
theorem q844 : (Jvm.Cond.instanceMethod ({ cls := "ShellBeach$Reader", name := "both", desc := "()LShellBeach$Test;" } : Jvm.MethodName)) ∈ lw_all := lw_g (lw_at lw_m4 39 rfl) rfl
theorem q845 : (Jvm.Cond.code ({ cls := "ShellBeach$Reader", name := "both", desc := "()LShellBeach$Test;" } : Jvm.MethodName) prog_13_method_8_code (2 : Nat) (Option.some (Jvm.ClassFile.FieldType.object "ShellBeach$Test"))) ∈ lw_all := lw_g (lw_at lw_m4 40 rfl) rfl
theorem q846 : (Jvm.Cond.methodLink "ShellBeach$Reader" (50 : Nat) ({ cls := "ShellBeach$Reader", name := "fact", desc := "()LShellBeach$Test;" } : Jvm.MethodName)) ∈ lw_all := lw_g (lw_at lw_m4 41 rfl) rfl
theorem q847 : (Jvm.Cond.privateMethod ({ cls := "ShellBeach$Reader", name := "fact", desc := "()LShellBeach$Test;" } : Jvm.MethodName)) ∈ lw_tbl := lw_at lw_m4 42 rfl
theorem q848 : (Jvm.Cond.instanceMethod ({ cls := "ShellBeach$Reader", name := "fact", desc := "()LShellBeach$Test;" } : Jvm.MethodName)) ∈ lw_all := lw_g (lw_at lw_m4 43 rfl) rfl
theorem q849 : (Jvm.Cond.code ({ cls := "ShellBeach$Reader", name := "fact", desc := "()LShellBeach$Test;" } : Jvm.MethodName) prog_13_method_7_code (6 : Nat) (Option.some (Jvm.ClassFile.FieldType.object "ShellBeach$Test"))) ∈ lw_all := lw_g (lw_at lw_m4 44 rfl) rfl
theorem q850 : (Jvm.Cond.methodLink "ShellBeach$Reader" (47 : Nat) ({ cls := "ShellBeach$Reader", name := "opens", desc := "()V" } : Jvm.MethodName)) ∈ lw_all := lw_g (lw_at lw_m4 45 rfl) rfl
theorem q851 : (Jvm.Cond.privateMethod ({ cls := "ShellBeach$Reader", name := "opens", desc := "()V" } : Jvm.MethodName)) ∈ lw_tbl := lw_at lw_m4 46 rfl
theorem q852 : (Jvm.Cond.instanceMethod ({ cls := "ShellBeach$Reader", name := "opens", desc := "()V" } : Jvm.MethodName)) ∈ lw_all := lw_g (lw_at lw_m4 47 rfl) rfl
theorem q853 : (Jvm.Cond.code ({ cls := "ShellBeach$Reader", name := "opens", desc := "()V" } : Jvm.MethodName) prog_13_method_6_code (1 : Nat) (Option.none : Option Jvm.ClassFile.FieldType)) ∈ lw_all := lw_g (lw_at lw_m4 48 rfl) rfl
theorem q854 : (Jvm.Cond.classLink "ShellBeach$Reader" (54 : Nat) "ShellBeach$Not") ∈ lw_all := lw_g (lw_at lw_m4 49 rfl) rfl
theorem q856 : (Jvm.Cond.methodLink "ShellBeach$Reader" (56 : Nat) ({ cls := "ShellBeach$Not", name := "<init>", desc := "(LShellBeach$Test;)V" } : Jvm.MethodName)) ∈ lw_all := lw_g (lw_at lw_m4 51 rfl) rfl
theorem q864 : (Jvm.Cond.classLink "ShellBeach$Reader" (62 : Nat) "ShellBeach$Fact") ∈ lw_all := lw_g (lw_at lw_m4 59 rfl) rfl
theorem q866 : (Jvm.Cond.methodLink "ShellBeach$Reader" (64 : Nat) ({ cls := "ShellBeach$Reader", name := "number", desc := "()I" } : Jvm.MethodName)) ∈ lw_all := lw_g (lw_at lw_m4 61 rfl) rfl
theorem q867 : (Jvm.Cond.privateMethod ({ cls := "ShellBeach$Reader", name := "number", desc := "()I" } : Jvm.MethodName)) ∈ lw_tbl := lw_at lw_m4 62 rfl
theorem q868 : (Jvm.Cond.instanceMethod ({ cls := "ShellBeach$Reader", name := "number", desc := "()I" } : Jvm.MethodName)) ∈ lw_all := lw_g (lw_at lw_m4 63 rfl) rfl
theorem q869 : (Jvm.Cond.code ({ cls := "ShellBeach$Reader", name := "number", desc := "()I" } : Jvm.MethodName) prog_13_method_5_code (3 : Nat) (Option.some Jvm.ClassFile.FieldType.int)) ∈ lw_all := lw_g (lw_at lw_m4 64 rfl) rfl
theorem q870 : (Jvm.Cond.methodLink "ShellBeach$Reader" (67 : Nat) ({ cls := "ShellBeach$Fact", name := "<init>", desc := "(III)V" } : Jvm.MethodName)) ∈ lw_all := lw_g (lw_at lw_m4 65 rfl) rfl
theorem q885 : (Jvm.Cond.methodLink "ShellBeach$Reader" (80 : Nat) ({ cls := "java/util/ArrayList", name := "add", desc := "(Ljava/lang/Object;)Z" } : Jvm.MethodName)) ∈ lw_all := lw_g (lw_at lw_m4 80 rfl) rfl
theorem q886 : (Jvm.Cond.classLink "ShellBeach$Reader" (86 : Nat) "ShellBeach$Two") ∈ lw_all := lw_g (lw_at lw_m4 81 rfl) rfl
theorem q888 : (Jvm.Cond.methodLink "ShellBeach$Reader" (88 : Nat) ({ cls := "ShellBeach$Two", name := "<init>", desc := "(LShellBeach$Test;LShellBeach$Test;Z)V" } : Jvm.MethodName)) ∈ lw_all := lw_g (lw_at lw_m4 83 rfl) rfl
theorem q1879 : (Jvm.Cond.castable "ShellBeach$Reader" "java/lang/Object") ∈ lw_tbl := lw_at lw_m8 114 rfl
theorem in_X2 : ∀ w ∈ wsX20, w ∈ lw_all := lw_in wsX20 [192, 194, 196, 198, 200] (by decide +kernel) (by decide +kernel)
/-! ShellBeach$Shell -/
def RX4 : String := "ShellBeach$Shell"
def TX4 : u_T := fun k => match k with
  | 0 => ("ShellBeach$Shell", "number", "I", true)
  | 1 => ("ShellBeach$Shell", "room", "I", true)
  | 2 => ("ShellBeach$Shell", "weight", "I", true)
  | 3 => ("ShellBeach$Shell", "holes", "I", true)
  | 4 => ("ShellBeach$Shell", "cell", "I", false)
  | 5 => ("ShellBeach$Shell", "state", "I", false)
  | _ => ("ShellBeach$Shell", "of", "LShellBeach$Crab;", false)
def tyX4 : Nat → FieldType := fun k => match k with
  | 0 => .int
  | 1 => .int
  | 2 => .int
  | 3 => .int
  | 4 => .int
  | 5 => .int
  | _ => .object "ShellBeach$Crab"
abbrev wsX40 : List Cond := u_ws RX4 TX4 7
theorem nmX4 : ∀ a, a < 7 → ∀ b, b < 7 → a ≠ b → (TX4 a).2.1 ≠ (TX4 b).2.1 := by decide +kernel
theorem tyX4_ok : ∀ k, k < 7 → parseFieldDescriptor (TX4 k).2.2.1 = some (tyX4 k) := by decide +kernel
abbrev cX4_init : ByteArray := prog_15_method_1_code
def yX4_init : MethodName := ⟨RX4, "<init>", "(IIIII)V"⟩
theorem dX4_init_0 : decode cX4_init 0 = .ok (.aload_n 0, 1) := by decide +kernel
theorem dX4_init_1 : decode cX4_init 1 = .ok (.invokespecial 3, 3) := by decide +kernel
theorem dX4_init_4 : decode cX4_init 4 = .ok (.aload_n 0, 1) := by decide +kernel
theorem dX4_init_5 : decode cX4_init 5 = .ok (.iload_n 1, 1) := by decide +kernel
theorem dX4_init_6 : decode cX4_init 6 = .ok (.putfield 9, 3) := by decide +kernel
theorem dX4_init_9 : decode cX4_init 9 = .ok (.aload_n 0, 1) := by decide +kernel
theorem dX4_init_10 : decode cX4_init 10 = .ok (.iload_n 2, 1) := by decide +kernel
theorem dX4_init_11 : decode cX4_init 11 = .ok (.putfield 15, 3) := by decide +kernel
theorem dX4_init_14 : decode cX4_init 14 = .ok (.aload_n 0, 1) := by decide +kernel
theorem dX4_init_15 : decode cX4_init 15 = .ok (.iload_n 3, 1) := by decide +kernel
theorem dX4_init_16 : decode cX4_init 16 = .ok (.putfield 18, 3) := by decide +kernel
theorem dX4_init_19 : decode cX4_init 19 = .ok (.aload_n 0, 1) := by decide +kernel
theorem dX4_init_20 : decode cX4_init 20 = .ok (.iload 4, 2) := by decide +kernel
theorem dX4_init_22 : decode cX4_init 22 = .ok (.putfield 21, 3) := by decide +kernel
theorem dX4_init_25 : decode cX4_init 25 = .ok (.aload_n 0, 1) := by decide +kernel
theorem dX4_init_26 : decode cX4_init 26 = .ok (.iload 5, 2) := by decide +kernel
theorem dX4_init_28 : decode cX4_init 28 = .ok (.putfield 24, 3) := by decide +kernel
theorem dX4_init_31 : decode cX4_init 31 = .ok (.return_, 1) := by decide +kernel
abbrev cX4_liesIn : ByteArray := prog_15_method_3_code
def yX4_liesIn : MethodName := ⟨RX4, "liesIn", "(I)Z"⟩
theorem dX4_liesIn_0 : decode cX4_liesIn 0 = .ok (.aload_n 0, 1) := by decide +kernel
theorem dX4_liesIn_1 : decode cX4_liesIn 1 = .ok (.getfield 27, 3) := by decide +kernel
theorem dX4_liesIn_4 : decode cX4_liesIn 4 = .ok (.ifCond .ne 15, 3) := by decide +kernel
theorem dX4_liesIn_7 : decode cX4_liesIn 7 = .ok (.aload_n 0, 1) := by decide +kernel
theorem dX4_liesIn_8 : decode cX4_liesIn 8 = .ok (.getfield 15, 3) := by decide +kernel
theorem dX4_liesIn_11 : decode cX4_liesIn 11 = .ok (.iload_n 1, 1) := by decide +kernel
theorem dX4_liesIn_12 : decode cX4_liesIn 12 = .ok (.if_icmp .ne 7, 3) := by decide +kernel
theorem dX4_liesIn_15 : decode cX4_liesIn 15 = .ok (.iconst 1, 1) := by decide +kernel
theorem dX4_liesIn_16 : decode cX4_liesIn 16 = .ok (.goto 4, 3) := by decide +kernel
theorem dX4_liesIn_19 : decode cX4_liesIn 19 = .ok (.iconst 0, 1) := by decide +kernel
theorem dX4_liesIn_20 : decode cX4_liesIn 20 = .ok (.ireturn, 1) := by decide +kernel
abbrev cX4_become : ByteArray := prog_15_method_4_code
def yX4_become : MethodName := ⟨RX4, "become", "(ILShellBeach$Crab;)V"⟩
theorem dX4_become_0 : decode cX4_become 0 = .ok (.aload_n 0, 1) := by decide +kernel
theorem dX4_become_1 : decode cX4_become 1 = .ok (.iload_n 1, 1) := by decide +kernel
theorem dX4_become_2 : decode cX4_become 2 = .ok (.putfield 27, 3) := by decide +kernel
theorem dX4_become_5 : decode cX4_become 5 = .ok (.aload_n 0, 1) := by decide +kernel
theorem dX4_become_6 : decode cX4_become 6 = .ok (.aload_n 2, 1) := by decide +kernel
theorem dX4_become_7 : decode cX4_become 7 = .ok (.putfield 30, 3) := by decide +kernel
theorem dX4_become_10 : decode cX4_become 10 = .ok (.return_, 1) := by decide +kernel
abbrev cX4_fit : ByteArray := prog_15_method_2_code
def yX4_fit : MethodName := ⟨RX4, "fit", "(I)I"⟩
theorem dX4_fit_0 : decode cX4_fit 0 = .ok (.bipush 30, 2) := by decide +kernel
theorem dX4_fit_2 : decode cX4_fit 2 = .ok (.aload_n 0, 1) := by decide +kernel
theorem dX4_fit_3 : decode cX4_fit 3 = .ok (.getfield 18, 3) := by decide +kernel
theorem dX4_fit_6 : decode cX4_fit 6 = .ok (.iload_n 1, 1) := by decide +kernel
theorem dX4_fit_7 : decode cX4_fit 7 = .ok (.if_icmp .lt 12, 3) := by decide +kernel
theorem dX4_fit_10 : decode cX4_fit 10 = .ok (.aload_n 0, 1) := by decide +kernel
theorem dX4_fit_11 : decode cX4_fit 11 = .ok (.getfield 18, 3) := by decide +kernel
theorem dX4_fit_14 : decode cX4_fit 14 = .ok (.iload_n 1, 1) := by decide +kernel
theorem dX4_fit_15 : decode cX4_fit 15 = .ok (.isub, 1) := by decide +kernel
theorem dX4_fit_16 : decode cX4_fit 16 = .ok (.goto 11, 3) := by decide +kernel
theorem dX4_fit_19 : decode cX4_fit 19 = .ok (.iconst 3, 1) := by decide +kernel
theorem dX4_fit_20 : decode cX4_fit 20 = .ok (.iload_n 1, 1) := by decide +kernel
theorem dX4_fit_21 : decode cX4_fit 21 = .ok (.aload_n 0, 1) := by decide +kernel
theorem dX4_fit_22 : decode cX4_fit 22 = .ok (.getfield 18, 3) := by decide +kernel
theorem dX4_fit_25 : decode cX4_fit 25 = .ok (.isub, 1) := by decide +kernel
theorem dX4_fit_26 : decode cX4_fit 26 = .ok (.imul, 1) := by decide +kernel
theorem dX4_fit_27 : decode cX4_fit 27 = .ok (.isub, 1) := by decide +kernel
theorem dX4_fit_28 : decode cX4_fit 28 = .ok (.iconst 2, 1) := by decide +kernel
theorem dX4_fit_29 : decode cX4_fit 29 = .ok (.aload_n 0, 1) := by decide +kernel
theorem dX4_fit_30 : decode cX4_fit 30 = .ok (.getfield 24, 3) := by decide +kernel
theorem dX4_fit_33 : decode cX4_fit 33 = .ok (.imul, 1) := by decide +kernel
theorem dX4_fit_34 : decode cX4_fit 34 = .ok (.isub, 1) := by decide +kernel
theorem dX4_fit_35 : decode cX4_fit 35 = .ok (.aload_n 0, 1) := by decide +kernel
theorem dX4_fit_36 : decode cX4_fit 36 = .ok (.getfield 21, 3) := by decide +kernel
theorem dX4_fit_39 : decode cX4_fit 39 = .ok (.iconst 4, 1) := by decide +kernel
theorem dX4_fit_40 : decode cX4_fit 40 = .ok (.idiv, 1) := by decide +kernel
theorem dX4_fit_41 : decode cX4_fit 41 = .ok (.isub, 1) := by decide +kernel
theorem dX4_fit_42 : decode cX4_fit 42 = .ok (.ireturn, 1) := by decide +kernel
theorem q93 : (Jvm.Cond.initialized "ShellBeach$Shell") ∈ lw_all := lw_g (lw_at lw_m1 8 rfl) rfl
theorem q318 : (Jvm.Cond.instantiable "ShellBeach$Shell" (7 : Nat)) ∈ lw_all := lw_g (lw_at lw_m1 233 rfl) rfl
theorem q320 : (Jvm.Cond.instanceMethod ({ cls := "ShellBeach$Shell", name := "<init>", desc := "(IIIII)V" } : Jvm.MethodName)) ∈ lw_all := lw_g (lw_at lw_m1 235 rfl) rfl
theorem q321 : (Jvm.Cond.code ({ cls := "ShellBeach$Shell", name := "<init>", desc := "(IIIII)V" } : Jvm.MethodName) prog_15_method_1_code (6 : Nat) (Option.none : Option Jvm.ClassFile.FieldType)) ∈ lw_all := lw_g (lw_at lw_m1 236 rfl) rfl
theorem q322 : (Jvm.Cond.methodLink "ShellBeach$Shell" (3 : Nat) ({ cls := "java/lang/Object", name := "<init>", desc := "()V" } : Jvm.MethodName)) ∈ lw_all := lw_g (lw_at lw_m1 237 rfl) rfl
theorem q323 : (Jvm.Cond.fieldLink "ShellBeach$Shell" (9 : Nat) "ShellBeach$Shell" "number" "I") ∈ lw_all := lw_g (lw_at lw_m1 238 rfl) rfl
theorem q326 : (Jvm.Cond.fieldLink "ShellBeach$Shell" (18 : Nat) "ShellBeach$Shell" "room" "I") ∈ lw_all := lw_g (lw_at lw_m2 1 rfl) rfl
theorem q328 : (Jvm.Cond.fieldLink "ShellBeach$Shell" (21 : Nat) "ShellBeach$Shell" "weight" "I") ∈ lw_all := lw_g (lw_at lw_m2 3 rfl) rfl
theorem q330 : (Jvm.Cond.fieldLink "ShellBeach$Shell" (24 : Nat) "ShellBeach$Shell" "holes" "I") ∈ lw_all := lw_g (lw_at lw_m2 5 rfl) rfl
theorem q332 : (Jvm.Cond.fieldLink "ShellBeach$Shell" (15 : Nat) "ShellBeach$Shell" "cell" "I") ∈ lw_all := lw_g (lw_at lw_m2 7 rfl) rfl
theorem q337 : (Jvm.Cond.fieldLink "ShellBeach$Shell" (27 : Nat) "ShellBeach$Shell" "state" "I") ∈ lw_all := lw_g (lw_at lw_m2 12 rfl) rfl
theorem q340 : (Jvm.Cond.fieldLink "ShellBeach$Shell" (30 : Nat) "ShellBeach$Shell" "of" "LShellBeach$Crab;") ∈ lw_all := lw_g (lw_at lw_m2 15 rfl) rfl
theorem q342 : (Jvm.Cond.laysFinal "ShellBeach$Shell" "ShellBeach$Shell" "number" "I") ∈ lw_all := lw_g (lw_at lw_m2 17 rfl) rfl
theorem q343 : (Jvm.Cond.soleField "ShellBeach$Shell" "number") ∈ lw_all := lw_g (lw_at lw_m2 18 rfl) rfl
theorem q344 : (Jvm.Cond.laysFinal "ShellBeach$Shell" "ShellBeach$Shell" "room" "I") ∈ lw_all := lw_g (lw_at lw_m2 19 rfl) rfl
theorem q345 : (Jvm.Cond.soleField "ShellBeach$Shell" "room") ∈ lw_all := lw_g (lw_at lw_m2 20 rfl) rfl
theorem q346 : (Jvm.Cond.laysFinal "ShellBeach$Shell" "ShellBeach$Shell" "weight" "I") ∈ lw_all := lw_g (lw_at lw_m2 21 rfl) rfl
theorem q347 : (Jvm.Cond.soleField "ShellBeach$Shell" "weight") ∈ lw_all := lw_g (lw_at lw_m2 22 rfl) rfl
theorem q348 : (Jvm.Cond.laysFinal "ShellBeach$Shell" "ShellBeach$Shell" "holes" "I") ∈ lw_all := lw_g (lw_at lw_m2 23 rfl) rfl
theorem q349 : (Jvm.Cond.soleField "ShellBeach$Shell" "holes") ∈ lw_all := lw_g (lw_at lw_m2 24 rfl) rfl
theorem q350 : (Jvm.Cond.lays "ShellBeach$Shell" "ShellBeach$Shell" "cell" "I") ∈ lw_all := lw_g (lw_at lw_m2 25 rfl) rfl
theorem q351 : (Jvm.Cond.soleField "ShellBeach$Shell" "cell") ∈ lw_all := lw_g (lw_at lw_m2 26 rfl) rfl
theorem q352 : (Jvm.Cond.lays "ShellBeach$Shell" "ShellBeach$Shell" "state" "I") ∈ lw_all := lw_g (lw_at lw_m2 27 rfl) rfl
theorem q353 : (Jvm.Cond.soleField "ShellBeach$Shell" "state") ∈ lw_all := lw_g (lw_at lw_m2 28 rfl) rfl
theorem q354 : (Jvm.Cond.lays "ShellBeach$Shell" "ShellBeach$Shell" "of" "LShellBeach$Crab;") ∈ lw_all := lw_g (lw_at lw_m2 29 rfl) rfl
theorem q355 : (Jvm.Cond.soleField "ShellBeach$Shell" "of") ∈ lw_all := lw_g (lw_at lw_m2 30 rfl) rfl
theorem q356 : (Jvm.Cond.superclass "ShellBeach$Shell" "java/lang/Object") ∈ lw_all := lw_g (lw_at lw_m2 31 rfl) rfl
theorem q403 : (Jvm.Cond.selects "ShellBeach$Shell" ({ cls := "java/lang/Object", name := "getClass", desc := "()Ljava/lang/Class;" } : Jvm.MethodName) ({ cls := "java/lang/Object", name := "getClass", desc := "()Ljava/lang/Class;" } : Jvm.MethodName)) ∈ lw_all := lw_g (lw_at lw_m2 78 rfl) rfl
theorem q448 : (Jvm.Cond.instanceMethod ({ cls := "ShellBeach$Shell", name := "liesIn", desc := "(I)Z" } : Jvm.MethodName)) ∈ lw_all := lw_g (lw_at lw_m2 123 rfl) rfl
theorem q449 : (Jvm.Cond.selects "ShellBeach$Shell" ({ cls := "ShellBeach$Shell", name := "liesIn", desc := "(I)Z" } : Jvm.MethodName) ({ cls := "ShellBeach$Shell", name := "liesIn", desc := "(I)Z" } : Jvm.MethodName)) ∈ lw_all := lw_g (lw_at lw_m2 124 rfl) rfl
theorem q450 : (Jvm.Cond.code ({ cls := "ShellBeach$Shell", name := "liesIn", desc := "(I)Z" } : Jvm.MethodName) prog_15_method_3_code (2 : Nat) (Option.some Jvm.ClassFile.FieldType.boolean)) ∈ lw_all := lw_g (lw_at lw_m2 125 rfl) rfl
theorem q615 : (Jvm.Cond.instanceMethod ({ cls := "ShellBeach$Shell", name := "become", desc := "(ILShellBeach$Crab;)V" } : Jvm.MethodName)) ∈ lw_all := lw_g (lw_at lw_m3 50 rfl) rfl
theorem q616 : (Jvm.Cond.selects "ShellBeach$Shell" ({ cls := "ShellBeach$Shell", name := "become", desc := "(ILShellBeach$Crab;)V" } : Jvm.MethodName) ({ cls := "ShellBeach$Shell", name := "become", desc := "(ILShellBeach$Crab;)V" } : Jvm.MethodName)) ∈ lw_all := lw_g (lw_at lw_m3 51 rfl) rfl
theorem q617 : (Jvm.Cond.code ({ cls := "ShellBeach$Shell", name := "become", desc := "(ILShellBeach$Crab;)V" } : Jvm.MethodName) prog_15_method_4_code (3 : Nat) (Option.none : Option Jvm.ClassFile.FieldType)) ∈ lw_all := lw_g (lw_at lw_m3 52 rfl) rfl
theorem q691 : (Jvm.Cond.instanceMethod ({ cls := "ShellBeach$Shell", name := "fit", desc := "(I)I" } : Jvm.MethodName)) ∈ lw_all := lw_g (lw_at lw_m3 126 rfl) rfl
theorem q692 : (Jvm.Cond.selects "ShellBeach$Shell" ({ cls := "ShellBeach$Shell", name := "fit", desc := "(I)I" } : Jvm.MethodName) ({ cls := "ShellBeach$Shell", name := "fit", desc := "(I)I" } : Jvm.MethodName)) ∈ lw_all := lw_g (lw_at lw_m3 127 rfl) rfl
theorem q693 : (Jvm.Cond.code ({ cls := "ShellBeach$Shell", name := "fit", desc := "(I)I" } : Jvm.MethodName) prog_15_method_2_code (2 : Nat) (Option.some Jvm.ClassFile.FieldType.int)) ∈ lw_all := lw_g (lw_at lw_m3 128 rfl) rfl
theorem q1873 : (Jvm.Cond.castable "ShellBeach$Shell" "java/lang/Object") ∈ lw_tbl := lw_at lw_m8 108 rfl
theorem in_X4 : ∀ w ∈ wsX40, w ∈ lw_all := lw_in wsX40 [342, 344, 346, 348, 350, 352, 354] (by decide +kernel) (by decide +kernel)
/-! ShellBeach$Crab -/
def RX5 : String := "ShellBeach$Crab"
def TX5 : u_T := fun k => match k with
  | 0 => ("ShellBeach$Crab", "number", "I", true)
  | 1 => ("ShellBeach$Crab", "ways", "[LShellBeach$Way;", true)
  | 2 => ("ShellBeach$Crab", "cell", "I", false)
  | 3 => ("ShellBeach$Crab", "size", "I", false)
  | 4 => ("ShellBeach$Crab", "left", "I", false)
  | 5 => ("ShellBeach$Crab", "knocks", "I", false)
  | 6 => ("ShellBeach$Crab", "isDead", "Z", false)
  | 7 => ("ShellBeach$Crab", "waits", "Z", false)
  | 8 => ("ShellBeach$Crab", "hasKnocked", "Z", false)
  | 9 => ("ShellBeach$Crab", "shell", "LShellBeach$Shell;", false)
  | 10 => ("ShellBeach$Crab", "at", "LShellBeach$Crab;", false)
  | 11 => ("ShellBeach$Crab", "habit", "LShellBeach$Habit;", false)
  | _ => ("ShellBeach$Crab", "this$0", "LShellBeach;", true)
def tyX5 : Nat → FieldType := fun k => match k with
  | 0 => .int
  | 1 => .array (.object "ShellBeach$Way")
  | 2 => .int
  | 3 => .int
  | 4 => .int
  | 5 => .int
  | 6 => .boolean
  | 7 => .boolean
  | 8 => .boolean
  | 9 => .object "ShellBeach$Shell"
  | 10 => .object "ShellBeach$Crab"
  | 11 => .object "ShellBeach$Habit"
  | _ => .object "ShellBeach"
abbrev wsX50 : List Cond := u_ws RX5 TX5 13
theorem nmX5 : ∀ a, a < 13 → ∀ b, b < 13 → a ≠ b → (TX5 a).2.1 ≠ (TX5 b).2.1 := by decide +kernel
theorem tyX5_ok : ∀ k, k < 13 → parseFieldDescriptor (TX5 k).2.2.1 = some (tyX5 k) := by decide +kernel
abbrev cX5_init : ByteArray := prog_4_method_1_code
def yX5_init : MethodName := ⟨RX5, "<init>", "(LShellBeach;III)V"⟩
theorem dX5_init_0 : decode cX5_init 0 = .ok (.aload_n 0, 1) := by decide +kernel
theorem dX5_init_1 : decode cX5_init 1 = .ok (.aload_n 1, 1) := by decide +kernel
theorem dX5_init_2 : decode cX5_init 2 = .ok (.putfield 3, 3) := by decide +kernel
theorem dX5_init_5 : decode cX5_init 5 = .ok (.aload_n 0, 1) := by decide +kernel
theorem dX5_init_6 : decode cX5_init 6 = .ok (.invokespecial 9, 3) := by decide +kernel
theorem dX5_init_9 : decode cX5_init 9 = .ok (.aload_n 0, 1) := by decide +kernel
theorem dX5_init_10 : decode cX5_init 10 = .ok (.bipush 7, 2) := by decide +kernel
theorem dX5_init_12 : decode cX5_init 12 = .ok (.anewarray 15, 3) := by decide +kernel
theorem dX5_init_15 : decode cX5_init 15 = .ok (.dup, 1) := by decide +kernel
theorem dX5_init_16 : decode cX5_init 16 = .ok (.iconst 0, 1) := by decide +kernel
theorem dX5_init_17 : decode cX5_init 17 = .ok (.new 15, 3) := by decide +kernel
theorem dX5_init_20 : decode cX5_init 20 = .ok (.dup, 1) := by decide +kernel
theorem dX5_init_21 : decode cX5_init 21 = .ok (.aload_n 0, 1) := by decide +kernel
theorem dX5_init_22 : decode cX5_init 22 = .ok (.getfield 3, 3) := by decide +kernel
theorem dX5_init_25 : decode cX5_init 25 = .ok (.aload_n 0, 1) := by decide +kernel
theorem dX5_init_26 : decode cX5_init 26 = .ok (.invokespecial 17, 3) := by decide +kernel
theorem dX5_init_29 : decode cX5_init 29 = .ok (.aastore, 1) := by decide +kernel
theorem dX5_init_30 : decode cX5_init 30 = .ok (.dup, 1) := by decide +kernel
theorem dX5_init_31 : decode cX5_init 31 = .ok (.iconst 1, 1) := by decide +kernel
theorem dX5_init_32 : decode cX5_init 32 = .ok (.new 20, 3) := by decide +kernel
theorem dX5_init_35 : decode cX5_init 35 = .ok (.dup, 1) := by decide +kernel
theorem dX5_init_36 : decode cX5_init 36 = .ok (.aload_n 0, 1) := by decide +kernel
theorem dX5_init_37 : decode cX5_init 37 = .ok (.getfield 3, 3) := by decide +kernel
theorem dX5_init_40 : decode cX5_init 40 = .ok (.aload_n 0, 1) := by decide +kernel
theorem dX5_init_41 : decode cX5_init 41 = .ok (.invokespecial 22, 3) := by decide +kernel
theorem dX5_init_44 : decode cX5_init 44 = .ok (.aastore, 1) := by decide +kernel
theorem dX5_init_45 : decode cX5_init 45 = .ok (.dup, 1) := by decide +kernel
theorem dX5_init_46 : decode cX5_init 46 = .ok (.iconst 2, 1) := by decide +kernel
theorem dX5_init_47 : decode cX5_init 47 = .ok (.new 23, 3) := by decide +kernel
theorem dX5_init_50 : decode cX5_init 50 = .ok (.dup, 1) := by decide +kernel
theorem dX5_init_51 : decode cX5_init 51 = .ok (.aload_n 0, 1) := by decide +kernel
theorem dX5_init_52 : decode cX5_init 52 = .ok (.getfield 3, 3) := by decide +kernel
theorem dX5_init_55 : decode cX5_init 55 = .ok (.aload_n 0, 1) := by decide +kernel
theorem dX5_init_56 : decode cX5_init 56 = .ok (.invokespecial 25, 3) := by decide +kernel
theorem dX5_init_59 : decode cX5_init 59 = .ok (.aastore, 1) := by decide +kernel
theorem dX5_init_60 : decode cX5_init 60 = .ok (.dup, 1) := by decide +kernel
theorem dX5_init_61 : decode cX5_init 61 = .ok (.iconst 3, 1) := by decide +kernel
theorem dX5_init_62 : decode cX5_init 62 = .ok (.new 26, 3) := by decide +kernel
theorem dX5_init_65 : decode cX5_init 65 = .ok (.dup, 1) := by decide +kernel
theorem dX5_init_66 : decode cX5_init 66 = .ok (.aload_n 0, 1) := by decide +kernel
theorem dX5_init_67 : decode cX5_init 67 = .ok (.getfield 3, 3) := by decide +kernel
theorem dX5_init_70 : decode cX5_init 70 = .ok (.aload_n 0, 1) := by decide +kernel
theorem dX5_init_71 : decode cX5_init 71 = .ok (.invokespecial 28, 3) := by decide +kernel
theorem dX5_init_74 : decode cX5_init 74 = .ok (.aastore, 1) := by decide +kernel
theorem dX5_init_75 : decode cX5_init 75 = .ok (.dup, 1) := by decide +kernel
theorem dX5_init_76 : decode cX5_init 76 = .ok (.iconst 4, 1) := by decide +kernel
theorem dX5_init_77 : decode cX5_init 77 = .ok (.new 29, 3) := by decide +kernel
theorem dX5_init_80 : decode cX5_init 80 = .ok (.dup, 1) := by decide +kernel
theorem dX5_init_81 : decode cX5_init 81 = .ok (.aload_n 0, 1) := by decide +kernel
theorem dX5_init_82 : decode cX5_init 82 = .ok (.getfield 3, 3) := by decide +kernel
theorem dX5_init_85 : decode cX5_init 85 = .ok (.aload_n 0, 1) := by decide +kernel
theorem dX5_init_86 : decode cX5_init 86 = .ok (.invokespecial 31, 3) := by decide +kernel
theorem dX5_init_89 : decode cX5_init 89 = .ok (.aastore, 1) := by decide +kernel
theorem dX5_init_90 : decode cX5_init 90 = .ok (.dup, 1) := by decide +kernel
theorem dX5_init_91 : decode cX5_init 91 = .ok (.iconst 5, 1) := by decide +kernel
theorem dX5_init_92 : decode cX5_init 92 = .ok (.new 32, 3) := by decide +kernel
theorem dX5_init_95 : decode cX5_init 95 = .ok (.dup, 1) := by decide +kernel
theorem dX5_init_96 : decode cX5_init 96 = .ok (.aload_n 0, 1) := by decide +kernel
theorem dX5_init_97 : decode cX5_init 97 = .ok (.getfield 3, 3) := by decide +kernel
theorem dX5_init_100 : decode cX5_init 100 = .ok (.aload_n 0, 1) := by decide +kernel
theorem dX5_init_101 : decode cX5_init 101 = .ok (.invokespecial 34, 3) := by decide +kernel
theorem dX5_init_104 : decode cX5_init 104 = .ok (.aastore, 1) := by decide +kernel
theorem dX5_init_105 : decode cX5_init 105 = .ok (.dup, 1) := by decide +kernel
theorem dX5_init_106 : decode cX5_init 106 = .ok (.bipush 6, 2) := by decide +kernel
theorem dX5_init_108 : decode cX5_init 108 = .ok (.new 35, 3) := by decide +kernel
theorem dX5_init_111 : decode cX5_init 111 = .ok (.dup, 1) := by decide +kernel
theorem dX5_init_112 : decode cX5_init 112 = .ok (.aload_n 0, 1) := by decide +kernel
theorem dX5_init_113 : decode cX5_init 113 = .ok (.getfield 3, 3) := by decide +kernel
theorem dX5_init_116 : decode cX5_init 116 = .ok (.aload_n 0, 1) := by decide +kernel
theorem dX5_init_117 : decode cX5_init 117 = .ok (.invokespecial 37, 3) := by decide +kernel
theorem dX5_init_120 : decode cX5_init 120 = .ok (.aastore, 1) := by decide +kernel
theorem dX5_init_121 : decode cX5_init 121 = .ok (.putfield 38, 3) := by decide +kernel
theorem dX5_init_124 : decode cX5_init 124 = .ok (.aload_n 0, 1) := by decide +kernel
theorem dX5_init_125 : decode cX5_init 125 = .ok (.iload_n 2, 1) := by decide +kernel
theorem dX5_init_126 : decode cX5_init 126 = .ok (.putfield 42, 3) := by decide +kernel
theorem dX5_init_129 : decode cX5_init 129 = .ok (.aload_n 0, 1) := by decide +kernel
theorem dX5_init_130 : decode cX5_init 130 = .ok (.iload_n 3, 1) := by decide +kernel
theorem dX5_init_131 : decode cX5_init 131 = .ok (.putfield 46, 3) := by decide +kernel
theorem dX5_init_134 : decode cX5_init 134 = .ok (.aload_n 0, 1) := by decide +kernel
theorem dX5_init_135 : decode cX5_init 135 = .ok (.iload 4, 2) := by decide +kernel
theorem dX5_init_137 : decode cX5_init 137 = .ok (.putfield 49, 3) := by decide +kernel
theorem dX5_init_140 : decode cX5_init 140 = .ok (.return_, 1) := by decide +kernel
abbrev cX5_houseIn : ByteArray := prog_4_method_8_code
def yX5_houseIn : MethodName := ⟨RX5, "houseIn", "(LShellBeach$Shell;)V"⟩
theorem dX5_houseIn_0 : decode cX5_houseIn 0 = .ok (.aload_n 0, 1) := by decide +kernel
theorem dX5_houseIn_1 : decode cX5_houseIn 1 = .ok (.aload_n 1, 1) := by decide +kernel
theorem dX5_houseIn_2 : decode cX5_houseIn 2 = .ok (.putfield 52, 3) := by decide +kernel
theorem dX5_houseIn_5 : decode cX5_houseIn 5 = .ok (.aload_n 0, 1) := by decide +kernel
theorem dX5_houseIn_6 : decode cX5_houseIn 6 = .ok (.iconst 0, 1) := by decide +kernel
theorem dX5_houseIn_7 : decode cX5_houseIn 7 = .ok (.putfield 83, 3) := by decide +kernel
theorem dX5_houseIn_10 : decode cX5_houseIn 10 = .ok (.aload_n 1, 1) := by decide +kernel
theorem dX5_houseIn_11 : decode cX5_houseIn 11 = .ok (.iconst 1, 1) := by decide +kernel
theorem dX5_houseIn_12 : decode cX5_houseIn 12 = .ok (.aload_n 0, 1) := by decide +kernel
theorem dX5_houseIn_13 : decode cX5_houseIn 13 = .ok (.invokevirtual 86, 3) := by decide +kernel
theorem dX5_houseIn_16 : decode cX5_houseIn 16 = .ok (.return_, 1) := by decide +kernel
abbrev cX5_way : ByteArray := prog_4_method_7_code
def yX5_way : MethodName := ⟨RX5, "way", "()LShellBeach$Way;"⟩
theorem dX5_way_0 : decode cX5_way 0 = .ok (.aload_n 0, 1) := by decide +kernel
theorem dX5_way_1 : decode cX5_way 1 = .ok (.getfield 61, 3) := by decide +kernel
theorem dX5_way_4 : decode cX5_way 4 = .ok (.ifCond .eq 11, 3) := by decide +kernel
theorem dX5_way_7 : decode cX5_way 7 = .ok (.aload_n 0, 1) := by decide +kernel
theorem dX5_way_8 : decode cX5_way 8 = .ok (.getfield 38, 3) := by decide +kernel
theorem dX5_way_11 : decode cX5_way 11 = .ok (.bipush 6, 2) := by decide +kernel
theorem dX5_way_13 : decode cX5_way 13 = .ok (.aaload, 1) := by decide +kernel
theorem dX5_way_14 : decode cX5_way 14 = .ok (.areturn, 1) := by decide +kernel
theorem dX5_way_15 : decode cX5_way 15 = .ok (.aload_n 0, 1) := by decide +kernel
theorem dX5_way_16 : decode cX5_way 16 = .ok (.invokevirtual 65, 3) := by decide +kernel
theorem dX5_way_19 : decode cX5_way 19 = .ok (.ifCond .ne 10, 3) := by decide +kernel
theorem dX5_way_22 : decode cX5_way 22 = .ok (.aload_n 0, 1) := by decide +kernel
theorem dX5_way_23 : decode cX5_way 23 = .ok (.getfield 38, 3) := by decide +kernel
theorem dX5_way_26 : decode cX5_way 26 = .ok (.iconst 2, 1) := by decide +kernel
theorem dX5_way_27 : decode cX5_way 27 = .ok (.aaload, 1) := by decide +kernel
theorem dX5_way_28 : decode cX5_way 28 = .ok (.areturn, 1) := by decide +kernel
theorem dX5_way_29 : decode cX5_way 29 = .ok (.aload_n 0, 1) := by decide +kernel
theorem dX5_way_30 : decode cX5_way 30 = .ok (.getfield 73, 3) := by decide +kernel
theorem dX5_way_33 : decode cX5_way 33 = .ok (.ifCond .eq 25, 3) := by decide +kernel
theorem dX5_way_36 : decode cX5_way 36 = .ok (.aload_n 0, 1) := by decide +kernel
theorem dX5_way_37 : decode cX5_way 37 = .ok (.getfield 38, 3) := by decide +kernel
theorem dX5_way_40 : decode cX5_way 40 = .ok (.aload_n 0, 1) := by decide +kernel
theorem dX5_way_41 : decode cX5_way 41 = .ok (.getfield 3, 3) := by decide +kernel
theorem dX5_way_44 : decode cX5_way 44 = .ok (.aload_n 0, 1) := by decide +kernel
theorem dX5_way_45 : decode cX5_way 45 = .ok (.invokevirtual 76, 3) := by decide +kernel
theorem dX5_way_48 : decode cX5_way 48 = .ok (.ifCond .eq 7, 3) := by decide +kernel
theorem dX5_way_51 : decode cX5_way 51 = .ok (.iconst 4, 1) := by decide +kernel
theorem dX5_way_52 : decode cX5_way 52 = .ok (.goto 4, 3) := by decide +kernel
theorem dX5_way_55 : decode cX5_way 55 = .ok (.iconst 3, 1) := by decide +kernel
theorem dX5_way_56 : decode cX5_way 56 = .ok (.aaload, 1) := by decide +kernel
theorem dX5_way_57 : decode cX5_way 57 = .ok (.areturn, 1) := by decide +kernel
theorem dX5_way_58 : decode cX5_way 58 = .ok (.aload_n 0, 1) := by decide +kernel
theorem dX5_way_59 : decode cX5_way 59 = .ok (.getfield 38, 3) := by decide +kernel
theorem dX5_way_62 : decode cX5_way 62 = .ok (.aload_n 0, 1) := by decide +kernel
theorem dX5_way_63 : decode cX5_way 63 = .ok (.getfield 80, 3) := by decide +kernel
theorem dX5_way_66 : decode cX5_way 66 = .ok (.ifCond .eq 7, 3) := by decide +kernel
theorem dX5_way_69 : decode cX5_way 69 = .ok (.iconst 5, 1) := by decide +kernel
theorem dX5_way_70 : decode cX5_way 70 = .ok (.goto 4, 3) := by decide +kernel
theorem dX5_way_73 : decode cX5_way 73 = .ok (.iconst 1, 1) := by decide +kernel
theorem dX5_way_74 : decode cX5_way 74 = .ok (.aaload, 1) := by decide +kernel
theorem dX5_way_75 : decode cX5_way 75 = .ok (.areturn, 1) := by decide +kernel
abbrev cX5_isHoused : ByteArray := prog_4_method_2_code
def yX5_isHoused : MethodName := ⟨RX5, "isHoused", "()Z"⟩
theorem dX5_isHoused_0 : decode cX5_isHoused 0 = .ok (.aload_n 0, 1) := by decide +kernel
theorem dX5_isHoused_1 : decode cX5_isHoused 1 = .ok (.getfield 52, 3) := by decide +kernel
theorem dX5_isHoused_4 : decode cX5_isHoused 4 = .ok (.ifnull 18, 3) := by decide +kernel
theorem dX5_isHoused_7 : decode cX5_isHoused 7 = .ok (.aload_n 0, 1) := by decide +kernel
theorem dX5_isHoused_8 : decode cX5_isHoused 8 = .ok (.getfield 52, 3) := by decide +kernel
theorem dX5_isHoused_11 : decode cX5_isHoused 11 = .ok (.getfield 56, 3) := by decide +kernel
theorem dX5_isHoused_14 : decode cX5_isHoused 14 = .ok (.iconst 1, 1) := by decide +kernel
theorem dX5_isHoused_15 : decode cX5_isHoused 15 = .ok (.if_icmp .ne 7, 3) := by decide +kernel
theorem dX5_isHoused_18 : decode cX5_isHoused 18 = .ok (.iconst 1, 1) := by decide +kernel
theorem dX5_isHoused_19 : decode cX5_isHoused 19 = .ok (.goto 4, 3) := by decide +kernel
theorem dX5_isHoused_22 : decode cX5_isHoused 22 = .ok (.iconst 0, 1) := by decide +kernel
theorem dX5_isHoused_23 : decode cX5_isHoused 23 = .ok (.ireturn, 1) := by decide +kernel
abbrev cX5_isWaiting : ByteArray := prog_4_method_5_code
def yX5_isWaiting : MethodName := ⟨RX5, "isWaiting", "()Z"⟩
theorem dX5_isWaiting_0 : decode cX5_isWaiting 0 = .ok (.aload_n 0, 1) := by decide +kernel
theorem dX5_isWaiting_1 : decode cX5_isWaiting 1 = .ok (.invokevirtual 65, 3) := by decide +kernel
theorem dX5_isWaiting_4 : decode cX5_isWaiting 4 = .ok (.ifCond .eq 14, 3) := by decide +kernel
theorem dX5_isWaiting_7 : decode cX5_isWaiting 7 = .ok (.aload_n 0, 1) := by decide +kernel
theorem dX5_isWaiting_8 : decode cX5_isWaiting 8 = .ok (.getfield 73, 3) := by decide +kernel
theorem dX5_isWaiting_11 : decode cX5_isWaiting 11 = .ok (.ifCond .eq 7, 3) := by decide +kernel
theorem dX5_isWaiting_14 : decode cX5_isWaiting 14 = .ok (.iconst 1, 1) := by decide +kernel
theorem dX5_isWaiting_15 : decode cX5_isWaiting 15 = .ok (.goto 4, 3) := by decide +kernel
theorem dX5_isWaiting_18 : decode cX5_isWaiting 18 = .ok (.iconst 0, 1) := by decide +kernel
theorem dX5_isWaiting_19 : decode cX5_isWaiting 19 = .ok (.ireturn, 1) := by decide +kernel
abbrev cX5_isAhead : ByteArray := prog_4_method_6_code
def yX5_isAhead : MethodName := ⟨RX5, "isAhead", "(LShellBeach$Crab;)Z"⟩
theorem dX5_isAhead_0 : decode cX5_isAhead 0 = .ok (.aload_n 0, 1) := by decide +kernel
theorem dX5_isAhead_1 : decode cX5_isAhead 1 = .ok (.getfield 49, 3) := by decide +kernel
theorem dX5_isAhead_4 : decode cX5_isAhead 4 = .ok (.aload_n 1, 1) := by decide +kernel
theorem dX5_isAhead_5 : decode cX5_isAhead 5 = .ok (.getfield 49, 3) := by decide +kernel
theorem dX5_isAhead_8 : decode cX5_isAhead 8 = .ok (.if_icmp .gt 25, 3) := by decide +kernel
theorem dX5_isAhead_11 : decode cX5_isAhead 11 = .ok (.aload_n 0, 1) := by decide +kernel
theorem dX5_isAhead_12 : decode cX5_isAhead 12 = .ok (.getfield 49, 3) := by decide +kernel
theorem dX5_isAhead_15 : decode cX5_isAhead 15 = .ok (.aload_n 1, 1) := by decide +kernel
theorem dX5_isAhead_16 : decode cX5_isAhead 16 = .ok (.getfield 49, 3) := by decide +kernel
theorem dX5_isAhead_19 : decode cX5_isAhead 19 = .ok (.if_icmp .ne 18, 3) := by decide +kernel
theorem dX5_isAhead_22 : decode cX5_isAhead 22 = .ok (.aload_n 0, 1) := by decide +kernel
theorem dX5_isAhead_23 : decode cX5_isAhead 23 = .ok (.getfield 42, 3) := by decide +kernel
theorem dX5_isAhead_26 : decode cX5_isAhead 26 = .ok (.aload_n 1, 1) := by decide +kernel
theorem dX5_isAhead_27 : decode cX5_isAhead 27 = .ok (.getfield 42, 3) := by decide +kernel
theorem dX5_isAhead_30 : decode cX5_isAhead 30 = .ok (.if_icmp .ge 7, 3) := by decide +kernel
theorem dX5_isAhead_33 : decode cX5_isAhead 33 = .ok (.iconst 1, 1) := by decide +kernel
theorem dX5_isAhead_34 : decode cX5_isAhead 34 = .ok (.goto 4, 3) := by decide +kernel
theorem dX5_isAhead_37 : decode cX5_isAhead 37 = .ok (.iconst 0, 1) := by decide +kernel
theorem dX5_isAhead_38 : decode cX5_isAhead 38 = .ok (.ireturn, 1) := by decide +kernel
abbrev cX5_fit : ByteArray := prog_4_method_4_code
def yX5_fit : MethodName := ⟨RX5, "fit", "()I"⟩
theorem dX5_fit_0 : decode cX5_fit 0 = .ok (.aload_n 0, 1) := by decide +kernel
theorem dX5_fit_1 : decode cX5_fit 1 = .ok (.getfield 61, 3) := by decide +kernel
theorem dX5_fit_4 : decode cX5_fit 4 = .ok (.ifCond .eq 8, 3) := by decide +kernel
theorem dX5_fit_7 : decode cX5_fit 7 = .ok (.bipush (-100), 2) := by decide +kernel
theorem dX5_fit_9 : decode cX5_fit 9 = .ok (.goto 26, 3) := by decide +kernel
theorem dX5_fit_12 : decode cX5_fit 12 = .ok (.aload_n 0, 1) := by decide +kernel
theorem dX5_fit_13 : decode cX5_fit 13 = .ok (.invokevirtual 65, 3) := by decide +kernel
theorem dX5_fit_16 : decode cX5_fit 16 = .ok (.ifCond .eq 17, 3) := by decide +kernel
theorem dX5_fit_19 : decode cX5_fit 19 = .ok (.aload_n 0, 1) := by decide +kernel
theorem dX5_fit_20 : decode cX5_fit 20 = .ok (.getfield 52, 3) := by decide +kernel
theorem dX5_fit_23 : decode cX5_fit 23 = .ok (.aload_n 0, 1) := by decide +kernel
theorem dX5_fit_24 : decode cX5_fit 24 = .ok (.getfield 49, 3) := by decide +kernel
theorem dX5_fit_27 : decode cX5_fit 27 = .ok (.invokevirtual 69, 3) := by decide +kernel
theorem dX5_fit_30 : decode cX5_fit 30 = .ok (.goto 5, 3) := by decide +kernel
theorem dX5_fit_33 : decode cX5_fit 33 = .ok (.bipush (-50), 2) := by decide +kernel
theorem dX5_fit_35 : decode cX5_fit 35 = .ok (.ireturn, 1) := by decide +kernel
abbrev cX5_lose : ByteArray := prog_4_method_9_code
def yX5_lose : MethodName := ⟨RX5, "lose", "()V"⟩
theorem dX5_lose_0 : decode cX5_lose 0 = .ok (.aload_n 0, 1) := by decide +kernel
theorem dX5_lose_1 : decode cX5_lose 1 = .ok (.aconst_null, 1) := by decide +kernel
theorem dX5_lose_2 : decode cX5_lose 2 = .ok (.putfield 52, 3) := by decide +kernel
theorem dX5_lose_5 : decode cX5_lose 5 = .ok (.aload_n 0, 1) := by decide +kernel
theorem dX5_lose_6 : decode cX5_lose 6 = .ok (.iconst 0, 1) := by decide +kernel
theorem dX5_lose_7 : decode cX5_lose 7 = .ok (.putfield 83, 3) := by decide +kernel
theorem dX5_lose_10 : decode cX5_lose 10 = .ok (.return_, 1) := by decide +kernel
abbrev cX5_isBare : ByteArray := prog_4_method_3_code
def yX5_isBare : MethodName := ⟨RX5, "isBare", "()Z"⟩
theorem dX5_isBare_0 : decode cX5_isBare 0 = .ok (.aload_n 0, 1) := by decide +kernel
theorem dX5_isBare_1 : decode cX5_isBare 1 = .ok (.getfield 61, 3) := by decide +kernel
theorem dX5_isBare_4 : decode cX5_isBare 4 = .ok (.ifCond .ne 14, 3) := by decide +kernel
theorem dX5_isBare_7 : decode cX5_isBare 7 = .ok (.aload_n 0, 1) := by decide +kernel
theorem dX5_isBare_8 : decode cX5_isBare 8 = .ok (.invokevirtual 65, 3) := by decide +kernel
theorem dX5_isBare_11 : decode cX5_isBare 11 = .ok (.ifCond .ne 7, 3) := by decide +kernel
theorem dX5_isBare_14 : decode cX5_isBare 14 = .ok (.iconst 1, 1) := by decide +kernel
theorem dX5_isBare_15 : decode cX5_isBare 15 = .ok (.goto 4, 3) := by decide +kernel
theorem dX5_isBare_18 : decode cX5_isBare 18 = .ok (.iconst 0, 1) := by decide +kernel
theorem dX5_isBare_19 : decode cX5_isBare 19 = .ok (.ireturn, 1) := by decide +kernel
abbrev cX5_stepOn : ByteArray := prog_4_method_11_code
def yX5_stepOn : MethodName := ⟨RX5, "stepOn", "()V"⟩
theorem dX5_stepOn_0 : decode cX5_stepOn 0 = .ok (.aload_n 0, 1) := by decide +kernel
theorem dX5_stepOn_1 : decode cX5_stepOn 1 = .ok (.getfield 52, 3) := by decide +kernel
theorem dX5_stepOn_4 : decode cX5_stepOn 4 = .ok (.ifnonnull 18, 3) := by decide +kernel
theorem dX5_stepOn_7 : decode cX5_stepOn 7 = .ok (.aload_n 0, 1) := by decide +kernel
theorem dX5_stepOn_8 : decode cX5_stepOn 8 = .ok (.invokevirtual 97, 3) := by decide +kernel
theorem dX5_stepOn_11 : decode cX5_stepOn 11 = .ok (.astore_n 1, 1) := by decide +kernel
theorem dX5_stepOn_12 : decode cX5_stepOn 12 = .ok (.aload_n 1, 1) := by decide +kernel
theorem dX5_stepOn_13 : decode cX5_stepOn 13 = .ok (.ifnull 8, 3) := by decide +kernel
theorem dX5_stepOn_16 : decode cX5_stepOn 16 = .ok (.aload_n 0, 1) := by decide +kernel
theorem dX5_stepOn_17 : decode cX5_stepOn 17 = .ok (.aload_n 1, 1) := by decide +kernel
theorem dX5_stepOn_18 : decode cX5_stepOn 18 = .ok (.invokevirtual 101, 3) := by decide +kernel
theorem dX5_stepOn_21 : decode cX5_stepOn 21 = .ok (.return_, 1) := by decide +kernel
theorem dX5_stepOn_22 : decode cX5_stepOn 22 = .ok (.aload_n 0, 1) := by decide +kernel
theorem dX5_stepOn_23 : decode cX5_stepOn 23 = .ok (.dup, 1) := by decide +kernel
theorem dX5_stepOn_24 : decode cX5_stepOn 24 = .ok (.getfield 83, 3) := by decide +kernel
theorem dX5_stepOn_27 : decode cX5_stepOn 27 = .ok (.iconst 1, 1) := by decide +kernel
theorem dX5_stepOn_28 : decode cX5_stepOn 28 = .ok (.isub, 1) := by decide +kernel
theorem dX5_stepOn_29 : decode cX5_stepOn 29 = .ok (.putfield 83, 3) := by decide +kernel
theorem dX5_stepOn_32 : decode cX5_stepOn 32 = .ok (.aload_n 0, 1) := by decide +kernel
theorem dX5_stepOn_33 : decode cX5_stepOn 33 = .ok (.getfield 83, 3) := by decide +kernel
theorem dX5_stepOn_36 : decode cX5_stepOn 36 = .ok (.ifCond .ne 11, 3) := by decide +kernel
theorem dX5_stepOn_39 : decode cX5_stepOn 39 = .ok (.aload_n 0, 1) := by decide +kernel
theorem dX5_stepOn_40 : decode cX5_stepOn 40 = .ok (.aload_n 0, 1) := by decide +kernel
theorem dX5_stepOn_41 : decode cX5_stepOn 41 = .ok (.getfield 52, 3) := by decide +kernel
theorem dX5_stepOn_44 : decode cX5_stepOn 44 = .ok (.invokevirtual 93, 3) := by decide +kernel
theorem dX5_stepOn_47 : decode cX5_stepOn 47 = .ok (.return_, 1) := by decide +kernel
abbrev cX5_lying : ByteArray := prog_4_method_12_code
def yX5_lying : MethodName := ⟨RX5, "lying", "()LShellBeach$Shell;"⟩
theorem dX5_lying_0 : decode cX5_lying 0 = .ok (.aconst_null, 1) := by decide +kernel
theorem dX5_lying_1 : decode cX5_lying 1 = .ok (.astore_n 1, 1) := by decide +kernel
theorem dX5_lying_2 : decode cX5_lying 2 = .ok (.iconst 0, 1) := by decide +kernel
theorem dX5_lying_3 : decode cX5_lying 3 = .ok (.istore_n 2, 1) := by decide +kernel
theorem dX5_lying_4 : decode cX5_lying 4 = .ok (.iload_n 2, 1) := by decide +kernel
theorem dX5_lying_5 : decode cX5_lying 5 = .ok (.aload_n 0, 1) := by decide +kernel
theorem dX5_lying_6 : decode cX5_lying 6 = .ok (.getfield 3, 3) := by decide +kernel
theorem dX5_lying_9 : decode cX5_lying 9 = .ok (.getfield 104, 3) := by decide +kernel
theorem dX5_lying_12 : decode cX5_lying 12 = .ok (.invokevirtual 108, 3) := by decide +kernel
theorem dX5_lying_15 : decode cX5_lying 15 = .ok (.if_icmp .ge 84, 3) := by decide +kernel
theorem dX5_lying_18 : decode cX5_lying 18 = .ok (.aload_n 0, 1) := by decide +kernel
theorem dX5_lying_19 : decode cX5_lying 19 = .ok (.getfield 3, 3) := by decide +kernel
theorem dX5_lying_22 : decode cX5_lying 22 = .ok (.getfield 104, 3) := by decide +kernel
theorem dX5_lying_25 : decode cX5_lying 25 = .ok (.iload_n 2, 1) := by decide +kernel
theorem dX5_lying_26 : decode cX5_lying 26 = .ok (.invokevirtual 113, 3) := by decide +kernel
theorem dX5_lying_29 : decode cX5_lying 29 = .ok (.checkcast 57, 3) := by decide +kernel
theorem dX5_lying_32 : decode cX5_lying 32 = .ok (.aload_n 0, 1) := by decide +kernel
theorem dX5_lying_33 : decode cX5_lying 33 = .ok (.getfield 46, 3) := by decide +kernel
theorem dX5_lying_36 : decode cX5_lying 36 = .ok (.invokevirtual 117, 3) := by decide +kernel
theorem dX5_lying_39 : decode cX5_lying 39 = .ok (.ifCond .eq 54, 3) := by decide +kernel
theorem dX5_lying_42 : decode cX5_lying 42 = .ok (.aload_n 1, 1) := by decide +kernel
theorem dX5_lying_43 : decode cX5_lying 43 = .ok (.ifnull 35, 3) := by decide +kernel
theorem dX5_lying_46 : decode cX5_lying 46 = .ok (.aload_n 0, 1) := by decide +kernel
theorem dX5_lying_47 : decode cX5_lying 47 = .ok (.getfield 3, 3) := by decide +kernel
theorem dX5_lying_50 : decode cX5_lying 50 = .ok (.getfield 104, 3) := by decide +kernel
theorem dX5_lying_53 : decode cX5_lying 53 = .ok (.iload_n 2, 1) := by decide +kernel
theorem dX5_lying_54 : decode cX5_lying 54 = .ok (.invokevirtual 113, 3) := by decide +kernel
theorem dX5_lying_57 : decode cX5_lying 57 = .ok (.checkcast 57, 3) := by decide +kernel
theorem dX5_lying_60 : decode cX5_lying 60 = .ok (.aload_n 0, 1) := by decide +kernel
theorem dX5_lying_61 : decode cX5_lying 61 = .ok (.getfield 49, 3) := by decide +kernel
theorem dX5_lying_64 : decode cX5_lying 64 = .ok (.invokevirtual 69, 3) := by decide +kernel
theorem dX5_lying_67 : decode cX5_lying 67 = .ok (.aload_n 1, 1) := by decide +kernel
theorem dX5_lying_68 : decode cX5_lying 68 = .ok (.aload_n 0, 1) := by decide +kernel
theorem dX5_lying_69 : decode cX5_lying 69 = .ok (.getfield 49, 3) := by decide +kernel
theorem dX5_lying_72 : decode cX5_lying 72 = .ok (.invokevirtual 69, 3) := by decide +kernel
theorem dX5_lying_75 : decode cX5_lying 75 = .ok (.if_icmp .le 18, 3) := by decide +kernel
theorem dX5_lying_78 : decode cX5_lying 78 = .ok (.aload_n 0, 1) := by decide +kernel
theorem dX5_lying_79 : decode cX5_lying 79 = .ok (.getfield 3, 3) := by decide +kernel
theorem dX5_lying_82 : decode cX5_lying 82 = .ok (.getfield 104, 3) := by decide +kernel
theorem dX5_lying_85 : decode cX5_lying 85 = .ok (.iload_n 2, 1) := by decide +kernel
theorem dX5_lying_86 : decode cX5_lying 86 = .ok (.invokevirtual 113, 3) := by decide +kernel
theorem dX5_lying_89 : decode cX5_lying 89 = .ok (.checkcast 57, 3) := by decide +kernel
theorem dX5_lying_92 : decode cX5_lying 92 = .ok (.astore_n 1, 1) := by decide +kernel
theorem dX5_lying_93 : decode cX5_lying 93 = .ok (.iinc 2 1, 3) := by decide +kernel
theorem dX5_lying_96 : decode cX5_lying 96 = .ok (.goto (-92), 3) := by decide +kernel
theorem dX5_lying_99 : decode cX5_lying 99 = .ok (.aload_n 1, 1) := by decide +kernel
theorem dX5_lying_100 : decode cX5_lying 100 = .ok (.areturn, 1) := by decide +kernel
abbrev cX5_goTo : ByteArray := prog_4_method_10_code
def yX5_goTo : MethodName := ⟨RX5, "goTo", "(LShellBeach$Shell;)V"⟩
theorem dX5_goTo_0 : decode cX5_goTo 0 = .ok (.aload_n 0, 1) := by decide +kernel
theorem dX5_goTo_1 : decode cX5_goTo 1 = .ok (.getfield 3, 3) := by decide +kernel
theorem dX5_goTo_4 : decode cX5_goTo 4 = .ok (.getfield 90, 3) := by decide +kernel
theorem dX5_goTo_7 : decode cX5_goTo 7 = .ok (.ifCond .ne 9, 3) := by decide +kernel
theorem dX5_goTo_10 : decode cX5_goTo 10 = .ok (.aload_n 0, 1) := by decide +kernel
theorem dX5_goTo_11 : decode cX5_goTo 11 = .ok (.aload_n 1, 1) := by decide +kernel
theorem dX5_goTo_12 : decode cX5_goTo 12 = .ok (.invokevirtual 93, 3) := by decide +kernel
theorem dX5_goTo_15 : decode cX5_goTo 15 = .ok (.return_, 1) := by decide +kernel
theorem dX5_goTo_16 : decode cX5_goTo 16 = .ok (.aload_n 0, 1) := by decide +kernel
theorem dX5_goTo_17 : decode cX5_goTo 17 = .ok (.aload_n 1, 1) := by decide +kernel
theorem dX5_goTo_18 : decode cX5_goTo 18 = .ok (.putfield 52, 3) := by decide +kernel
theorem dX5_goTo_21 : decode cX5_goTo 21 = .ok (.aload_n 0, 1) := by decide +kernel
theorem dX5_goTo_22 : decode cX5_goTo 22 = .ok (.aload_n 0, 1) := by decide +kernel
theorem dX5_goTo_23 : decode cX5_goTo 23 = .ok (.getfield 3, 3) := by decide +kernel
theorem dX5_goTo_26 : decode cX5_goTo 26 = .ok (.getfield 90, 3) := by decide +kernel
theorem dX5_goTo_29 : decode cX5_goTo 29 = .ok (.putfield 83, 3) := by decide +kernel
theorem dX5_goTo_32 : decode cX5_goTo 32 = .ok (.aload_n 1, 1) := by decide +kernel
theorem dX5_goTo_33 : decode cX5_goTo 33 = .ok (.iconst 2, 1) := by decide +kernel
theorem dX5_goTo_34 : decode cX5_goTo 34 = .ok (.aload_n 0, 1) := by decide +kernel
theorem dX5_goTo_35 : decode cX5_goTo 35 = .ok (.invokevirtual 86, 3) := by decide +kernel
theorem dX5_goTo_38 : decode cX5_goTo 38 = .ok (.return_, 1) := by decide +kernel
abbrev cX5_act : ByteArray := prog_4_method_15_code
def yX5_act : MethodName := ⟨RX5, "act", "()V"⟩
theorem dX5_act_0 : decode cX5_act 0 = .ok (.aload_n 0, 1) := by decide +kernel
theorem dX5_act_1 : decode cX5_act 1 = .ok (.invokevirtual 97, 3) := by decide +kernel
theorem dX5_act_4 : decode cX5_act 4 = .ok (.astore_n 1, 1) := by decide +kernel
theorem dX5_act_5 : decode cX5_act 5 = .ok (.aload_n 1, 1) := by decide +kernel
theorem dX5_act_6 : decode cX5_act 6 = .ok (.ifnull 51, 3) := by decide +kernel
theorem dX5_act_9 : decode cX5_act 9 = .ok (.aload_n 1, 1) := by decide +kernel
theorem dX5_act_10 : decode cX5_act 10 = .ok (.aload_n 0, 1) := by decide +kernel
theorem dX5_act_11 : decode cX5_act 11 = .ok (.getfield 49, 3) := by decide +kernel
theorem dX5_act_14 : decode cX5_act 14 = .ok (.invokevirtual 69, 3) := by decide +kernel
theorem dX5_act_17 : decode cX5_act 17 = .ok (.aload_n 0, 1) := by decide +kernel
theorem dX5_act_18 : decode cX5_act 18 = .ok (.invokevirtual 121, 3) := by decide +kernel
theorem dX5_act_21 : decode cX5_act 21 = .ok (.if_icmp .le 36, 3) := by decide +kernel
theorem dX5_act_24 : decode cX5_act 24 = .ok (.aload_n 0, 1) := by decide +kernel
theorem dX5_act_25 : decode cX5_act 25 = .ok (.iconst 0, 1) := by decide +kernel
theorem dX5_act_26 : decode cX5_act 26 = .ok (.aload_n 1, 1) := by decide +kernel
theorem dX5_act_27 : decode cX5_act 27 = .ok (.aload_n 0, 1) := by decide +kernel
theorem dX5_act_28 : decode cX5_act 28 = .ok (.getfield 49, 3) := by decide +kernel
theorem dX5_act_31 : decode cX5_act 31 = .ok (.invokevirtual 69, 3) := by decide +kernel
theorem dX5_act_34 : decode cX5_act 34 = .ok (.iconst 0, 1) := by decide +kernel
theorem dX5_act_35 : decode cX5_act 35 = .ok (.iconst 0, 1) := by decide +kernel
theorem dX5_act_36 : decode cX5_act 36 = .ok (.invokevirtual 136, 3) := by decide +kernel
theorem dX5_act_39 : decode cX5_act 39 = .ok (.ifCond .eq 18, 3) := by decide +kernel
theorem dX5_act_42 : decode cX5_act 42 = .ok (.aload_n 0, 1) := by decide +kernel
theorem dX5_act_43 : decode cX5_act 43 = .ok (.getfield 52, 3) := by decide +kernel
theorem dX5_act_46 : decode cX5_act 46 = .ok (.iconst 0, 1) := by decide +kernel
theorem dX5_act_47 : decode cX5_act 47 = .ok (.aconst_null, 1) := by decide +kernel
theorem dX5_act_48 : decode cX5_act 48 = .ok (.invokevirtual 86, 3) := by decide +kernel
theorem dX5_act_51 : decode cX5_act 51 = .ok (.aload_n 0, 1) := by decide +kernel
theorem dX5_act_52 : decode cX5_act 52 = .ok (.aload_n 1, 1) := by decide +kernel
theorem dX5_act_53 : decode cX5_act 53 = .ok (.invokevirtual 101, 3) := by decide +kernel
theorem dX5_act_56 : decode cX5_act 56 = .ok (.return_, 1) := by decide +kernel
theorem dX5_act_57 : decode cX5_act 57 = .ok (.aload_n 0, 1) := by decide +kernel
theorem dX5_act_58 : decode cX5_act 58 = .ok (.invokevirtual 139, 3) := by decide +kernel
theorem dX5_act_61 : decode cX5_act 61 = .ok (.astore_n 2, 1) := by decide +kernel
theorem dX5_act_62 : decode cX5_act 62 = .ok (.aload_n 2, 1) := by decide +kernel
theorem dX5_act_63 : decode cX5_act 63 = .ok (.ifnull 48, 3) := by decide +kernel
theorem dX5_act_66 : decode cX5_act 66 = .ok (.aload_n 0, 1) := by decide +kernel
theorem dX5_act_67 : decode cX5_act 67 = .ok (.iconst 1, 1) := by decide +kernel
theorem dX5_act_68 : decode cX5_act 68 = .ok (.aload_n 2, 1) := by decide +kernel
theorem dX5_act_69 : decode cX5_act 69 = .ok (.getfield 52, 3) := by decide +kernel
theorem dX5_act_72 : decode cX5_act 72 = .ok (.aload_n 0, 1) := by decide +kernel
theorem dX5_act_73 : decode cX5_act 73 = .ok (.getfield 49, 3) := by decide +kernel
theorem dX5_act_76 : decode cX5_act 76 = .ok (.invokevirtual 69, 3) := by decide +kernel
theorem dX5_act_79 : decode cX5_act 79 = .ok (.aload_n 2, 1) := by decide +kernel
theorem dX5_act_80 : decode cX5_act 80 = .ok (.getfield 49, 3) := by decide +kernel
theorem dX5_act_83 : decode cX5_act 83 = .ok (.aload_n 0, 1) := by decide +kernel
theorem dX5_act_84 : decode cX5_act 84 = .ok (.getfield 143, 3) := by decide +kernel
theorem dX5_act_87 : decode cX5_act 87 = .ok (.aload_n 2, 1) := by decide +kernel
theorem dX5_act_88 : decode cX5_act 88 = .ok (.if_acmp .ne 10, 3) := by decide +kernel
theorem dX5_act_91 : decode cX5_act 91 = .ok (.aload_n 0, 1) := by decide +kernel
theorem dX5_act_92 : decode cX5_act 92 = .ok (.getfield 147, 3) := by decide +kernel
theorem dX5_act_95 : decode cX5_act 95 = .ok (.goto 4, 3) := by decide +kernel
theorem dX5_act_98 : decode cX5_act 98 = .ok (.iconst 0, 1) := by decide +kernel
theorem dX5_act_99 : decode cX5_act 99 = .ok (.invokevirtual 136, 3) := by decide +kernel
theorem dX5_act_102 : decode cX5_act 102 = .ok (.ifCond .eq 9, 3) := by decide +kernel
theorem dX5_act_105 : decode cX5_act 105 = .ok (.aload_n 0, 1) := by decide +kernel
theorem dX5_act_106 : decode cX5_act 106 = .ok (.aload_n 2, 1) := by decide +kernel
theorem dX5_act_107 : decode cX5_act 107 = .ok (.invokevirtual 150, 3) := by decide +kernel
theorem dX5_act_110 : decode cX5_act 110 = .ok (.return_, 1) := by decide +kernel
theorem dX5_act_111 : decode cX5_act 111 = .ok (.aload_n 0, 1) := by decide +kernel
theorem dX5_act_112 : decode cX5_act 112 = .ok (.aload_n 1, 1) := by decide +kernel
theorem dX5_act_113 : decode cX5_act 113 = .ok (.ifnull 25, 3) := by decide +kernel
theorem dX5_act_116 : decode cX5_act 116 = .ok (.aload_n 0, 1) := by decide +kernel
theorem dX5_act_117 : decode cX5_act 117 = .ok (.iconst 3, 1) := by decide +kernel
theorem dX5_act_118 : decode cX5_act 118 = .ok (.aload_n 1, 1) := by decide +kernel
theorem dX5_act_119 : decode cX5_act 119 = .ok (.aload_n 0, 1) := by decide +kernel
theorem dX5_act_120 : decode cX5_act 120 = .ok (.getfield 49, 3) := by decide +kernel
theorem dX5_act_123 : decode cX5_act 123 = .ok (.invokevirtual 69, 3) := by decide +kernel
theorem dX5_act_126 : decode cX5_act 126 = .ok (.iconst 0, 1) := by decide +kernel
theorem dX5_act_127 : decode cX5_act 127 = .ok (.iconst 0, 1) := by decide +kernel
theorem dX5_act_128 : decode cX5_act 128 = .ok (.invokevirtual 136, 3) := by decide +kernel
theorem dX5_act_131 : decode cX5_act 131 = .ok (.ifCond .eq 7, 3) := by decide +kernel
theorem dX5_act_134 : decode cX5_act 134 = .ok (.iconst 1, 1) := by decide +kernel
theorem dX5_act_135 : decode cX5_act 135 = .ok (.goto 4, 3) := by decide +kernel
theorem dX5_act_138 : decode cX5_act 138 = .ok (.iconst 0, 1) := by decide +kernel
theorem dX5_act_139 : decode cX5_act 139 = .ok (.putfield 73, 3) := by decide +kernel
theorem dX5_act_142 : decode cX5_act 142 = .ok (.return_, 1) := by decide +kernel
abbrev cX5_holds : ByteArray := prog_4_method_14_code
def yX5_holds : MethodName := ⟨RX5, "holds", "(IIII)Z"⟩
theorem dX5_holds_0 : decode cX5_holds 0 = .ok (.aload_n 0, 1) := by decide +kernel
theorem dX5_holds_1 : decode cX5_holds 1 = .ok (.getfield 126, 3) := by decide +kernel
theorem dX5_holds_4 : decode cX5_holds 4 = .ok (.ifnull 36, 3) := by decide +kernel
theorem dX5_holds_7 : decode cX5_holds 7 = .ok (.aload_n 0, 1) := by decide +kernel
theorem dX5_holds_8 : decode cX5_holds 8 = .ok (.getfield 126, 3) := by decide +kernel
theorem dX5_holds_11 : decode cX5_holds 11 = .ok (.iload_n 1, 1) := by decide +kernel
theorem dX5_holds_12 : decode cX5_holds 12 = .ok (.aload_n 0, 1) := by decide +kernel
theorem dX5_holds_13 : decode cX5_holds 13 = .ok (.invokevirtual 121, 3) := by decide +kernel
theorem dX5_holds_16 : decode cX5_holds 16 = .ok (.bipush 50, 2) := by decide +kernel
theorem dX5_holds_18 : decode cX5_holds 18 = .ok (.iadd, 1) := by decide +kernel
theorem dX5_holds_19 : decode cX5_holds 19 = .ok (.iload_n 2, 1) := by decide +kernel
theorem dX5_holds_20 : decode cX5_holds 20 = .ok (.bipush 50, 2) := by decide +kernel
theorem dX5_holds_22 : decode cX5_holds 22 = .ok (.iadd, 1) := by decide +kernel
theorem dX5_holds_23 : decode cX5_holds 23 = .ok (.aload_n 0, 1) := by decide +kernel
theorem dX5_holds_24 : decode cX5_holds 24 = .ok (.getfield 49, 3) := by decide +kernel
theorem dX5_holds_27 : decode cX5_holds 27 = .ok (.iload_n 3, 1) := by decide +kernel
theorem dX5_holds_28 : decode cX5_holds 28 = .ok (.iload 4, 2) := by decide +kernel
theorem dX5_holds_30 : decode cX5_holds 30 = .ok (.invokevirtual 130, 3) := by decide +kernel
theorem dX5_holds_33 : decode cX5_holds 33 = .ok (.ifCond .eq 7, 3) := by decide +kernel
theorem dX5_holds_36 : decode cX5_holds 36 = .ok (.iconst 1, 1) := by decide +kernel
theorem dX5_holds_37 : decode cX5_holds 37 = .ok (.goto 4, 3) := by decide +kernel
theorem dX5_holds_40 : decode cX5_holds 40 = .ok (.iconst 0, 1) := by decide +kernel
theorem dX5_holds_41 : decode cX5_holds 41 = .ok (.ireturn, 1) := by decide +kernel
abbrev cX5_other : ByteArray := prog_4_method_13_code
def yX5_other : MethodName := ⟨RX5, "other", "()LShellBeach$Crab;"⟩
theorem dX5_other_0 : decode cX5_other 0 = .ok (.aconst_null, 1) := by decide +kernel
theorem dX5_other_1 : decode cX5_other 1 = .ok (.astore_n 1, 1) := by decide +kernel
theorem dX5_other_2 : decode cX5_other 2 = .ok (.aload_n 0, 1) := by decide +kernel
theorem dX5_other_3 : decode cX5_other 3 = .ok (.invokevirtual 121, 3) := by decide +kernel
theorem dX5_other_6 : decode cX5_other 6 = .ok (.istore_n 2, 1) := by decide +kernel
theorem dX5_other_7 : decode cX5_other 7 = .ok (.iconst 0, 1) := by decide +kernel
theorem dX5_other_8 : decode cX5_other 8 = .ok (.istore_n 3, 1) := by decide +kernel
theorem dX5_other_9 : decode cX5_other 9 = .ok (.iload_n 3, 1) := by decide +kernel
theorem dX5_other_10 : decode cX5_other 10 = .ok (.aload_n 0, 1) := by decide +kernel
theorem dX5_other_11 : decode cX5_other 11 = .ok (.getfield 3, 3) := by decide +kernel
theorem dX5_other_14 : decode cX5_other 14 = .ok (.getfield 123, 3) := by decide +kernel
theorem dX5_other_17 : decode cX5_other 17 = .ok (.invokevirtual 108, 3) := by decide +kernel
theorem dX5_other_20 : decode cX5_other 20 = .ok (.if_icmp .ge 86, 3) := by decide +kernel
theorem dX5_other_23 : decode cX5_other 23 = .ok (.aload_n 0, 1) := by decide +kernel
theorem dX5_other_24 : decode cX5_other 24 = .ok (.getfield 3, 3) := by decide +kernel
theorem dX5_other_27 : decode cX5_other 27 = .ok (.getfield 123, 3) := by decide +kernel
theorem dX5_other_30 : decode cX5_other 30 = .ok (.iload_n 3, 1) := by decide +kernel
theorem dX5_other_31 : decode cX5_other 31 = .ok (.invokevirtual 113, 3) := by decide +kernel
theorem dX5_other_34 : decode cX5_other 34 = .ok (.checkcast 4, 3) := by decide +kernel
theorem dX5_other_37 : decode cX5_other 37 = .ok (.astore 4, 2) := by decide +kernel
theorem dX5_other_39 : decode cX5_other 39 = .ok (.aload 4, 2) := by decide +kernel
theorem dX5_other_41 : decode cX5_other 41 = .ok (.aload_n 0, 1) := by decide +kernel
theorem dX5_other_42 : decode cX5_other 42 = .ok (.if_acmp .eq 58, 3) := by decide +kernel
theorem dX5_other_45 : decode cX5_other 45 = .ok (.aload 4, 2) := by decide +kernel
theorem dX5_other_47 : decode cX5_other 47 = .ok (.invokevirtual 65, 3) := by decide +kernel
theorem dX5_other_50 : decode cX5_other 50 = .ok (.ifCond .eq 50, 3) := by decide +kernel
theorem dX5_other_53 : decode cX5_other 53 = .ok (.aload 4, 2) := by decide +kernel
theorem dX5_other_55 : decode cX5_other 55 = .ok (.getfield 46, 3) := by decide +kernel
theorem dX5_other_58 : decode cX5_other 58 = .ok (.aload_n 0, 1) := by decide +kernel
theorem dX5_other_59 : decode cX5_other 59 = .ok (.getfield 46, 3) := by decide +kernel
theorem dX5_other_62 : decode cX5_other 62 = .ok (.if_icmp .ne 38, 3) := by decide +kernel
theorem dX5_other_65 : decode cX5_other 65 = .ok (.aload 4, 2) := by decide +kernel
theorem dX5_other_67 : decode cX5_other 67 = .ok (.getfield 52, 3) := by decide +kernel
theorem dX5_other_70 : decode cX5_other 70 = .ok (.aload_n 0, 1) := by decide +kernel
theorem dX5_other_71 : decode cX5_other 71 = .ok (.getfield 49, 3) := by decide +kernel
theorem dX5_other_74 : decode cX5_other 74 = .ok (.invokevirtual 69, 3) := by decide +kernel
theorem dX5_other_77 : decode cX5_other 77 = .ok (.iload_n 2, 1) := by decide +kernel
theorem dX5_other_78 : decode cX5_other 78 = .ok (.if_icmp .gt 6, 3) := by decide +kernel
theorem dX5_other_81 : decode cX5_other 81 = .ok (.goto 19, 3) := by decide +kernel
theorem dX5_other_84 : decode cX5_other 84 = .ok (.aload 4, 2) := by decide +kernel
theorem dX5_other_86 : decode cX5_other 86 = .ok (.getfield 52, 3) := by decide +kernel
theorem dX5_other_89 : decode cX5_other 89 = .ok (.aload_n 0, 1) := by decide +kernel
theorem dX5_other_90 : decode cX5_other 90 = .ok (.getfield 49, 3) := by decide +kernel
theorem dX5_other_93 : decode cX5_other 93 = .ok (.invokevirtual 69, 3) := by decide +kernel
theorem dX5_other_96 : decode cX5_other 96 = .ok (.istore_n 2, 1) := by decide +kernel
theorem dX5_other_97 : decode cX5_other 97 = .ok (.aload 4, 2) := by decide +kernel
theorem dX5_other_99 : decode cX5_other 99 = .ok (.astore_n 1, 1) := by decide +kernel
theorem dX5_other_100 : decode cX5_other 100 = .ok (.iinc 3 1, 3) := by decide +kernel
theorem dX5_other_103 : decode cX5_other 103 = .ok (.goto (-94), 3) := by decide +kernel
theorem dX5_other_106 : decode cX5_other 106 = .ok (.aload_n 1, 1) := by decide +kernel
theorem dX5_other_107 : decode cX5_other 107 = .ok (.areturn, 1) := by decide +kernel
abbrev cX5_knockAt : ByteArray := prog_4_method_16_code
def yX5_knockAt : MethodName := ⟨RX5, "knockAt", "(LShellBeach$Crab;)V"⟩
theorem dX5_knockAt_0 : decode cX5_knockAt 0 = .ok (.aload_n 0, 1) := by decide +kernel
theorem dX5_knockAt_1 : decode cX5_knockAt 1 = .ok (.iconst 1, 1) := by decide +kernel
theorem dX5_knockAt_2 : decode cX5_knockAt 2 = .ok (.putfield 80, 3) := by decide +kernel
theorem dX5_knockAt_5 : decode cX5_knockAt 5 = .ok (.aload_n 0, 1) := by decide +kernel
theorem dX5_knockAt_6 : decode cX5_knockAt 6 = .ok (.aload_n 0, 1) := by decide +kernel
theorem dX5_knockAt_7 : decode cX5_knockAt 7 = .ok (.getfield 143, 3) := by decide +kernel
theorem dX5_knockAt_10 : decode cX5_knockAt 10 = .ok (.aload_n 1, 1) := by decide +kernel
theorem dX5_knockAt_11 : decode cX5_knockAt 11 = .ok (.if_acmp .ne 12, 3) := by decide +kernel
theorem dX5_knockAt_14 : decode cX5_knockAt 14 = .ok (.aload_n 0, 1) := by decide +kernel
theorem dX5_knockAt_15 : decode cX5_knockAt 15 = .ok (.getfield 147, 3) := by decide +kernel
theorem dX5_knockAt_18 : decode cX5_knockAt 18 = .ok (.iconst 1, 1) := by decide +kernel
theorem dX5_knockAt_19 : decode cX5_knockAt 19 = .ok (.iadd, 1) := by decide +kernel
theorem dX5_knockAt_20 : decode cX5_knockAt 20 = .ok (.goto 4, 3) := by decide +kernel
theorem dX5_knockAt_23 : decode cX5_knockAt 23 = .ok (.iconst 1, 1) := by decide +kernel
theorem dX5_knockAt_24 : decode cX5_knockAt 24 = .ok (.putfield 147, 3) := by decide +kernel
theorem dX5_knockAt_27 : decode cX5_knockAt 27 = .ok (.aload_n 0, 1) := by decide +kernel
theorem dX5_knockAt_28 : decode cX5_knockAt 28 = .ok (.aload_n 1, 1) := by decide +kernel
theorem dX5_knockAt_29 : decode cX5_knockAt 29 = .ok (.putfield 143, 3) := by decide +kernel
theorem dX5_knockAt_32 : decode cX5_knockAt 32 = .ok (.aload_n 1, 1) := by decide +kernel
theorem dX5_knockAt_33 : decode cX5_knockAt 33 = .ok (.iconst 2, 1) := by decide +kernel
theorem dX5_knockAt_34 : decode cX5_knockAt 34 = .ok (.aload_n 0, 1) := by decide +kernel
theorem dX5_knockAt_35 : decode cX5_knockAt 35 = .ok (.getfield 52, 3) := by decide +kernel
theorem dX5_knockAt_38 : decode cX5_knockAt 38 = .ok (.aload_n 1, 1) := by decide +kernel
theorem dX5_knockAt_39 : decode cX5_knockAt 39 = .ok (.getfield 49, 3) := by decide +kernel
theorem dX5_knockAt_42 : decode cX5_knockAt 42 = .ok (.invokevirtual 69, 3) := by decide +kernel
theorem dX5_knockAt_45 : decode cX5_knockAt 45 = .ok (.aload_n 0, 1) := by decide +kernel
theorem dX5_knockAt_46 : decode cX5_knockAt 46 = .ok (.getfield 49, 3) := by decide +kernel
theorem dX5_knockAt_49 : decode cX5_knockAt 49 = .ok (.aload_n 0, 1) := by decide +kernel
theorem dX5_knockAt_50 : decode cX5_knockAt 50 = .ok (.getfield 147, 3) := by decide +kernel
theorem dX5_knockAt_53 : decode cX5_knockAt 53 = .ok (.invokevirtual 136, 3) := by decide +kernel
theorem dX5_knockAt_56 : decode cX5_knockAt 56 = .ok (.ifCond .ne 4, 3) := by decide +kernel
theorem dX5_knockAt_59 : decode cX5_knockAt 59 = .ok (.return_, 1) := by decide +kernel
theorem dX5_knockAt_60 : decode cX5_knockAt 60 = .ok (.aload_n 1, 1) := by decide +kernel
theorem dX5_knockAt_61 : decode cX5_knockAt 61 = .ok (.getfield 52, 3) := by decide +kernel
theorem dX5_knockAt_64 : decode cX5_knockAt 64 = .ok (.aload_n 0, 1) := by decide +kernel
theorem dX5_knockAt_65 : decode cX5_knockAt 65 = .ok (.getfield 49, 3) := by decide +kernel
theorem dX5_knockAt_68 : decode cX5_knockAt 68 = .ok (.invokevirtual 69, 3) := by decide +kernel
theorem dX5_knockAt_71 : decode cX5_knockAt 71 = .ok (.aload_n 0, 1) := by decide +kernel
theorem dX5_knockAt_72 : decode cX5_knockAt 72 = .ok (.getfield 52, 3) := by decide +kernel
theorem dX5_knockAt_75 : decode cX5_knockAt 75 = .ok (.aload_n 0, 1) := by decide +kernel
theorem dX5_knockAt_76 : decode cX5_knockAt 76 = .ok (.getfield 49, 3) := by decide +kernel
theorem dX5_knockAt_79 : decode cX5_knockAt 79 = .ok (.invokevirtual 69, 3) := by decide +kernel
theorem dX5_knockAt_82 : decode cX5_knockAt 82 = .ok (.if_icmp .le 7, 3) := by decide +kernel
theorem dX5_knockAt_85 : decode cX5_knockAt 85 = .ok (.iconst 1, 1) := by decide +kernel
theorem dX5_knockAt_86 : decode cX5_knockAt 86 = .ok (.goto 4, 3) := by decide +kernel
theorem dX5_knockAt_89 : decode cX5_knockAt 89 = .ok (.iconst 0, 1) := by decide +kernel
theorem dX5_knockAt_90 : decode cX5_knockAt 90 = .ok (.istore_n 2, 1) := by decide +kernel
theorem dX5_knockAt_91 : decode cX5_knockAt 91 = .ok (.iload_n 2, 1) := by decide +kernel
theorem dX5_knockAt_92 : decode cX5_knockAt 92 = .ok (.aload_n 0, 1) := by decide +kernel
theorem dX5_knockAt_93 : decode cX5_knockAt 93 = .ok (.getfield 52, 3) := by decide +kernel
theorem dX5_knockAt_96 : decode cX5_knockAt 96 = .ok (.aload_n 1, 1) := by decide +kernel
theorem dX5_knockAt_97 : decode cX5_knockAt 97 = .ok (.getfield 49, 3) := by decide +kernel
theorem dX5_knockAt_100 : decode cX5_knockAt 100 = .ok (.invokevirtual 69, 3) := by decide +kernel
theorem dX5_knockAt_103 : decode cX5_knockAt 103 = .ok (.aload_n 1, 1) := by decide +kernel
theorem dX5_knockAt_104 : decode cX5_knockAt 104 = .ok (.getfield 52, 3) := by decide +kernel
theorem dX5_knockAt_107 : decode cX5_knockAt 107 = .ok (.aload_n 1, 1) := by decide +kernel
theorem dX5_knockAt_108 : decode cX5_knockAt 108 = .ok (.getfield 49, 3) := by decide +kernel
theorem dX5_knockAt_111 : decode cX5_knockAt 111 = .ok (.invokevirtual 69, 3) := by decide +kernel
theorem dX5_knockAt_114 : decode cX5_knockAt 114 = .ok (.if_icmp .le 7, 3) := by decide +kernel
theorem dX5_knockAt_117 : decode cX5_knockAt 117 = .ok (.iconst 1, 1) := by decide +kernel
theorem dX5_knockAt_118 : decode cX5_knockAt 118 = .ok (.goto 4, 3) := by decide +kernel
theorem dX5_knockAt_121 : decode cX5_knockAt 121 = .ok (.iconst 0, 1) := by decide +kernel
theorem dX5_knockAt_122 : decode cX5_knockAt 122 = .ok (.iadd, 1) := by decide +kernel
theorem dX5_knockAt_123 : decode cX5_knockAt 123 = .ok (.istore_n 2, 1) := by decide +kernel
theorem dX5_knockAt_124 : decode cX5_knockAt 124 = .ok (.aload_n 0, 1) := by decide +kernel
theorem dX5_knockAt_125 : decode cX5_knockAt 125 = .ok (.getfield 3, 3) := by decide +kernel
theorem dX5_knockAt_128 : decode cX5_knockAt 128 = .ok (.getfield 154, 3) := by decide +kernel
theorem dX5_knockAt_131 : decode cX5_knockAt 131 = .ok (.iconst 2, 1) := by decide +kernel
theorem dX5_knockAt_132 : decode cX5_knockAt 132 = .ok (.iload_n 2, 1) := by decide +kernel
theorem dX5_knockAt_133 : decode cX5_knockAt 133 = .ok (.isub, 1) := by decide +kernel
theorem dX5_knockAt_134 : decode cX5_knockAt 134 = .ok (.dup2, 1) := by decide +kernel
theorem dX5_knockAt_135 : decode cX5_knockAt 135 = .ok (.iaload, 1) := by decide +kernel
theorem dX5_knockAt_136 : decode cX5_knockAt 136 = .ok (.iconst 1, 1) := by decide +kernel
theorem dX5_knockAt_137 : decode cX5_knockAt 137 = .ok (.iadd, 1) := by decide +kernel
theorem dX5_knockAt_138 : decode cX5_knockAt 138 = .ok (.iastore, 1) := by decide +kernel
theorem dX5_knockAt_139 : decode cX5_knockAt 139 = .ok (.aload_n 0, 1) := by decide +kernel
theorem dX5_knockAt_140 : decode cX5_knockAt 140 = .ok (.getfield 52, 3) := by decide +kernel
theorem dX5_knockAt_143 : decode cX5_knockAt 143 = .ok (.astore_n 3, 1) := by decide +kernel
theorem dX5_knockAt_144 : decode cX5_knockAt 144 = .ok (.aload_n 0, 1) := by decide +kernel
theorem dX5_knockAt_145 : decode cX5_knockAt 145 = .ok (.aload_n 1, 1) := by decide +kernel
theorem dX5_knockAt_146 : decode cX5_knockAt 146 = .ok (.getfield 52, 3) := by decide +kernel
theorem dX5_knockAt_149 : decode cX5_knockAt 149 = .ok (.invokevirtual 93, 3) := by decide +kernel
theorem dX5_knockAt_152 : decode cX5_knockAt 152 = .ok (.aload_n 1, 1) := by decide +kernel
theorem dX5_knockAt_153 : decode cX5_knockAt 153 = .ok (.aload_n 3, 1) := by decide +kernel
theorem dX5_knockAt_154 : decode cX5_knockAt 154 = .ok (.invokevirtual 93, 3) := by decide +kernel
theorem dX5_knockAt_157 : decode cX5_knockAt 157 = .ok (.aload_n 0, 1) := by decide +kernel
theorem dX5_knockAt_158 : decode cX5_knockAt 158 = .ok (.iconst 0, 1) := by decide +kernel
theorem dX5_knockAt_159 : decode cX5_knockAt 159 = .ok (.putfield 147, 3) := by decide +kernel
theorem dX5_knockAt_162 : decode cX5_knockAt 162 = .ok (.aload_n 0, 1) := by decide +kernel
theorem dX5_knockAt_163 : decode cX5_knockAt 163 = .ok (.aconst_null, 1) := by decide +kernel
theorem dX5_knockAt_164 : decode cX5_knockAt 164 = .ok (.putfield 143, 3) := by decide +kernel
theorem dX5_knockAt_167 : decode cX5_knockAt 167 = .ok (.return_, 1) := by decide +kernel
theorem q100 : (Jvm.Cond.initialized "ShellBeach$Crab") ∈ lw_all := lw_g (lw_at lw_m1 15 rfl) rfl
theorem q210 : (Jvm.Cond.fieldLinkNest "ShellBeach$Crab" (104 : Nat) "ShellBeach" "shells" "Ljava/util/ArrayList;" "ShellBeach") ∈ lw_tbl := lw_at lw_m1 125 rfl
theorem q215 : (Jvm.Cond.fieldLinkNest "ShellBeach$Crab" (123 : Nat) "ShellBeach" "crabs" "Ljava/util/ArrayList;" "ShellBeach") ∈ lw_tbl := lw_at lw_m1 130 rfl
theorem q220 : (Jvm.Cond.fieldLinkNest "ShellBeach$Crab" (90 : Nat) "ShellBeach" "move" "I" "ShellBeach") ∈ lw_tbl := lw_at lw_m1 135 rfl
theorem q225 : (Jvm.Cond.fieldLinkNest "ShellBeach$Crab" (154 : Nat) "ShellBeach" "exchanged" "[I" "ShellBeach") ∈ lw_tbl := lw_at lw_m1 140 rfl
theorem q336 : (Jvm.Cond.fieldLinkNest "ShellBeach$Crab" (56 : Nat) "ShellBeach$Shell" "state" "I" "ShellBeach") ∈ lw_tbl := lw_at lw_m2 11 rfl
theorem q392 : (Jvm.Cond.selects "ShellBeach$Crab" ({ cls := "java/lang/Object", name := "getClass", desc := "()Ljava/lang/Class;" } : Jvm.MethodName) ({ cls := "java/lang/Object", name := "getClass", desc := "()Ljava/lang/Class;" } : Jvm.MethodName)) ∈ lw_all := lw_g (lw_at lw_m2 67 rfl) rfl
theorem q451 : (Jvm.Cond.instantiable "ShellBeach$Crab" (13 : Nat)) ∈ lw_all := lw_g (lw_at lw_m2 126 rfl) rfl
theorem q453 : (Jvm.Cond.instanceMethod ({ cls := "ShellBeach$Crab", name := "<init>", desc := "(LShellBeach;III)V" } : Jvm.MethodName)) ∈ lw_all := lw_g (lw_at lw_m2 128 rfl) rfl
theorem q454 : (Jvm.Cond.code ({ cls := "ShellBeach$Crab", name := "<init>", desc := "(LShellBeach;III)V" } : Jvm.MethodName) prog_4_method_1_code (5 : Nat) (Option.none : Option Jvm.ClassFile.FieldType)) ∈ lw_all := lw_g (lw_at lw_m2 129 rfl) rfl
theorem q455 : (Jvm.Cond.methodLink "ShellBeach$Crab" (9 : Nat) ({ cls := "java/lang/Object", name := "<init>", desc := "()V" } : Jvm.MethodName)) ∈ lw_all := lw_g (lw_at lw_m2 130 rfl) rfl
theorem q456 : (Jvm.Cond.classLink "ShellBeach$Crab" (15 : Nat) "ShellBeach$Way") ∈ lw_all := lw_g (lw_at lw_m2 131 rfl) rfl
theorem q459 : (Jvm.Cond.methodLink "ShellBeach$Crab" (17 : Nat) ({ cls := "ShellBeach$Way", name := "<init>", desc := "(LShellBeach;LShellBeach$Crab;)V" } : Jvm.MethodName)) ∈ lw_all := lw_g (lw_at lw_m2 134 rfl) rfl
theorem q470 : (Jvm.Cond.classLink "ShellBeach$Crab" (20 : Nat) "ShellBeach$Housed") ∈ lw_all := lw_g (lw_at lw_m2 145 rfl) rfl
theorem q472 : (Jvm.Cond.methodLink "ShellBeach$Crab" (22 : Nat) ({ cls := "ShellBeach$Housed", name := "<init>", desc := "(LShellBeach;LShellBeach$Crab;)V" } : Jvm.MethodName)) ∈ lw_all := lw_g (lw_at lw_m2 147 rfl) rfl
theorem q482 : (Jvm.Cond.classLink "ShellBeach$Crab" (23 : Nat) "ShellBeach$Bare") ∈ lw_all := lw_g (lw_at lw_m2 157 rfl) rfl
theorem q484 : (Jvm.Cond.methodLink "ShellBeach$Crab" (25 : Nat) ({ cls := "ShellBeach$Bare", name := "<init>", desc := "(LShellBeach;LShellBeach$Crab;)V" } : Jvm.MethodName)) ∈ lw_all := lw_g (lw_at lw_m2 159 rfl) rfl
theorem q494 : (Jvm.Cond.classLink "ShellBeach$Crab" (26 : Nat) "ShellBeach$Waiting") ∈ lw_all := lw_g (lw_at lw_m2 169 rfl) rfl
theorem q496 : (Jvm.Cond.methodLink "ShellBeach$Crab" (28 : Nat) ({ cls := "ShellBeach$Waiting", name := "<init>", desc := "(LShellBeach;LShellBeach$Crab;)V" } : Jvm.MethodName)) ∈ lw_all := lw_g (lw_at lw_m2 171 rfl) rfl
theorem q507 : (Jvm.Cond.classLink "ShellBeach$Crab" (29 : Nat) "ShellBeach$Rowed") ∈ lw_all := lw_g (lw_at lw_m2 182 rfl) rfl
theorem q509 : (Jvm.Cond.methodLink "ShellBeach$Crab" (31 : Nat) ({ cls := "ShellBeach$Rowed", name := "<init>", desc := "(LShellBeach;LShellBeach$Crab;)V" } : Jvm.MethodName)) ∈ lw_all := lw_g (lw_at lw_m2 184 rfl) rfl
theorem q521 : (Jvm.Cond.classLink "ShellBeach$Crab" (32 : Nat) "ShellBeach$Knocking") ∈ lw_all := lw_g (lw_at lw_m2 196 rfl) rfl
theorem q523 : (Jvm.Cond.methodLink "ShellBeach$Crab" (34 : Nat) ({ cls := "ShellBeach$Knocking", name := "<init>", desc := "(LShellBeach;LShellBeach$Crab;)V" } : Jvm.MethodName)) ∈ lw_all := lw_g (lw_at lw_m2 198 rfl) rfl
theorem q534 : (Jvm.Cond.classLink "ShellBeach$Crab" (35 : Nat) "ShellBeach$Dead") ∈ lw_all := lw_g (lw_at lw_m2 209 rfl) rfl
theorem q536 : (Jvm.Cond.methodLink "ShellBeach$Crab" (37 : Nat) ({ cls := "ShellBeach$Dead", name := "<init>", desc := "(LShellBeach;LShellBeach$Crab;)V" } : Jvm.MethodName)) ∈ lw_all := lw_g (lw_at lw_m2 211 rfl) rfl
theorem q546 : (Jvm.Cond.fieldLink "ShellBeach$Crab" (42 : Nat) "ShellBeach$Crab" "number" "I") ∈ lw_all := lw_g (lw_at lw_m2 221 rfl) rfl
theorem q550 : (Jvm.Cond.fieldLink "ShellBeach$Crab" (38 : Nat) "ShellBeach$Crab" "ways" "[LShellBeach$Way;") ∈ lw_all := lw_g (lw_at lw_m2 225 rfl) rfl
theorem q551 : (Jvm.Cond.fieldLink "ShellBeach$Crab" (46 : Nat) "ShellBeach$Crab" "cell" "I") ∈ lw_all := lw_g (lw_at lw_m2 226 rfl) rfl
theorem q554 : (Jvm.Cond.fieldLink "ShellBeach$Crab" (49 : Nat) "ShellBeach$Crab" "size" "I") ∈ lw_all := lw_g (lw_at lw_m2 229 rfl) rfl
theorem q559 : (Jvm.Cond.fieldLink "ShellBeach$Crab" (83 : Nat) "ShellBeach$Crab" "left" "I") ∈ lw_all := lw_g (lw_at lw_m2 234 rfl) rfl
theorem q563 : (Jvm.Cond.fieldLink "ShellBeach$Crab" (147 : Nat) "ShellBeach$Crab" "knocks" "I") ∈ lw_all := lw_g (lw_at lw_m2 238 rfl) rfl
theorem q565 : (Jvm.Cond.fieldLink "ShellBeach$Crab" (61 : Nat) "ShellBeach$Crab" "isDead" "Z") ∈ lw_all := lw_g (lw_at lw_m3 0 rfl) rfl
theorem q568 : (Jvm.Cond.fieldLink "ShellBeach$Crab" (73 : Nat) "ShellBeach$Crab" "waits" "Z") ∈ lw_all := lw_g (lw_at lw_m3 3 rfl) rfl
theorem q571 : (Jvm.Cond.fieldLink "ShellBeach$Crab" (80 : Nat) "ShellBeach$Crab" "hasKnocked" "Z") ∈ lw_all := lw_g (lw_at lw_m3 6 rfl) rfl
theorem q574 : (Jvm.Cond.fieldLink "ShellBeach$Crab" (52 : Nat) "ShellBeach$Crab" "shell" "LShellBeach$Shell;") ∈ lw_all := lw_g (lw_at lw_m3 9 rfl) rfl
theorem q578 : (Jvm.Cond.fieldLink "ShellBeach$Crab" (143 : Nat) "ShellBeach$Crab" "at" "LShellBeach$Crab;") ∈ lw_all := lw_g (lw_at lw_m3 13 rfl) rfl
theorem q581 : (Jvm.Cond.fieldLink "ShellBeach$Crab" (126 : Nat) "ShellBeach$Crab" "habit" "LShellBeach$Habit;") ∈ lw_all := lw_g (lw_at lw_m3 16 rfl) rfl
theorem q582 : (Jvm.Cond.fieldLink "ShellBeach$Crab" (3 : Nat) "ShellBeach$Crab" "this$0" "LShellBeach;") ∈ lw_all := lw_g (lw_at lw_m3 17 rfl) rfl
theorem q583 : (Jvm.Cond.laysFinal "ShellBeach$Crab" "ShellBeach$Crab" "number" "I") ∈ lw_all := lw_g (lw_at lw_m3 18 rfl) rfl
theorem q584 : (Jvm.Cond.soleField "ShellBeach$Crab" "number") ∈ lw_all := lw_g (lw_at lw_m3 19 rfl) rfl
theorem q585 : (Jvm.Cond.laysFinal "ShellBeach$Crab" "ShellBeach$Crab" "ways" "[LShellBeach$Way;") ∈ lw_all := lw_g (lw_at lw_m3 20 rfl) rfl
theorem q586 : (Jvm.Cond.soleField "ShellBeach$Crab" "ways") ∈ lw_all := lw_g (lw_at lw_m3 21 rfl) rfl
theorem q587 : (Jvm.Cond.lays "ShellBeach$Crab" "ShellBeach$Crab" "cell" "I") ∈ lw_all := lw_g (lw_at lw_m3 22 rfl) rfl
theorem q588 : (Jvm.Cond.soleField "ShellBeach$Crab" "cell") ∈ lw_all := lw_g (lw_at lw_m3 23 rfl) rfl
theorem q589 : (Jvm.Cond.lays "ShellBeach$Crab" "ShellBeach$Crab" "size" "I") ∈ lw_all := lw_g (lw_at lw_m3 24 rfl) rfl
theorem q590 : (Jvm.Cond.soleField "ShellBeach$Crab" "size") ∈ lw_all := lw_g (lw_at lw_m3 25 rfl) rfl
theorem q591 : (Jvm.Cond.lays "ShellBeach$Crab" "ShellBeach$Crab" "left" "I") ∈ lw_all := lw_g (lw_at lw_m3 26 rfl) rfl
theorem q592 : (Jvm.Cond.soleField "ShellBeach$Crab" "left") ∈ lw_all := lw_g (lw_at lw_m3 27 rfl) rfl
theorem q593 : (Jvm.Cond.lays "ShellBeach$Crab" "ShellBeach$Crab" "knocks" "I") ∈ lw_all := lw_g (lw_at lw_m3 28 rfl) rfl
theorem q594 : (Jvm.Cond.soleField "ShellBeach$Crab" "knocks") ∈ lw_all := lw_g (lw_at lw_m3 29 rfl) rfl
theorem q595 : (Jvm.Cond.lays "ShellBeach$Crab" "ShellBeach$Crab" "isDead" "Z") ∈ lw_all := lw_g (lw_at lw_m3 30 rfl) rfl
theorem q596 : (Jvm.Cond.soleField "ShellBeach$Crab" "isDead") ∈ lw_all := lw_g (lw_at lw_m3 31 rfl) rfl
theorem q597 : (Jvm.Cond.lays "ShellBeach$Crab" "ShellBeach$Crab" "waits" "Z") ∈ lw_all := lw_g (lw_at lw_m3 32 rfl) rfl
theorem q598 : (Jvm.Cond.soleField "ShellBeach$Crab" "waits") ∈ lw_all := lw_g (lw_at lw_m3 33 rfl) rfl
theorem q599 : (Jvm.Cond.lays "ShellBeach$Crab" "ShellBeach$Crab" "hasKnocked" "Z") ∈ lw_all := lw_g (lw_at lw_m3 34 rfl) rfl
theorem q600 : (Jvm.Cond.soleField "ShellBeach$Crab" "hasKnocked") ∈ lw_all := lw_g (lw_at lw_m3 35 rfl) rfl
theorem q601 : (Jvm.Cond.lays "ShellBeach$Crab" "ShellBeach$Crab" "shell" "LShellBeach$Shell;") ∈ lw_all := lw_g (lw_at lw_m3 36 rfl) rfl
theorem q602 : (Jvm.Cond.soleField "ShellBeach$Crab" "shell") ∈ lw_all := lw_g (lw_at lw_m3 37 rfl) rfl
theorem q603 : (Jvm.Cond.lays "ShellBeach$Crab" "ShellBeach$Crab" "at" "LShellBeach$Crab;") ∈ lw_all := lw_g (lw_at lw_m3 38 rfl) rfl
theorem q604 : (Jvm.Cond.soleField "ShellBeach$Crab" "at") ∈ lw_all := lw_g (lw_at lw_m3 39 rfl) rfl
theorem q605 : (Jvm.Cond.lays "ShellBeach$Crab" "ShellBeach$Crab" "habit" "LShellBeach$Habit;") ∈ lw_all := lw_g (lw_at lw_m3 40 rfl) rfl
theorem q606 : (Jvm.Cond.soleField "ShellBeach$Crab" "habit") ∈ lw_all := lw_g (lw_at lw_m3 41 rfl) rfl
theorem q607 : (Jvm.Cond.laysFinal "ShellBeach$Crab" "ShellBeach$Crab" "this$0" "LShellBeach;") ∈ lw_all := lw_g (lw_at lw_m3 42 rfl) rfl
theorem q608 : (Jvm.Cond.soleField "ShellBeach$Crab" "this$0") ∈ lw_all := lw_g (lw_at lw_m3 43 rfl) rfl
theorem q609 : (Jvm.Cond.superclass "ShellBeach$Crab" "java/lang/Object") ∈ lw_all := lw_g (lw_at lw_m3 44 rfl) rfl
theorem q611 : (Jvm.Cond.instanceMethod ({ cls := "ShellBeach$Crab", name := "houseIn", desc := "(LShellBeach$Shell;)V" } : Jvm.MethodName)) ∈ lw_all := lw_g (lw_at lw_m3 46 rfl) rfl
theorem q612 : (Jvm.Cond.selects "ShellBeach$Crab" ({ cls := "ShellBeach$Crab", name := "houseIn", desc := "(LShellBeach$Shell;)V" } : Jvm.MethodName) ({ cls := "ShellBeach$Crab", name := "houseIn", desc := "(LShellBeach$Shell;)V" } : Jvm.MethodName)) ∈ lw_all := lw_g (lw_at lw_m3 47 rfl) rfl
theorem q613 : (Jvm.Cond.code ({ cls := "ShellBeach$Crab", name := "houseIn", desc := "(LShellBeach$Shell;)V" } : Jvm.MethodName) prog_4_method_8_code (2 : Nat) (Option.none : Option Jvm.ClassFile.FieldType)) ∈ lw_all := lw_g (lw_at lw_m3 48 rfl) rfl
theorem q614 : (Jvm.Cond.methodLink "ShellBeach$Crab" (86 : Nat) ({ cls := "ShellBeach$Shell", name := "become", desc := "(ILShellBeach$Crab;)V" } : Jvm.MethodName)) ∈ lw_all := lw_g (lw_at lw_m3 49 rfl) rfl
theorem q644 : (Jvm.Cond.instanceMethod ({ cls := "ShellBeach$Crab", name := "way", desc := "()LShellBeach$Way;" } : Jvm.MethodName)) ∈ lw_all := lw_g (lw_at lw_m3 79 rfl) rfl
theorem q645 : (Jvm.Cond.selects "ShellBeach$Crab" ({ cls := "ShellBeach$Crab", name := "way", desc := "()LShellBeach$Way;" } : Jvm.MethodName) ({ cls := "ShellBeach$Crab", name := "way", desc := "()LShellBeach$Way;" } : Jvm.MethodName)) ∈ lw_all := lw_g (lw_at lw_m3 80 rfl) rfl
theorem q646 : (Jvm.Cond.code ({ cls := "ShellBeach$Crab", name := "way", desc := "()LShellBeach$Way;" } : Jvm.MethodName) prog_4_method_7_code (1 : Nat) (Option.some (Jvm.ClassFile.FieldType.object "ShellBeach$Way"))) ∈ lw_all := lw_g (lw_at lw_m3 81 rfl) rfl
theorem q647 : (Jvm.Cond.methodLink "ShellBeach$Crab" (65 : Nat) ({ cls := "ShellBeach$Crab", name := "isHoused", desc := "()Z" } : Jvm.MethodName)) ∈ lw_all := lw_g (lw_at lw_m3 82 rfl) rfl
theorem q648 : (Jvm.Cond.instanceMethod ({ cls := "ShellBeach$Crab", name := "isHoused", desc := "()Z" } : Jvm.MethodName)) ∈ lw_all := lw_g (lw_at lw_m3 83 rfl) rfl
theorem q649 : (Jvm.Cond.selects "ShellBeach$Crab" ({ cls := "ShellBeach$Crab", name := "isHoused", desc := "()Z" } : Jvm.MethodName) ({ cls := "ShellBeach$Crab", name := "isHoused", desc := "()Z" } : Jvm.MethodName)) ∈ lw_all := lw_g (lw_at lw_m3 84 rfl) rfl
theorem q650 : (Jvm.Cond.code ({ cls := "ShellBeach$Crab", name := "isHoused", desc := "()Z" } : Jvm.MethodName) prog_4_method_2_code (1 : Nat) (Option.some Jvm.ClassFile.FieldType.boolean)) ∈ lw_all := lw_g (lw_at lw_m3 85 rfl) rfl
theorem q651 : (Jvm.Cond.methodLinkNest "ShellBeach$Crab" (76 : Nat) ({ cls := "ShellBeach", name := "isRowed", desc := "(LShellBeach$Crab;)Z" } : Jvm.MethodName) "ShellBeach") ∈ lw_tbl := lw_at lw_m3 86 rfl
theorem q656 : (Jvm.Cond.instanceMethod ({ cls := "ShellBeach$Crab", name := "isWaiting", desc := "()Z" } : Jvm.MethodName)) ∈ lw_all := lw_g (lw_at lw_m3 91 rfl) rfl
theorem q657 : (Jvm.Cond.selects "ShellBeach$Crab" ({ cls := "ShellBeach$Crab", name := "isWaiting", desc := "()Z" } : Jvm.MethodName) ({ cls := "ShellBeach$Crab", name := "isWaiting", desc := "()Z" } : Jvm.MethodName)) ∈ lw_all := lw_g (lw_at lw_m3 92 rfl) rfl
theorem q658 : (Jvm.Cond.code ({ cls := "ShellBeach$Crab", name := "isWaiting", desc := "()Z" } : Jvm.MethodName) prog_4_method_5_code (1 : Nat) (Option.some Jvm.ClassFile.FieldType.boolean)) ∈ lw_all := lw_g (lw_at lw_m3 93 rfl) rfl
theorem q660 : (Jvm.Cond.instanceMethod ({ cls := "ShellBeach$Crab", name := "isAhead", desc := "(LShellBeach$Crab;)Z" } : Jvm.MethodName)) ∈ lw_all := lw_g (lw_at lw_m3 95 rfl) rfl
theorem q661 : (Jvm.Cond.selects "ShellBeach$Crab" ({ cls := "ShellBeach$Crab", name := "isAhead", desc := "(LShellBeach$Crab;)Z" } : Jvm.MethodName) ({ cls := "ShellBeach$Crab", name := "isAhead", desc := "(LShellBeach$Crab;)Z" } : Jvm.MethodName)) ∈ lw_all := lw_g (lw_at lw_m3 96 rfl) rfl
theorem q662 : (Jvm.Cond.code ({ cls := "ShellBeach$Crab", name := "isAhead", desc := "(LShellBeach$Crab;)Z" } : Jvm.MethodName) prog_4_method_6_code (2 : Nat) (Option.some Jvm.ClassFile.FieldType.boolean)) ∈ lw_all := lw_g (lw_at lw_m3 97 rfl) rfl
theorem q687 : (Jvm.Cond.instanceMethod ({ cls := "ShellBeach$Crab", name := "fit", desc := "()I" } : Jvm.MethodName)) ∈ lw_all := lw_g (lw_at lw_m3 122 rfl) rfl
theorem q688 : (Jvm.Cond.selects "ShellBeach$Crab" ({ cls := "ShellBeach$Crab", name := "fit", desc := "()I" } : Jvm.MethodName) ({ cls := "ShellBeach$Crab", name := "fit", desc := "()I" } : Jvm.MethodName)) ∈ lw_all := lw_g (lw_at lw_m3 123 rfl) rfl
theorem q689 : (Jvm.Cond.code ({ cls := "ShellBeach$Crab", name := "fit", desc := "()I" } : Jvm.MethodName) prog_4_method_4_code (1 : Nat) (Option.some Jvm.ClassFile.FieldType.int)) ∈ lw_all := lw_g (lw_at lw_m3 124 rfl) rfl
theorem q690 : (Jvm.Cond.methodLink "ShellBeach$Crab" (69 : Nat) ({ cls := "ShellBeach$Shell", name := "fit", desc := "(I)I" } : Jvm.MethodName)) ∈ lw_all := lw_g (lw_at lw_m3 125 rfl) rfl
theorem q704 : (Jvm.Cond.instanceMethod ({ cls := "ShellBeach$Crab", name := "lose", desc := "()V" } : Jvm.MethodName)) ∈ lw_all := lw_g (lw_at lw_m3 139 rfl) rfl
theorem q705 : (Jvm.Cond.selects "ShellBeach$Crab" ({ cls := "ShellBeach$Crab", name := "lose", desc := "()V" } : Jvm.MethodName) ({ cls := "ShellBeach$Crab", name := "lose", desc := "()V" } : Jvm.MethodName)) ∈ lw_all := lw_g (lw_at lw_m3 140 rfl) rfl
theorem q706 : (Jvm.Cond.code ({ cls := "ShellBeach$Crab", name := "lose", desc := "()V" } : Jvm.MethodName) prog_4_method_9_code (1 : Nat) (Option.none : Option Jvm.ClassFile.FieldType)) ∈ lw_all := lw_g (lw_at lw_m3 141 rfl) rfl
theorem q713 : (Jvm.Cond.instanceMethod ({ cls := "ShellBeach$Crab", name := "isBare", desc := "()Z" } : Jvm.MethodName)) ∈ lw_all := lw_g (lw_at lw_m3 148 rfl) rfl
theorem q714 : (Jvm.Cond.selects "ShellBeach$Crab" ({ cls := "ShellBeach$Crab", name := "isBare", desc := "()Z" } : Jvm.MethodName) ({ cls := "ShellBeach$Crab", name := "isBare", desc := "()Z" } : Jvm.MethodName)) ∈ lw_all := lw_g (lw_at lw_m3 149 rfl) rfl
theorem q715 : (Jvm.Cond.code ({ cls := "ShellBeach$Crab", name := "isBare", desc := "()Z" } : Jvm.MethodName) prog_4_method_3_code (1 : Nat) (Option.some Jvm.ClassFile.FieldType.boolean)) ∈ lw_all := lw_g (lw_at lw_m3 150 rfl) rfl
theorem q966 : (Jvm.Cond.instanceMethod ({ cls := "ShellBeach$Crab", name := "stepOn", desc := "()V" } : Jvm.MethodName)) ∈ lw_all := lw_g (lw_at lw_m4 161 rfl) rfl
theorem q967 : (Jvm.Cond.selects "ShellBeach$Crab" ({ cls := "ShellBeach$Crab", name := "stepOn", desc := "()V" } : Jvm.MethodName) ({ cls := "ShellBeach$Crab", name := "stepOn", desc := "()V" } : Jvm.MethodName)) ∈ lw_all := lw_g (lw_at lw_m4 162 rfl) rfl
theorem q968 : (Jvm.Cond.code ({ cls := "ShellBeach$Crab", name := "stepOn", desc := "()V" } : Jvm.MethodName) prog_4_method_11_code (2 : Nat) (Option.none : Option Jvm.ClassFile.FieldType)) ∈ lw_all := lw_g (lw_at lw_m4 163 rfl) rfl
theorem q969 : (Jvm.Cond.methodLink "ShellBeach$Crab" (97 : Nat) ({ cls := "ShellBeach$Crab", name := "lying", desc := "()LShellBeach$Shell;" } : Jvm.MethodName)) ∈ lw_all := lw_g (lw_at lw_m4 164 rfl) rfl
theorem q970 : (Jvm.Cond.instanceMethod ({ cls := "ShellBeach$Crab", name := "lying", desc := "()LShellBeach$Shell;" } : Jvm.MethodName)) ∈ lw_all := lw_g (lw_at lw_m4 165 rfl) rfl
theorem q971 : (Jvm.Cond.selects "ShellBeach$Crab" ({ cls := "ShellBeach$Crab", name := "lying", desc := "()LShellBeach$Shell;" } : Jvm.MethodName) ({ cls := "ShellBeach$Crab", name := "lying", desc := "()LShellBeach$Shell;" } : Jvm.MethodName)) ∈ lw_all := lw_g (lw_at lw_m4 166 rfl) rfl
theorem q972 : (Jvm.Cond.code ({ cls := "ShellBeach$Crab", name := "lying", desc := "()LShellBeach$Shell;" } : Jvm.MethodName) prog_4_method_12_code (3 : Nat) (Option.some (Jvm.ClassFile.FieldType.object "ShellBeach$Shell"))) ∈ lw_all := lw_g (lw_at lw_m4 167 rfl) rfl
theorem q973 : (Jvm.Cond.methodLink "ShellBeach$Crab" (108 : Nat) ({ cls := "java/util/ArrayList", name := "size", desc := "()I" } : Jvm.MethodName)) ∈ lw_all := lw_g (lw_at lw_m4 168 rfl) rfl
theorem q974 : (Jvm.Cond.methodLink "ShellBeach$Crab" (113 : Nat) ({ cls := "java/util/ArrayList", name := "get", desc := "(I)Ljava/lang/Object;" } : Jvm.MethodName)) ∈ lw_all := lw_g (lw_at lw_m4 169 rfl) rfl
theorem q975 : (Jvm.Cond.classLink "ShellBeach$Crab" (57 : Nat) "ShellBeach$Shell") ∈ lw_all := lw_g (lw_at lw_m4 170 rfl) rfl
theorem q976 : (Jvm.Cond.methodLink "ShellBeach$Crab" (117 : Nat) ({ cls := "ShellBeach$Shell", name := "liesIn", desc := "(I)Z" } : Jvm.MethodName)) ∈ lw_all := lw_g (lw_at lw_m4 171 rfl) rfl
theorem q977 : (Jvm.Cond.methodLink "ShellBeach$Crab" (101 : Nat) ({ cls := "ShellBeach$Crab", name := "goTo", desc := "(LShellBeach$Shell;)V" } : Jvm.MethodName)) ∈ lw_all := lw_g (lw_at lw_m4 172 rfl) rfl
theorem q978 : (Jvm.Cond.instanceMethod ({ cls := "ShellBeach$Crab", name := "goTo", desc := "(LShellBeach$Shell;)V" } : Jvm.MethodName)) ∈ lw_all := lw_g (lw_at lw_m4 173 rfl) rfl
theorem q979 : (Jvm.Cond.selects "ShellBeach$Crab" ({ cls := "ShellBeach$Crab", name := "goTo", desc := "(LShellBeach$Shell;)V" } : Jvm.MethodName) ({ cls := "ShellBeach$Crab", name := "goTo", desc := "(LShellBeach$Shell;)V" } : Jvm.MethodName)) ∈ lw_all := lw_g (lw_at lw_m4 174 rfl) rfl
theorem q980 : (Jvm.Cond.code ({ cls := "ShellBeach$Crab", name := "goTo", desc := "(LShellBeach$Shell;)V" } : Jvm.MethodName) prog_4_method_10_code (2 : Nat) (Option.none : Option Jvm.ClassFile.FieldType)) ∈ lw_all := lw_g (lw_at lw_m4 175 rfl) rfl
theorem q981 : (Jvm.Cond.methodLink "ShellBeach$Crab" (93 : Nat) ({ cls := "ShellBeach$Crab", name := "houseIn", desc := "(LShellBeach$Shell;)V" } : Jvm.MethodName)) ∈ lw_all := lw_g (lw_at lw_m4 176 rfl) rfl
theorem q984 : (Jvm.Cond.instanceMethod ({ cls := "ShellBeach$Crab", name := "act", desc := "()V" } : Jvm.MethodName)) ∈ lw_all := lw_g (lw_at lw_m4 179 rfl) rfl
theorem q985 : (Jvm.Cond.selects "ShellBeach$Crab" ({ cls := "ShellBeach$Crab", name := "act", desc := "()V" } : Jvm.MethodName) ({ cls := "ShellBeach$Crab", name := "act", desc := "()V" } : Jvm.MethodName)) ∈ lw_all := lw_g (lw_at lw_m4 180 rfl) rfl
theorem q986 : (Jvm.Cond.code ({ cls := "ShellBeach$Crab", name := "act", desc := "()V" } : Jvm.MethodName) prog_4_method_15_code (3 : Nat) (Option.none : Option Jvm.ClassFile.FieldType)) ∈ lw_all := lw_g (lw_at lw_m4 181 rfl) rfl
theorem q987 : (Jvm.Cond.methodLink "ShellBeach$Crab" (121 : Nat) ({ cls := "ShellBeach$Crab", name := "fit", desc := "()I" } : Jvm.MethodName)) ∈ lw_all := lw_g (lw_at lw_m4 182 rfl) rfl
theorem q988 : (Jvm.Cond.methodLink "ShellBeach$Crab" (136 : Nat) ({ cls := "ShellBeach$Crab", name := "holds", desc := "(IIII)Z" } : Jvm.MethodName)) ∈ lw_all := lw_g (lw_at lw_m4 183 rfl) rfl
theorem q989 : (Jvm.Cond.privateMethod ({ cls := "ShellBeach$Crab", name := "holds", desc := "(IIII)Z" } : Jvm.MethodName)) ∈ lw_tbl := lw_at lw_m4 184 rfl
theorem q990 : (Jvm.Cond.instanceMethod ({ cls := "ShellBeach$Crab", name := "holds", desc := "(IIII)Z" } : Jvm.MethodName)) ∈ lw_all := lw_g (lw_at lw_m4 185 rfl) rfl
theorem q991 : (Jvm.Cond.code ({ cls := "ShellBeach$Crab", name := "holds", desc := "(IIII)Z" } : Jvm.MethodName) prog_4_method_14_code (5 : Nat) (Option.some Jvm.ClassFile.FieldType.boolean)) ∈ lw_all := lw_g (lw_at lw_m4 186 rfl) rfl
theorem q992 : (Jvm.Cond.methodLink "ShellBeach$Crab" (130 : Nat) ({ cls := "ShellBeach$Habit", name := "holds", desc := "(IIIIII)Z" } : Jvm.MethodName)) ∈ lw_all := lw_g (lw_at lw_m4 187 rfl) rfl
theorem q993 : (Jvm.Cond.methodLink "ShellBeach$Crab" (139 : Nat) ({ cls := "ShellBeach$Crab", name := "other", desc := "()LShellBeach$Crab;" } : Jvm.MethodName)) ∈ lw_all := lw_g (lw_at lw_m4 188 rfl) rfl
theorem q994 : (Jvm.Cond.privateMethod ({ cls := "ShellBeach$Crab", name := "other", desc := "()LShellBeach$Crab;" } : Jvm.MethodName)) ∈ lw_tbl := lw_at lw_m4 189 rfl
theorem q995 : (Jvm.Cond.instanceMethod ({ cls := "ShellBeach$Crab", name := "other", desc := "()LShellBeach$Crab;" } : Jvm.MethodName)) ∈ lw_all := lw_g (lw_at lw_m4 190 rfl) rfl
theorem q996 : (Jvm.Cond.code ({ cls := "ShellBeach$Crab", name := "other", desc := "()LShellBeach$Crab;" } : Jvm.MethodName) prog_4_method_13_code (5 : Nat) (Option.some (Jvm.ClassFile.FieldType.object "ShellBeach$Crab"))) ∈ lw_all := lw_g (lw_at lw_m4 191 rfl) rfl
theorem q997 : (Jvm.Cond.classLink "ShellBeach$Crab" (4 : Nat) "ShellBeach$Crab") ∈ lw_all := lw_g (lw_at lw_m4 192 rfl) rfl
theorem q998 : (Jvm.Cond.methodLink "ShellBeach$Crab" (150 : Nat) ({ cls := "ShellBeach$Crab", name := "knockAt", desc := "(LShellBeach$Crab;)V" } : Jvm.MethodName)) ∈ lw_all := lw_g (lw_at lw_m4 193 rfl) rfl
theorem q999 : (Jvm.Cond.privateMethod ({ cls := "ShellBeach$Crab", name := "knockAt", desc := "(LShellBeach$Crab;)V" } : Jvm.MethodName)) ∈ lw_tbl := lw_at lw_m4 194 rfl
theorem q1000 : (Jvm.Cond.instanceMethod ({ cls := "ShellBeach$Crab", name := "knockAt", desc := "(LShellBeach$Crab;)V" } : Jvm.MethodName)) ∈ lw_all := lw_g (lw_at lw_m4 195 rfl) rfl
theorem q1001 : (Jvm.Cond.code ({ cls := "ShellBeach$Crab", name := "knockAt", desc := "(LShellBeach$Crab;)V" } : Jvm.MethodName) prog_4_method_16_code (4 : Nat) (Option.none : Option Jvm.ClassFile.FieldType)) ∈ lw_all := lw_g (lw_at lw_m4 196 rfl) rfl
theorem q1872 : (Jvm.Cond.castable "ShellBeach$Crab" "java/lang/Object") ∈ lw_tbl := lw_at lw_m8 107 rfl
theorem in_X5 : ∀ w ∈ wsX50, w ∈ lw_all := lw_in wsX50 [583, 585, 587, 589, 591, 593, 595, 597, 599, 601, 603, 605, 607] (by decide +kernel) (by decide +kernel)
/-! ShellBeach$Way -/
def RX6 : String := "ShellBeach$Way"
def TX6 : u_T := fun k => match k with
  | 0 => ("ShellBeach$Way", "crab", "LShellBeach$Crab;", true)
  | _ => ("ShellBeach$Way", "this$0", "LShellBeach;", true)
def tyX6 : Nat → FieldType := fun k => match k with
  | 0 => .object "ShellBeach$Crab"
  | _ => .object "ShellBeach"
abbrev wsX60 : List Cond := u_ws RX6 TX6 2
theorem nmX6 : ∀ a, a < 2 → ∀ b, b < 2 → a ≠ b → (TX6 a).2.1 ≠ (TX6 b).2.1 := by decide +kernel
theorem tyX6_ok : ∀ k, k < 2 → parseFieldDescriptor (TX6 k).2.2.1 = some (tyX6 k) := by decide +kernel
abbrev cX6_init : ByteArray := prog_19_method_1_code
def yX6_init : MethodName := ⟨RX6, "<init>", "(LShellBeach;LShellBeach$Crab;)V"⟩
theorem dX6_init_0 : decode cX6_init 0 = .ok (.aload_n 0, 1) := by decide +kernel
theorem dX6_init_1 : decode cX6_init 1 = .ok (.aload_n 1, 1) := by decide +kernel
theorem dX6_init_2 : decode cX6_init 2 = .ok (.putfield 1, 3) := by decide +kernel
theorem dX6_init_5 : decode cX6_init 5 = .ok (.aload_n 0, 1) := by decide +kernel
theorem dX6_init_6 : decode cX6_init 6 = .ok (.invokespecial 7, 3) := by decide +kernel
theorem dX6_init_9 : decode cX6_init 9 = .ok (.aload_n 0, 1) := by decide +kernel
theorem dX6_init_10 : decode cX6_init 10 = .ok (.aload_n 2, 1) := by decide +kernel
theorem dX6_init_11 : decode cX6_init 11 = .ok (.putfield 13, 3) := by decide +kernel
theorem dX6_init_14 : decode cX6_init 14 = .ok (.return_, 1) := by decide +kernel
abbrev cX6_kind : ByteArray := prog_19_method_2_code
def yX6_kind : MethodName := ⟨RX6, "kind", "()I"⟩
theorem dX6_kind_0 : decode cX6_kind 0 = .ok (.iconst 0, 1) := by decide +kernel
theorem dX6_kind_1 : decode cX6_kind 1 = .ok (.ireturn, 1) := by decide +kernel
abbrev cX6_fits : ByteArray := prog_19_method_4_code
def yX6_fits : MethodName := ⟨RX6, "fits", "(I)I"⟩
theorem dX6_fits_0 : decode cX6_fits 0 = .ok (.aload_n 0, 1) := by decide +kernel
theorem dX6_fits_1 : decode cX6_fits 1 = .ok (.getfield 1, 3) := by decide +kernel
theorem dX6_fits_4 : decode cX6_fits 4 = .ok (.iconst 1, 1) := by decide +kernel
theorem dX6_fits_5 : decode cX6_fits 5 = .ok (.invokevirtual 17, 3) := by decide +kernel
theorem dX6_fits_8 : decode cX6_fits 8 = .ok (.iload_n 1, 1) := by decide +kernel
theorem dX6_fits_9 : decode cX6_fits 9 = .ok (.aload_n 0, 1) := by decide +kernel
theorem dX6_fits_10 : decode cX6_fits 10 = .ok (.getfield 13, 3) := by decide +kernel
theorem dX6_fits_13 : decode cX6_fits 13 = .ok (.getfield 23, 3) := by decide +kernel
theorem dX6_fits_16 : decode cX6_fits 16 = .ok (.iadd, 1) := by decide +kernel
theorem dX6_fits_17 : decode cX6_fits 17 = .ok (.ireturn, 1) := by decide +kernel
abbrev cX6_asks : ByteArray := prog_19_method_5_code
def yX6_asks : MethodName := ⟨RX6, "asks", "(I)I"⟩
theorem dX6_asks_0 : decode cX6_asks 0 = .ok (.aload_n 0, 1) := by decide +kernel
theorem dX6_asks_1 : decode cX6_asks 1 = .ok (.getfield 1, 3) := by decide +kernel
theorem dX6_asks_4 : decode cX6_asks 4 = .ok (.iconst 2, 1) := by decide +kernel
theorem dX6_asks_5 : decode cX6_asks 5 = .ok (.invokevirtual 17, 3) := by decide +kernel
theorem dX6_asks_8 : decode cX6_asks 8 = .ok (.aload_n 0, 1) := by decide +kernel
theorem dX6_asks_9 : decode cX6_asks 9 = .ok (.iload_n 1, 1) := by decide +kernel
theorem dX6_asks_10 : decode cX6_asks 10 = .ok (.invokevirtual 29, 3) := by decide +kernel
theorem dX6_asks_13 : decode cX6_asks 13 = .ok (.aload_n 0, 1) := by decide +kernel
theorem dX6_asks_14 : decode cX6_asks 14 = .ok (.getfield 13, 3) := by decide +kernel
theorem dX6_asks_17 : decode cX6_asks 17 = .ok (.getfield 33, 3) := by decide +kernel
theorem dX6_asks_20 : decode cX6_asks 20 = .ok (.isub, 1) := by decide +kernel
theorem dX6_asks_21 : decode cX6_asks 21 = .ok (.ireturn, 1) := by decide +kernel
abbrev cX6_moves : ByteArray := prog_19_method_6_code
def yX6_moves : MethodName := ⟨RX6, "moves", "(I)I"⟩
theorem dX6_moves_0 : decode cX6_moves 0 = .ok (.aload_n 0, 1) := by decide +kernel
theorem dX6_moves_1 : decode cX6_moves 1 = .ok (.getfield 1, 3) := by decide +kernel
theorem dX6_moves_4 : decode cX6_moves 4 = .ok (.iconst 3, 1) := by decide +kernel
theorem dX6_moves_5 : decode cX6_moves 5 = .ok (.invokevirtual 17, 3) := by decide +kernel
theorem dX6_moves_8 : decode cX6_moves 8 = .ok (.aload_n 0, 1) := by decide +kernel
theorem dX6_moves_9 : decode cX6_moves 9 = .ok (.iload_n 1, 1) := by decide +kernel
theorem dX6_moves_10 : decode cX6_moves 10 = .ok (.invokevirtual 36, 3) := by decide +kernel
theorem dX6_moves_13 : decode cX6_moves 13 = .ok (.iconst 2, 1) := by decide +kernel
theorem dX6_moves_14 : decode cX6_moves 14 = .ok (.imul, 1) := by decide +kernel
theorem dX6_moves_15 : decode cX6_moves 15 = .ok (.ireturn, 1) := by decide +kernel
abbrev cX6_isUnder : ByteArray := prog_19_method_3_code
def yX6_isUnder : MethodName := ⟨RX6, "isUnder", "(I)Z"⟩
theorem dX6_isUnder_0 : decode cX6_isUnder 0 = .ok (.iload_n 1, 1) := by decide +kernel
theorem dX6_isUnder_1 : decode cX6_isUnder 1 = .ok (.ifCond .ne 7, 3) := by decide +kernel
theorem dX6_isUnder_4 : decode cX6_isUnder 4 = .ok (.iconst 1, 1) := by decide +kernel
theorem dX6_isUnder_5 : decode cX6_isUnder 5 = .ok (.goto 4, 3) := by decide +kernel
theorem dX6_isUnder_8 : decode cX6_isUnder 8 = .ok (.iconst 0, 1) := by decide +kernel
theorem dX6_isUnder_9 : decode cX6_isUnder 9 = .ok (.ireturn, 1) := by decide +kernel
theorem q101 : (Jvm.Cond.initialized "ShellBeach$Way") ∈ lw_all := lw_g (lw_at lw_m1 16 rfl) rfl
theorem q406 : (Jvm.Cond.selects "ShellBeach$Way" ({ cls := "java/lang/Object", name := "getClass", desc := "()Ljava/lang/Class;" } : Jvm.MethodName) ({ cls := "java/lang/Object", name := "getClass", desc := "()Ljava/lang/Class;" } : Jvm.MethodName)) ∈ lw_all := lw_g (lw_at lw_m2 81 rfl) rfl
theorem q458 : (Jvm.Cond.instantiable "ShellBeach$Way" (2 : Nat)) ∈ lw_all := lw_g (lw_at lw_m2 133 rfl) rfl
theorem q460 : (Jvm.Cond.instanceMethod ({ cls := "ShellBeach$Way", name := "<init>", desc := "(LShellBeach;LShellBeach$Crab;)V" } : Jvm.MethodName)) ∈ lw_all := lw_g (lw_at lw_m2 135 rfl) rfl
theorem q461 : (Jvm.Cond.code ({ cls := "ShellBeach$Way", name := "<init>", desc := "(LShellBeach;LShellBeach$Crab;)V" } : Jvm.MethodName) prog_19_method_1_code (3 : Nat) (Option.none : Option Jvm.ClassFile.FieldType)) ∈ lw_all := lw_g (lw_at lw_m2 136 rfl) rfl
theorem q462 : (Jvm.Cond.methodLink "ShellBeach$Way" (7 : Nat) ({ cls := "java/lang/Object", name := "<init>", desc := "()V" } : Jvm.MethodName)) ∈ lw_all := lw_g (lw_at lw_m2 137 rfl) rfl
theorem q463 : (Jvm.Cond.fieldLink "ShellBeach$Way" (13 : Nat) "ShellBeach$Way" "crab" "LShellBeach$Crab;") ∈ lw_all := lw_g (lw_at lw_m2 138 rfl) rfl
theorem q464 : (Jvm.Cond.fieldLink "ShellBeach$Way" (1 : Nat) "ShellBeach$Way" "this$0" "LShellBeach;") ∈ lw_all := lw_g (lw_at lw_m2 139 rfl) rfl
theorem q465 : (Jvm.Cond.laysFinal "ShellBeach$Way" "ShellBeach$Way" "crab" "LShellBeach$Crab;") ∈ lw_all := lw_g (lw_at lw_m2 140 rfl) rfl
theorem q466 : (Jvm.Cond.soleField "ShellBeach$Way" "crab") ∈ lw_all := lw_g (lw_at lw_m2 141 rfl) rfl
theorem q467 : (Jvm.Cond.laysFinal "ShellBeach$Way" "ShellBeach$Way" "this$0" "LShellBeach;") ∈ lw_all := lw_g (lw_at lw_m2 142 rfl) rfl
theorem q468 : (Jvm.Cond.soleField "ShellBeach$Way" "this$0") ∈ lw_all := lw_g (lw_at lw_m2 143 rfl) rfl
theorem q469 : (Jvm.Cond.superclass "ShellBeach$Way" "java/lang/Object") ∈ lw_all := lw_g (lw_at lw_m2 144 rfl) rfl
theorem q548 : (Jvm.Cond.fieldLinkNest "ShellBeach$Way" (23 : Nat) "ShellBeach$Crab" "number" "I" "ShellBeach") ∈ lw_tbl := lw_at lw_m2 223 rfl
theorem q556 : (Jvm.Cond.fieldLinkNest "ShellBeach$Way" (33 : Nat) "ShellBeach$Crab" "size" "I" "ShellBeach") ∈ lw_tbl := lw_at lw_m2 231 rfl
theorem q664 : (Jvm.Cond.instanceMethod ({ cls := "ShellBeach$Way", name := "kind", desc := "()I" } : Jvm.MethodName)) ∈ lw_all := lw_g (lw_at lw_m3 99 rfl) rfl
theorem q665 : (Jvm.Cond.selects "ShellBeach$Way" ({ cls := "ShellBeach$Way", name := "kind", desc := "()I" } : Jvm.MethodName) ({ cls := "ShellBeach$Way", name := "kind", desc := "()I" } : Jvm.MethodName)) ∈ lw_all := lw_g (lw_at lw_m3 100 rfl) rfl
theorem q666 : (Jvm.Cond.sameMethod "ShellBeach$Way" "ShellBeach$Way" "kind" "()I") ∈ lw_all := lw_g (lw_at lw_m3 101 rfl) rfl
theorem q685 : (Jvm.Cond.code ({ cls := "ShellBeach$Way", name := "kind", desc := "()I" } : Jvm.MethodName) prog_19_method_2_code (1 : Nat) (Option.some Jvm.ClassFile.FieldType.int)) ∈ lw_all := lw_g (lw_at lw_m3 120 rfl) rfl
theorem q1217 : (Jvm.Cond.instanceMethod ({ cls := "ShellBeach$Way", name := "fits", desc := "(I)I" } : Jvm.MethodName)) ∈ lw_all := lw_g (lw_at lw_m5 172 rfl) rfl
theorem q1218 : (Jvm.Cond.selects "ShellBeach$Way" ({ cls := "ShellBeach$Way", name := "fits", desc := "(I)I" } : Jvm.MethodName) ({ cls := "ShellBeach$Way", name := "fits", desc := "(I)I" } : Jvm.MethodName)) ∈ lw_all := lw_g (lw_at lw_m5 173 rfl) rfl
theorem q1219 : (Jvm.Cond.sameMethod "ShellBeach$Way" "ShellBeach$Way" "fits" "(I)I") ∈ lw_all := lw_g (lw_at lw_m5 174 rfl) rfl
theorem q1237 : (Jvm.Cond.code ({ cls := "ShellBeach$Way", name := "fits", desc := "(I)I" } : Jvm.MethodName) prog_19_method_4_code (2 : Nat) (Option.some Jvm.ClassFile.FieldType.int)) ∈ lw_all := lw_g (lw_at lw_m5 192 rfl) rfl
theorem q1238 : (Jvm.Cond.methodLinkNest "ShellBeach$Way" (17 : Nat) ({ cls := "ShellBeach", name := "body", desc := "(I)V" } : Jvm.MethodName) "ShellBeach") ∈ lw_tbl := lw_at lw_m5 193 rfl
theorem q1240 : (Jvm.Cond.instanceMethod ({ cls := "ShellBeach$Way", name := "asks", desc := "(I)I" } : Jvm.MethodName)) ∈ lw_all := lw_g (lw_at lw_m5 195 rfl) rfl
theorem q1241 : (Jvm.Cond.selects "ShellBeach$Way" ({ cls := "ShellBeach$Way", name := "asks", desc := "(I)I" } : Jvm.MethodName) ({ cls := "ShellBeach$Way", name := "asks", desc := "(I)I" } : Jvm.MethodName)) ∈ lw_all := lw_g (lw_at lw_m5 196 rfl) rfl
theorem q1242 : (Jvm.Cond.sameMethod "ShellBeach$Way" "ShellBeach$Way" "asks" "(I)I") ∈ lw_all := lw_g (lw_at lw_m5 197 rfl) rfl
theorem q1257 : (Jvm.Cond.declares ({ cls := "ShellBeach$Way", name := "asks", desc := "(I)I" } : Jvm.MethodName)) ∈ lw_tbl := lw_at lw_m5 212 rfl
theorem q1263 : (Jvm.Cond.code ({ cls := "ShellBeach$Way", name := "asks", desc := "(I)I" } : Jvm.MethodName) prog_19_method_5_code (2 : Nat) (Option.some Jvm.ClassFile.FieldType.int)) ∈ lw_all := lw_g (lw_at lw_m5 218 rfl) rfl
theorem q1264 : (Jvm.Cond.methodLink "ShellBeach$Way" (29 : Nat) ({ cls := "ShellBeach$Way", name := "fits", desc := "(I)I" } : Jvm.MethodName)) ∈ lw_all := lw_g (lw_at lw_m5 219 rfl) rfl
theorem q1266 : (Jvm.Cond.instanceMethod ({ cls := "ShellBeach$Way", name := "moves", desc := "(I)I" } : Jvm.MethodName)) ∈ lw_all := lw_g (lw_at lw_m5 221 rfl) rfl
theorem q1267 : (Jvm.Cond.selects "ShellBeach$Way" ({ cls := "ShellBeach$Way", name := "moves", desc := "(I)I" } : Jvm.MethodName) ({ cls := "ShellBeach$Way", name := "moves", desc := "(I)I" } : Jvm.MethodName)) ∈ lw_all := lw_g (lw_at lw_m5 222 rfl) rfl
theorem q1268 : (Jvm.Cond.sameMethod "ShellBeach$Way" "ShellBeach$Way" "moves" "(I)I") ∈ lw_all := lw_g (lw_at lw_m5 223 rfl) rfl
theorem q1282 : (Jvm.Cond.declares ({ cls := "ShellBeach$Way", name := "moves", desc := "(I)I" } : Jvm.MethodName)) ∈ lw_tbl := lw_at lw_m5 237 rfl
theorem q1285 : (Jvm.Cond.code ({ cls := "ShellBeach$Way", name := "moves", desc := "(I)I" } : Jvm.MethodName) prog_19_method_6_code (2 : Nat) (Option.some Jvm.ClassFile.FieldType.int)) ∈ lw_all := lw_g (lw_at lw_m6 0 rfl) rfl
theorem q1286 : (Jvm.Cond.methodLink "ShellBeach$Way" (36 : Nat) ({ cls := "ShellBeach$Way", name := "asks", desc := "(I)I" } : Jvm.MethodName)) ∈ lw_all := lw_g (lw_at lw_m6 1 rfl) rfl
theorem q1296 : (Jvm.Cond.instanceMethod ({ cls := "ShellBeach$Way", name := "isUnder", desc := "(I)Z" } : Jvm.MethodName)) ∈ lw_all := lw_g (lw_at lw_m6 11 rfl) rfl
theorem q1297 : (Jvm.Cond.selects "ShellBeach$Way" ({ cls := "ShellBeach$Way", name := "isUnder", desc := "(I)Z" } : Jvm.MethodName) ({ cls := "ShellBeach$Way", name := "isUnder", desc := "(I)Z" } : Jvm.MethodName)) ∈ lw_all := lw_g (lw_at lw_m6 12 rfl) rfl
theorem q1298 : (Jvm.Cond.sameMethod "ShellBeach$Way" "ShellBeach$Way" "isUnder" "(I)Z") ∈ lw_all := lw_g (lw_at lw_m6 13 rfl) rfl
theorem q1323 : (Jvm.Cond.code ({ cls := "ShellBeach$Way", name := "isUnder", desc := "(I)Z" } : Jvm.MethodName) prog_19_method_3_code (2 : Nat) (Option.some Jvm.ClassFile.FieldType.boolean)) ∈ lw_all := lw_g (lw_at lw_m6 38 rfl) rfl
theorem q1874 : (Jvm.Cond.castable "ShellBeach$Way" "java/lang/Object") ∈ lw_tbl := lw_at lw_m8 109 rfl
theorem in_X6 : ∀ w ∈ wsX60, w ∈ lw_all := lw_in wsX60 [465, 467] (by decide +kernel) (by decide +kernel)
/-! ShellBeach$Housed -/
def RX7 : String := "ShellBeach$Housed"
def TX7 : u_T := fun k => match k with
  | 0 => ("ShellBeach$Way", "crab", "LShellBeach$Crab;", true)
  | 1 => ("ShellBeach$Way", "this$0", "LShellBeach;", true)
  | _ => ("ShellBeach$Housed", "this$0", "LShellBeach;", true)
def tyX7 : Nat → FieldType := fun k => match k with
  | 0 => .object "ShellBeach$Crab"
  | 1 => .object "ShellBeach"
  | _ => .object "ShellBeach"
abbrev wsX70 : List Cond := u_ws RX7 TX7 3
-- two fields of one name: no nmX7
theorem tyX7_ok : ∀ k, k < 3 → parseFieldDescriptor (TX7 k).2.2.1 = some (tyX7 k) := by decide +kernel
abbrev cX7_init : ByteArray := prog_9_method_1_code
def yX7_init : MethodName := ⟨RX7, "<init>", "(LShellBeach;LShellBeach$Crab;)V"⟩
theorem dX7_init_0 : decode cX7_init 0 = .ok (.aload_n 0, 1) := by decide +kernel
theorem dX7_init_1 : decode cX7_init 1 = .ok (.aload_n 1, 1) := by decide +kernel
theorem dX7_init_2 : decode cX7_init 2 = .ok (.putfield 1, 3) := by decide +kernel
theorem dX7_init_5 : decode cX7_init 5 = .ok (.aload_n 0, 1) := by decide +kernel
theorem dX7_init_6 : decode cX7_init 6 = .ok (.aload_n 1, 1) := by decide +kernel
theorem dX7_init_7 : decode cX7_init 7 = .ok (.aload_n 2, 1) := by decide +kernel
theorem dX7_init_8 : decode cX7_init 8 = .ok (.invokespecial 7, 3) := by decide +kernel
theorem dX7_init_11 : decode cX7_init 11 = .ok (.return_, 1) := by decide +kernel
abbrev cX7_kind : ByteArray := prog_9_method_2_code
def yX7_kind : MethodName := ⟨RX7, "kind", "()I"⟩
theorem dX7_kind_0 : decode cX7_kind 0 = .ok (.iconst 1, 1) := by decide +kernel
theorem dX7_kind_1 : decode cX7_kind 1 = .ok (.ireturn, 1) := by decide +kernel
abbrev cX7_fits : ByteArray := prog_9_method_4_code
def yX7_fits : MethodName := ⟨RX7, "fits", "(I)I"⟩
theorem dX7_fits_0 : decode cX7_fits 0 = .ok (.aload_n 0, 1) := by decide +kernel
theorem dX7_fits_1 : decode cX7_fits 1 = .ok (.getfield 1, 3) := by decide +kernel
theorem dX7_fits_4 : decode cX7_fits 4 = .ok (.bipush 11, 2) := by decide +kernel
theorem dX7_fits_6 : decode cX7_fits 6 = .ok (.invokevirtual 17, 3) := by decide +kernel
theorem dX7_fits_9 : decode cX7_fits 9 = .ok (.aload_n 0, 1) := by decide +kernel
theorem dX7_fits_10 : decode cX7_fits 10 = .ok (.iload_n 1, 1) := by decide +kernel
theorem dX7_fits_11 : decode cX7_fits 11 = .ok (.iconst 2, 1) := by decide +kernel
theorem dX7_fits_12 : decode cX7_fits 12 = .ok (.imul, 1) := by decide +kernel
theorem dX7_fits_13 : decode cX7_fits 13 = .ok (.invokespecial 23, 3) := by decide +kernel
theorem dX7_fits_16 : decode cX7_fits 16 = .ok (.ireturn, 1) := by decide +kernel
abbrev cX7_isUnder : ByteArray := prog_9_method_3_code
def yX7_isUnder : MethodName := ⟨RX7, "isUnder", "(I)Z"⟩
theorem dX7_isUnder_0 : decode cX7_isUnder 0 = .ok (.iload_n 1, 1) := by decide +kernel
theorem dX7_isUnder_1 : decode cX7_isUnder 1 = .ok (.iconst 1, 1) := by decide +kernel
theorem dX7_isUnder_2 : decode cX7_isUnder 2 = .ok (.if_icmp .eq 11, 3) := by decide +kernel
theorem dX7_isUnder_5 : decode cX7_isUnder 5 = .ok (.aload_n 0, 1) := by decide +kernel
theorem dX7_isUnder_6 : decode cX7_isUnder 6 = .ok (.iload_n 1, 1) := by decide +kernel
theorem dX7_isUnder_7 : decode cX7_isUnder 7 = .ok (.invokespecial 13, 3) := by decide +kernel
theorem dX7_isUnder_10 : decode cX7_isUnder 10 = .ok (.ifCond .eq 7, 3) := by decide +kernel
theorem dX7_isUnder_13 : decode cX7_isUnder 13 = .ok (.iconst 1, 1) := by decide +kernel
theorem dX7_isUnder_14 : decode cX7_isUnder 14 = .ok (.goto 4, 3) := by decide +kernel
theorem dX7_isUnder_17 : decode cX7_isUnder 17 = .ok (.iconst 0, 1) := by decide +kernel
theorem dX7_isUnder_18 : decode cX7_isUnder 18 = .ok (.ireturn, 1) := by decide +kernel
theorem q102 : (Jvm.Cond.initialized "ShellBeach$Housed") ∈ lw_all := lw_g (lw_at lw_m1 17 rfl) rfl
theorem q397 : (Jvm.Cond.selects "ShellBeach$Housed" ({ cls := "java/lang/Object", name := "getClass", desc := "()Ljava/lang/Class;" } : Jvm.MethodName) ({ cls := "java/lang/Object", name := "getClass", desc := "()Ljava/lang/Class;" } : Jvm.MethodName)) ∈ lw_all := lw_g (lw_at lw_m2 72 rfl) rfl
theorem q471 : (Jvm.Cond.instantiable "ShellBeach$Housed" (3 : Nat)) ∈ lw_all := lw_g (lw_at lw_m2 146 rfl) rfl
theorem q473 : (Jvm.Cond.instanceMethod ({ cls := "ShellBeach$Housed", name := "<init>", desc := "(LShellBeach;LShellBeach$Crab;)V" } : Jvm.MethodName)) ∈ lw_all := lw_g (lw_at lw_m2 148 rfl) rfl
theorem q474 : (Jvm.Cond.code ({ cls := "ShellBeach$Housed", name := "<init>", desc := "(LShellBeach;LShellBeach$Crab;)V" } : Jvm.MethodName) prog_9_method_1_code (3 : Nat) (Option.none : Option Jvm.ClassFile.FieldType)) ∈ lw_all := lw_g (lw_at lw_m2 149 rfl) rfl
theorem q475 : (Jvm.Cond.methodLink "ShellBeach$Housed" (7 : Nat) ({ cls := "ShellBeach$Way", name := "<init>", desc := "(LShellBeach;LShellBeach$Crab;)V" } : Jvm.MethodName)) ∈ lw_all := lw_g (lw_at lw_m2 150 rfl) rfl
theorem q476 : (Jvm.Cond.fieldLink "ShellBeach$Housed" (1 : Nat) "ShellBeach$Housed" "this$0" "LShellBeach;") ∈ lw_all := lw_g (lw_at lw_m2 151 rfl) rfl
theorem q477 : (Jvm.Cond.laysFinal "ShellBeach$Housed" "ShellBeach$Housed" "this$0" "LShellBeach;") ∈ lw_all := lw_g (lw_at lw_m2 152 rfl) rfl
theorem q478 : (Jvm.Cond.soleField "ShellBeach$Housed" "this$0") ∈ lw_all := lw_g (lw_at lw_m2 153 rfl) rfl
theorem q479 : (Jvm.Cond.laysFinal "ShellBeach$Housed" "ShellBeach$Way" "crab" "LShellBeach$Crab;") ∈ lw_all := lw_g (lw_at lw_m2 154 rfl) rfl
theorem q480 : (Jvm.Cond.laysFinal "ShellBeach$Housed" "ShellBeach$Way" "this$0" "LShellBeach;") ∈ lw_all := lw_g (lw_at lw_m2 155 rfl) rfl
theorem q481 : (Jvm.Cond.superclass "ShellBeach$Housed" "ShellBeach$Way") ∈ lw_all := lw_g (lw_at lw_m2 156 rfl) rfl
theorem q673 : (Jvm.Cond.selects "ShellBeach$Housed" ({ cls := "ShellBeach$Way", name := "kind", desc := "()I" } : Jvm.MethodName) ({ cls := "ShellBeach$Housed", name := "kind", desc := "()I" } : Jvm.MethodName)) ∈ lw_all := lw_g (lw_at lw_m3 108 rfl) rfl
theorem q674 : (Jvm.Cond.instanceMethod ({ cls := "ShellBeach$Housed", name := "kind", desc := "()I" } : Jvm.MethodName)) ∈ lw_all := lw_g (lw_at lw_m3 109 rfl) rfl
theorem q675 : (Jvm.Cond.code ({ cls := "ShellBeach$Housed", name := "kind", desc := "()I" } : Jvm.MethodName) prog_9_method_2_code (1 : Nat) (Option.some Jvm.ClassFile.FieldType.int)) ∈ lw_all := lw_g (lw_at lw_m3 110 rfl) rfl
theorem q1229 : (Jvm.Cond.selects "ShellBeach$Housed" ({ cls := "ShellBeach$Way", name := "fits", desc := "(I)I" } : Jvm.MethodName) ({ cls := "ShellBeach$Housed", name := "fits", desc := "(I)I" } : Jvm.MethodName)) ∈ lw_all := lw_g (lw_at lw_m5 184 rfl) rfl
theorem q1230 : (Jvm.Cond.instanceMethod ({ cls := "ShellBeach$Housed", name := "fits", desc := "(I)I" } : Jvm.MethodName)) ∈ lw_all := lw_g (lw_at lw_m5 185 rfl) rfl
theorem q1231 : (Jvm.Cond.code ({ cls := "ShellBeach$Housed", name := "fits", desc := "(I)I" } : Jvm.MethodName) prog_9_method_4_code (2 : Nat) (Option.some Jvm.ClassFile.FieldType.int)) ∈ lw_all := lw_g (lw_at lw_m5 186 rfl) rfl
theorem q1232 : (Jvm.Cond.methodLinkNest "ShellBeach$Housed" (17 : Nat) ({ cls := "ShellBeach", name := "body", desc := "(I)V" } : Jvm.MethodName) "ShellBeach") ∈ lw_tbl := lw_at lw_m5 187 rfl
theorem q1233 : (Jvm.Cond.methodLink "ShellBeach$Housed" (23 : Nat) ({ cls := "ShellBeach$Way", name := "fits", desc := "(I)I" } : Jvm.MethodName)) ∈ lw_all := lw_g (lw_at lw_m5 188 rfl) rfl
theorem q1245 : (Jvm.Cond.selects "ShellBeach$Housed" ({ cls := "ShellBeach$Way", name := "asks", desc := "(I)I" } : Jvm.MethodName) ({ cls := "ShellBeach$Way", name := "asks", desc := "(I)I" } : Jvm.MethodName)) ∈ lw_all := lw_g (lw_at lw_m5 200 rfl) rfl
theorem q1256 : (Jvm.Cond.sameMethod "ShellBeach$Housed" "ShellBeach$Way" "asks" "(I)I") ∈ lw_all := lw_g (lw_at lw_m5 211 rfl) rfl
theorem q1260 : (Jvm.Cond.declares ({ cls := "ShellBeach$Housed", name := "fits", desc := "(I)I" } : Jvm.MethodName)) ∈ lw_tbl := lw_at lw_m5 215 rfl
theorem q1275 : (Jvm.Cond.selects "ShellBeach$Housed" ({ cls := "ShellBeach$Way", name := "moves", desc := "(I)I" } : Jvm.MethodName) ({ cls := "ShellBeach$Way", name := "moves", desc := "(I)I" } : Jvm.MethodName)) ∈ lw_all := lw_g (lw_at lw_m5 230 rfl) rfl
theorem q1281 : (Jvm.Cond.sameMethod "ShellBeach$Housed" "ShellBeach$Way" "moves" "(I)I") ∈ lw_all := lw_g (lw_at lw_m5 236 rfl) rfl
theorem q1307 : (Jvm.Cond.selects "ShellBeach$Housed" ({ cls := "ShellBeach$Way", name := "isUnder", desc := "(I)Z" } : Jvm.MethodName) ({ cls := "ShellBeach$Housed", name := "isUnder", desc := "(I)Z" } : Jvm.MethodName)) ∈ lw_all := lw_g (lw_at lw_m6 22 rfl) rfl
theorem q1308 : (Jvm.Cond.instanceMethod ({ cls := "ShellBeach$Housed", name := "isUnder", desc := "(I)Z" } : Jvm.MethodName)) ∈ lw_all := lw_g (lw_at lw_m6 23 rfl) rfl
theorem q1309 : (Jvm.Cond.code ({ cls := "ShellBeach$Housed", name := "isUnder", desc := "(I)Z" } : Jvm.MethodName) prog_9_method_3_code (2 : Nat) (Option.some Jvm.ClassFile.FieldType.boolean)) ∈ lw_all := lw_g (lw_at lw_m6 24 rfl) rfl
theorem q1310 : (Jvm.Cond.methodLink "ShellBeach$Housed" (13 : Nat) ({ cls := "ShellBeach$Way", name := "isUnder", desc := "(I)Z" } : Jvm.MethodName)) ∈ lw_all := lw_g (lw_at lw_m6 25 rfl) rfl
theorem q1870 : (Jvm.Cond.sameMethod "ShellBeach$Housed" "ShellBeach$Housed" "isUnder" "(I)Z") ∈ lw_all := lw_g (lw_at lw_m8 105 rfl) rfl
theorem q1881 : (Jvm.Cond.castable "ShellBeach$Housed" "java/lang/Object") ∈ lw_tbl := lw_at lw_m8 116 rfl
theorem q1895 : (Jvm.Cond.castable "ShellBeach$Housed" "ShellBeach$Way") ∈ lw_tbl := lw_at lw_m8 130 rfl
theorem in_X7 : ∀ w ∈ wsX70, w ∈ lw_all := lw_in wsX70 [479, 480, 477] (by decide +kernel) (by decide +kernel)
/-! ShellBeach$Bare -/
def RX8 : String := "ShellBeach$Bare"
def TX8 : u_T := fun k => match k with
  | 0 => ("ShellBeach$Way", "crab", "LShellBeach$Crab;", true)
  | 1 => ("ShellBeach$Way", "this$0", "LShellBeach;", true)
  | _ => ("ShellBeach$Bare", "this$0", "LShellBeach;", true)
def tyX8 : Nat → FieldType := fun k => match k with
  | 0 => .object "ShellBeach$Crab"
  | 1 => .object "ShellBeach"
  | _ => .object "ShellBeach"
abbrev wsX80 : List Cond := u_ws RX8 TX8 3
-- two fields of one name: no nmX8
theorem tyX8_ok : ∀ k, k < 3 → parseFieldDescriptor (TX8 k).2.2.1 = some (tyX8 k) := by decide +kernel
abbrev cX8_init : ByteArray := prog_2_method_1_code
def yX8_init : MethodName := ⟨RX8, "<init>", "(LShellBeach;LShellBeach$Crab;)V"⟩
theorem dX8_init_0 : decode cX8_init 0 = .ok (.aload_n 0, 1) := by decide +kernel
theorem dX8_init_1 : decode cX8_init 1 = .ok (.aload_n 1, 1) := by decide +kernel
theorem dX8_init_2 : decode cX8_init 2 = .ok (.putfield 1, 3) := by decide +kernel
theorem dX8_init_5 : decode cX8_init 5 = .ok (.aload_n 0, 1) := by decide +kernel
theorem dX8_init_6 : decode cX8_init 6 = .ok (.aload_n 1, 1) := by decide +kernel
theorem dX8_init_7 : decode cX8_init 7 = .ok (.aload_n 2, 1) := by decide +kernel
theorem dX8_init_8 : decode cX8_init 8 = .ok (.invokespecial 7, 3) := by decide +kernel
theorem dX8_init_11 : decode cX8_init 11 = .ok (.return_, 1) := by decide +kernel
abbrev cX8_kind : ByteArray := prog_2_method_2_code
def yX8_kind : MethodName := ⟨RX8, "kind", "()I"⟩
theorem dX8_kind_0 : decode cX8_kind 0 = .ok (.iconst 2, 1) := by decide +kernel
theorem dX8_kind_1 : decode cX8_kind 1 = .ok (.ireturn, 1) := by decide +kernel
abbrev cX8_moves : ByteArray := prog_2_method_4_code
def yX8_moves : MethodName := ⟨RX8, "moves", "(I)I"⟩
theorem dX8_moves_0 : decode cX8_moves 0 = .ok (.aload_n 0, 1) := by decide +kernel
theorem dX8_moves_1 : decode cX8_moves 1 = .ok (.getfield 1, 3) := by decide +kernel
theorem dX8_moves_4 : decode cX8_moves 4 = .ok (.bipush 21, 2) := by decide +kernel
theorem dX8_moves_6 : decode cX8_moves 6 = .ok (.invokevirtual 17, 3) := by decide +kernel
theorem dX8_moves_9 : decode cX8_moves 9 = .ok (.aload_n 0, 1) := by decide +kernel
theorem dX8_moves_10 : decode cX8_moves 10 = .ok (.iload_n 1, 1) := by decide +kernel
theorem dX8_moves_11 : decode cX8_moves 11 = .ok (.invokespecial 23, 3) := by decide +kernel
theorem dX8_moves_14 : decode cX8_moves 14 = .ok (.ineg, 1) := by decide +kernel
theorem dX8_moves_15 : decode cX8_moves 15 = .ok (.ireturn, 1) := by decide +kernel
abbrev cX8_isUnder : ByteArray := prog_2_method_3_code
def yX8_isUnder : MethodName := ⟨RX8, "isUnder", "(I)Z"⟩
theorem dX8_isUnder_0 : decode cX8_isUnder 0 = .ok (.iload_n 1, 1) := by decide +kernel
theorem dX8_isUnder_1 : decode cX8_isUnder 1 = .ok (.iconst 2, 1) := by decide +kernel
theorem dX8_isUnder_2 : decode cX8_isUnder 2 = .ok (.if_icmp .eq 11, 3) := by decide +kernel
theorem dX8_isUnder_5 : decode cX8_isUnder 5 = .ok (.aload_n 0, 1) := by decide +kernel
theorem dX8_isUnder_6 : decode cX8_isUnder 6 = .ok (.iload_n 1, 1) := by decide +kernel
theorem dX8_isUnder_7 : decode cX8_isUnder 7 = .ok (.invokespecial 13, 3) := by decide +kernel
theorem dX8_isUnder_10 : decode cX8_isUnder 10 = .ok (.ifCond .eq 7, 3) := by decide +kernel
theorem dX8_isUnder_13 : decode cX8_isUnder 13 = .ok (.iconst 1, 1) := by decide +kernel
theorem dX8_isUnder_14 : decode cX8_isUnder 14 = .ok (.goto 4, 3) := by decide +kernel
theorem dX8_isUnder_17 : decode cX8_isUnder 17 = .ok (.iconst 0, 1) := by decide +kernel
theorem dX8_isUnder_18 : decode cX8_isUnder 18 = .ok (.ireturn, 1) := by decide +kernel
theorem q103 : (Jvm.Cond.initialized "ShellBeach$Bare") ∈ lw_all := lw_g (lw_at lw_m1 18 rfl) rfl
theorem q390 : (Jvm.Cond.selects "ShellBeach$Bare" ({ cls := "java/lang/Object", name := "getClass", desc := "()Ljava/lang/Class;" } : Jvm.MethodName) ({ cls := "java/lang/Object", name := "getClass", desc := "()Ljava/lang/Class;" } : Jvm.MethodName)) ∈ lw_all := lw_g (lw_at lw_m2 65 rfl) rfl
theorem q483 : (Jvm.Cond.instantiable "ShellBeach$Bare" (3 : Nat)) ∈ lw_all := lw_g (lw_at lw_m2 158 rfl) rfl
theorem q485 : (Jvm.Cond.instanceMethod ({ cls := "ShellBeach$Bare", name := "<init>", desc := "(LShellBeach;LShellBeach$Crab;)V" } : Jvm.MethodName)) ∈ lw_all := lw_g (lw_at lw_m2 160 rfl) rfl
theorem q486 : (Jvm.Cond.code ({ cls := "ShellBeach$Bare", name := "<init>", desc := "(LShellBeach;LShellBeach$Crab;)V" } : Jvm.MethodName) prog_2_method_1_code (3 : Nat) (Option.none : Option Jvm.ClassFile.FieldType)) ∈ lw_all := lw_g (lw_at lw_m2 161 rfl) rfl
theorem q487 : (Jvm.Cond.methodLink "ShellBeach$Bare" (7 : Nat) ({ cls := "ShellBeach$Way", name := "<init>", desc := "(LShellBeach;LShellBeach$Crab;)V" } : Jvm.MethodName)) ∈ lw_all := lw_g (lw_at lw_m2 162 rfl) rfl
theorem q488 : (Jvm.Cond.fieldLink "ShellBeach$Bare" (1 : Nat) "ShellBeach$Bare" "this$0" "LShellBeach;") ∈ lw_all := lw_g (lw_at lw_m2 163 rfl) rfl
theorem q489 : (Jvm.Cond.laysFinal "ShellBeach$Bare" "ShellBeach$Bare" "this$0" "LShellBeach;") ∈ lw_all := lw_g (lw_at lw_m2 164 rfl) rfl
theorem q490 : (Jvm.Cond.soleField "ShellBeach$Bare" "this$0") ∈ lw_all := lw_g (lw_at lw_m2 165 rfl) rfl
theorem q491 : (Jvm.Cond.laysFinal "ShellBeach$Bare" "ShellBeach$Way" "crab" "LShellBeach$Crab;") ∈ lw_all := lw_g (lw_at lw_m2 166 rfl) rfl
theorem q492 : (Jvm.Cond.laysFinal "ShellBeach$Bare" "ShellBeach$Way" "this$0" "LShellBeach;") ∈ lw_all := lw_g (lw_at lw_m2 167 rfl) rfl
theorem q493 : (Jvm.Cond.superclass "ShellBeach$Bare" "ShellBeach$Way") ∈ lw_all := lw_g (lw_at lw_m2 168 rfl) rfl
theorem q667 : (Jvm.Cond.selects "ShellBeach$Bare" ({ cls := "ShellBeach$Way", name := "kind", desc := "()I" } : Jvm.MethodName) ({ cls := "ShellBeach$Bare", name := "kind", desc := "()I" } : Jvm.MethodName)) ∈ lw_all := lw_g (lw_at lw_m3 102 rfl) rfl
theorem q668 : (Jvm.Cond.instanceMethod ({ cls := "ShellBeach$Bare", name := "kind", desc := "()I" } : Jvm.MethodName)) ∈ lw_all := lw_g (lw_at lw_m3 103 rfl) rfl
theorem q669 : (Jvm.Cond.code ({ cls := "ShellBeach$Bare", name := "kind", desc := "()I" } : Jvm.MethodName) prog_2_method_2_code (1 : Nat) (Option.some Jvm.ClassFile.FieldType.int)) ∈ lw_all := lw_g (lw_at lw_m3 104 rfl) rfl
theorem q1220 : (Jvm.Cond.selects "ShellBeach$Bare" ({ cls := "ShellBeach$Way", name := "fits", desc := "(I)I" } : Jvm.MethodName) ({ cls := "ShellBeach$Way", name := "fits", desc := "(I)I" } : Jvm.MethodName)) ∈ lw_all := lw_g (lw_at lw_m5 175 rfl) rfl
theorem q1243 : (Jvm.Cond.selects "ShellBeach$Bare" ({ cls := "ShellBeach$Way", name := "asks", desc := "(I)I" } : Jvm.MethodName) ({ cls := "ShellBeach$Way", name := "asks", desc := "(I)I" } : Jvm.MethodName)) ∈ lw_all := lw_g (lw_at lw_m5 198 rfl) rfl
theorem q1269 : (Jvm.Cond.selects "ShellBeach$Bare" ({ cls := "ShellBeach$Way", name := "moves", desc := "(I)I" } : Jvm.MethodName) ({ cls := "ShellBeach$Bare", name := "moves", desc := "(I)I" } : Jvm.MethodName)) ∈ lw_all := lw_g (lw_at lw_m5 224 rfl) rfl
theorem q1270 : (Jvm.Cond.instanceMethod ({ cls := "ShellBeach$Bare", name := "moves", desc := "(I)I" } : Jvm.MethodName)) ∈ lw_all := lw_g (lw_at lw_m5 225 rfl) rfl
theorem q1271 : (Jvm.Cond.code ({ cls := "ShellBeach$Bare", name := "moves", desc := "(I)I" } : Jvm.MethodName) prog_2_method_4_code (2 : Nat) (Option.some Jvm.ClassFile.FieldType.int)) ∈ lw_all := lw_g (lw_at lw_m5 226 rfl) rfl
theorem q1272 : (Jvm.Cond.methodLinkNest "ShellBeach$Bare" (17 : Nat) ({ cls := "ShellBeach", name := "body", desc := "(I)V" } : Jvm.MethodName) "ShellBeach") ∈ lw_tbl := lw_at lw_m5 227 rfl
theorem q1273 : (Jvm.Cond.methodLink "ShellBeach$Bare" (23 : Nat) ({ cls := "ShellBeach$Way", name := "moves", desc := "(I)I" } : Jvm.MethodName)) ∈ lw_all := lw_g (lw_at lw_m5 228 rfl) rfl
theorem q1299 : (Jvm.Cond.selects "ShellBeach$Bare" ({ cls := "ShellBeach$Way", name := "isUnder", desc := "(I)Z" } : Jvm.MethodName) ({ cls := "ShellBeach$Bare", name := "isUnder", desc := "(I)Z" } : Jvm.MethodName)) ∈ lw_all := lw_g (lw_at lw_m6 14 rfl) rfl
theorem q1300 : (Jvm.Cond.instanceMethod ({ cls := "ShellBeach$Bare", name := "isUnder", desc := "(I)Z" } : Jvm.MethodName)) ∈ lw_all := lw_g (lw_at lw_m6 15 rfl) rfl
theorem q1301 : (Jvm.Cond.code ({ cls := "ShellBeach$Bare", name := "isUnder", desc := "(I)Z" } : Jvm.MethodName) prog_2_method_3_code (2 : Nat) (Option.some Jvm.ClassFile.FieldType.boolean)) ∈ lw_all := lw_g (lw_at lw_m6 16 rfl) rfl
theorem q1302 : (Jvm.Cond.methodLink "ShellBeach$Bare" (13 : Nat) ({ cls := "ShellBeach$Way", name := "isUnder", desc := "(I)Z" } : Jvm.MethodName)) ∈ lw_all := lw_g (lw_at lw_m6 17 rfl) rfl
theorem q1882 : (Jvm.Cond.castable "ShellBeach$Bare" "java/lang/Object") ∈ lw_tbl := lw_at lw_m8 117 rfl
theorem q1896 : (Jvm.Cond.castable "ShellBeach$Bare" "ShellBeach$Way") ∈ lw_tbl := lw_at lw_m8 131 rfl
theorem in_X8 : ∀ w ∈ wsX80, w ∈ lw_all := lw_in wsX80 [491, 492, 489] (by decide +kernel) (by decide +kernel)
/-! ShellBeach$Waiting -/
def RX9 : String := "ShellBeach$Waiting"
def TX9 : u_T := fun k => match k with
  | 0 => ("ShellBeach$Way", "crab", "LShellBeach$Crab;", true)
  | 1 => ("ShellBeach$Way", "this$0", "LShellBeach;", true)
  | 2 => ("ShellBeach$Housed", "this$0", "LShellBeach;", true)
  | _ => ("ShellBeach$Waiting", "this$0", "LShellBeach;", true)
def tyX9 : Nat → FieldType := fun k => match k with
  | 0 => .object "ShellBeach$Crab"
  | 1 => .object "ShellBeach"
  | 2 => .object "ShellBeach"
  | _ => .object "ShellBeach"
abbrev wsX90 : List Cond := u_ws RX9 TX9 4
-- two fields of one name: no nmX9
theorem tyX9_ok : ∀ k, k < 4 → parseFieldDescriptor (TX9 k).2.2.1 = some (tyX9 k) := by decide +kernel
abbrev cX9_init : ByteArray := prog_18_method_1_code
def yX9_init : MethodName := ⟨RX9, "<init>", "(LShellBeach;LShellBeach$Crab;)V"⟩
theorem dX9_init_0 : decode cX9_init 0 = .ok (.aload_n 0, 1) := by decide +kernel
theorem dX9_init_1 : decode cX9_init 1 = .ok (.aload_n 1, 1) := by decide +kernel
theorem dX9_init_2 : decode cX9_init 2 = .ok (.putfield 1, 3) := by decide +kernel
theorem dX9_init_5 : decode cX9_init 5 = .ok (.aload_n 0, 1) := by decide +kernel
theorem dX9_init_6 : decode cX9_init 6 = .ok (.aload_n 1, 1) := by decide +kernel
theorem dX9_init_7 : decode cX9_init 7 = .ok (.aload_n 2, 1) := by decide +kernel
theorem dX9_init_8 : decode cX9_init 8 = .ok (.invokespecial 7, 3) := by decide +kernel
theorem dX9_init_11 : decode cX9_init 11 = .ok (.return_, 1) := by decide +kernel
abbrev cX9_kind : ByteArray := prog_18_method_2_code
def yX9_kind : MethodName := ⟨RX9, "kind", "()I"⟩
theorem dX9_kind_0 : decode cX9_kind 0 = .ok (.iconst 3, 1) := by decide +kernel
theorem dX9_kind_1 : decode cX9_kind 1 = .ok (.ireturn, 1) := by decide +kernel
abbrev cX9_asks : ByteArray := prog_18_method_4_code
def yX9_asks : MethodName := ⟨RX9, "asks", "(I)I"⟩
theorem dX9_asks_0 : decode cX9_asks 0 = .ok (.aload_n 0, 1) := by decide +kernel
theorem dX9_asks_1 : decode cX9_asks 1 = .ok (.getfield 1, 3) := by decide +kernel
theorem dX9_asks_4 : decode cX9_asks 4 = .ok (.bipush 31, 2) := by decide +kernel
theorem dX9_asks_6 : decode cX9_asks 6 = .ok (.invokevirtual 17, 3) := by decide +kernel
theorem dX9_asks_9 : decode cX9_asks 9 = .ok (.aload_n 0, 1) := by decide +kernel
theorem dX9_asks_10 : decode cX9_asks 10 = .ok (.iload_n 1, 1) := by decide +kernel
theorem dX9_asks_11 : decode cX9_asks 11 = .ok (.invokespecial 23, 3) := by decide +kernel
theorem dX9_asks_14 : decode cX9_asks 14 = .ok (.iconst 3, 1) := by decide +kernel
theorem dX9_asks_15 : decode cX9_asks 15 = .ok (.ixor, 1) := by decide +kernel
theorem dX9_asks_16 : decode cX9_asks 16 = .ok (.ireturn, 1) := by decide +kernel
abbrev cX9_isUnder : ByteArray := prog_18_method_3_code
def yX9_isUnder : MethodName := ⟨RX9, "isUnder", "(I)Z"⟩
theorem dX9_isUnder_0 : decode cX9_isUnder 0 = .ok (.iload_n 1, 1) := by decide +kernel
theorem dX9_isUnder_1 : decode cX9_isUnder 1 = .ok (.iconst 3, 1) := by decide +kernel
theorem dX9_isUnder_2 : decode cX9_isUnder 2 = .ok (.if_icmp .eq 11, 3) := by decide +kernel
theorem dX9_isUnder_5 : decode cX9_isUnder 5 = .ok (.aload_n 0, 1) := by decide +kernel
theorem dX9_isUnder_6 : decode cX9_isUnder 6 = .ok (.iload_n 1, 1) := by decide +kernel
theorem dX9_isUnder_7 : decode cX9_isUnder 7 = .ok (.invokespecial 13, 3) := by decide +kernel
theorem dX9_isUnder_10 : decode cX9_isUnder 10 = .ok (.ifCond .eq 7, 3) := by decide +kernel
theorem dX9_isUnder_13 : decode cX9_isUnder 13 = .ok (.iconst 1, 1) := by decide +kernel
theorem dX9_isUnder_14 : decode cX9_isUnder 14 = .ok (.goto 4, 3) := by decide +kernel
theorem dX9_isUnder_17 : decode cX9_isUnder 17 = .ok (.iconst 0, 1) := by decide +kernel
theorem dX9_isUnder_18 : decode cX9_isUnder 18 = .ok (.ireturn, 1) := by decide +kernel
theorem q104 : (Jvm.Cond.initialized "ShellBeach$Waiting") ∈ lw_all := lw_g (lw_at lw_m1 19 rfl) rfl
theorem q405 : (Jvm.Cond.selects "ShellBeach$Waiting" ({ cls := "java/lang/Object", name := "getClass", desc := "()Ljava/lang/Class;" } : Jvm.MethodName) ({ cls := "java/lang/Object", name := "getClass", desc := "()Ljava/lang/Class;" } : Jvm.MethodName)) ∈ lw_all := lw_g (lw_at lw_m2 80 rfl) rfl
theorem q495 : (Jvm.Cond.instantiable "ShellBeach$Waiting" (4 : Nat)) ∈ lw_all := lw_g (lw_at lw_m2 170 rfl) rfl
theorem q497 : (Jvm.Cond.instanceMethod ({ cls := "ShellBeach$Waiting", name := "<init>", desc := "(LShellBeach;LShellBeach$Crab;)V" } : Jvm.MethodName)) ∈ lw_all := lw_g (lw_at lw_m2 172 rfl) rfl
theorem q498 : (Jvm.Cond.code ({ cls := "ShellBeach$Waiting", name := "<init>", desc := "(LShellBeach;LShellBeach$Crab;)V" } : Jvm.MethodName) prog_18_method_1_code (3 : Nat) (Option.none : Option Jvm.ClassFile.FieldType)) ∈ lw_all := lw_g (lw_at lw_m2 173 rfl) rfl
theorem q499 : (Jvm.Cond.methodLink "ShellBeach$Waiting" (7 : Nat) ({ cls := "ShellBeach$Housed", name := "<init>", desc := "(LShellBeach;LShellBeach$Crab;)V" } : Jvm.MethodName)) ∈ lw_all := lw_g (lw_at lw_m2 174 rfl) rfl
theorem q500 : (Jvm.Cond.fieldLink "ShellBeach$Waiting" (1 : Nat) "ShellBeach$Waiting" "this$0" "LShellBeach;") ∈ lw_all := lw_g (lw_at lw_m2 175 rfl) rfl
theorem q501 : (Jvm.Cond.laysFinal "ShellBeach$Waiting" "ShellBeach$Waiting" "this$0" "LShellBeach;") ∈ lw_all := lw_g (lw_at lw_m2 176 rfl) rfl
theorem q502 : (Jvm.Cond.soleField "ShellBeach$Waiting" "this$0") ∈ lw_all := lw_g (lw_at lw_m2 177 rfl) rfl
theorem q503 : (Jvm.Cond.laysFinal "ShellBeach$Waiting" "ShellBeach$Housed" "this$0" "LShellBeach;") ∈ lw_all := lw_g (lw_at lw_m2 178 rfl) rfl
theorem q504 : (Jvm.Cond.laysFinal "ShellBeach$Waiting" "ShellBeach$Way" "crab" "LShellBeach$Crab;") ∈ lw_all := lw_g (lw_at lw_m2 179 rfl) rfl
theorem q505 : (Jvm.Cond.laysFinal "ShellBeach$Waiting" "ShellBeach$Way" "this$0" "LShellBeach;") ∈ lw_all := lw_g (lw_at lw_m2 180 rfl) rfl
theorem q506 : (Jvm.Cond.superclass "ShellBeach$Waiting" "ShellBeach$Housed") ∈ lw_all := lw_g (lw_at lw_m2 181 rfl) rfl
theorem q682 : (Jvm.Cond.selects "ShellBeach$Waiting" ({ cls := "ShellBeach$Way", name := "kind", desc := "()I" } : Jvm.MethodName) ({ cls := "ShellBeach$Waiting", name := "kind", desc := "()I" } : Jvm.MethodName)) ∈ lw_all := lw_g (lw_at lw_m3 117 rfl) rfl
theorem q683 : (Jvm.Cond.instanceMethod ({ cls := "ShellBeach$Waiting", name := "kind", desc := "()I" } : Jvm.MethodName)) ∈ lw_all := lw_g (lw_at lw_m3 118 rfl) rfl
theorem q684 : (Jvm.Cond.code ({ cls := "ShellBeach$Waiting", name := "kind", desc := "()I" } : Jvm.MethodName) prog_18_method_2_code (1 : Nat) (Option.some Jvm.ClassFile.FieldType.int)) ∈ lw_all := lw_g (lw_at lw_m3 119 rfl) rfl
theorem q1236 : (Jvm.Cond.selects "ShellBeach$Waiting" ({ cls := "ShellBeach$Way", name := "fits", desc := "(I)I" } : Jvm.MethodName) ({ cls := "ShellBeach$Housed", name := "fits", desc := "(I)I" } : Jvm.MethodName)) ∈ lw_all := lw_g (lw_at lw_m5 191 rfl) rfl
theorem q1252 : (Jvm.Cond.instanceMethod ({ cls := "ShellBeach$Waiting", name := "asks", desc := "(I)I" } : Jvm.MethodName)) ∈ lw_all := lw_g (lw_at lw_m5 207 rfl) rfl
theorem q1253 : (Jvm.Cond.code ({ cls := "ShellBeach$Waiting", name := "asks", desc := "(I)I" } : Jvm.MethodName) prog_18_method_4_code (2 : Nat) (Option.some Jvm.ClassFile.FieldType.int)) ∈ lw_all := lw_g (lw_at lw_m5 208 rfl) rfl
theorem q1254 : (Jvm.Cond.methodLinkNest "ShellBeach$Waiting" (17 : Nat) ({ cls := "ShellBeach", name := "body", desc := "(I)V" } : Jvm.MethodName) "ShellBeach") ∈ lw_tbl := lw_at lw_m5 209 rfl
theorem q1255 : (Jvm.Cond.methodLink "ShellBeach$Waiting" (23 : Nat) ({ cls := "ShellBeach$Housed", name := "asks", desc := "(I)I" } : Jvm.MethodName)) ∈ lw_all := lw_g (lw_at lw_m5 210 rfl) rfl
theorem q1262 : (Jvm.Cond.selects "ShellBeach$Waiting" ({ cls := "ShellBeach$Way", name := "asks", desc := "(I)I" } : Jvm.MethodName) ({ cls := "ShellBeach$Waiting", name := "asks", desc := "(I)I" } : Jvm.MethodName)) ∈ lw_all := lw_g (lw_at lw_m5 217 rfl) rfl
theorem q1284 : (Jvm.Cond.selects "ShellBeach$Waiting" ({ cls := "ShellBeach$Way", name := "moves", desc := "(I)I" } : Jvm.MethodName) ({ cls := "ShellBeach$Way", name := "moves", desc := "(I)I" } : Jvm.MethodName)) ∈ lw_all := lw_g (lw_at lw_m5 239 rfl) rfl
theorem q1319 : (Jvm.Cond.instanceMethod ({ cls := "ShellBeach$Waiting", name := "isUnder", desc := "(I)Z" } : Jvm.MethodName)) ∈ lw_all := lw_g (lw_at lw_m6 34 rfl) rfl
theorem q1320 : (Jvm.Cond.code ({ cls := "ShellBeach$Waiting", name := "isUnder", desc := "(I)Z" } : Jvm.MethodName) prog_18_method_3_code (2 : Nat) (Option.some Jvm.ClassFile.FieldType.boolean)) ∈ lw_all := lw_g (lw_at lw_m6 35 rfl) rfl
theorem q1321 : (Jvm.Cond.methodLink "ShellBeach$Waiting" (13 : Nat) ({ cls := "ShellBeach$Housed", name := "isUnder", desc := "(I)Z" } : Jvm.MethodName)) ∈ lw_all := lw_g (lw_at lw_m6 36 rfl) rfl
theorem q1322 : (Jvm.Cond.selects "ShellBeach$Waiting" ({ cls := "ShellBeach$Way", name := "isUnder", desc := "(I)Z" } : Jvm.MethodName) ({ cls := "ShellBeach$Waiting", name := "isUnder", desc := "(I)Z" } : Jvm.MethodName)) ∈ lw_all := lw_g (lw_at lw_m6 37 rfl) rfl
theorem q1869 : (Jvm.Cond.sameMethod "ShellBeach$Waiting" "ShellBeach$Waiting" "asks" "(I)I") ∈ lw_all := lw_g (lw_at lw_m8 104 rfl) rfl
theorem q1871 : (Jvm.Cond.sameMethod "ShellBeach$Waiting" "ShellBeach$Waiting" "isUnder" "(I)Z") ∈ lw_all := lw_g (lw_at lw_m8 106 rfl) rfl
theorem q1883 : (Jvm.Cond.castable "ShellBeach$Waiting" "java/lang/Object") ∈ lw_tbl := lw_at lw_m8 118 rfl
theorem q1897 : (Jvm.Cond.castable "ShellBeach$Waiting" "ShellBeach$Way") ∈ lw_tbl := lw_at lw_m8 132 rfl
theorem in_X9 : ∀ w ∈ wsX90, w ∈ lw_all := lw_in wsX90 [504, 505, 503, 501] (by decide +kernel) (by decide +kernel)
/-! ShellBeach$Rowed -/
def RX10 : String := "ShellBeach$Rowed"
def TX10 : u_T := fun k => match k with
  | 0 => ("ShellBeach$Way", "crab", "LShellBeach$Crab;", true)
  | 1 => ("ShellBeach$Way", "this$0", "LShellBeach;", true)
  | 2 => ("ShellBeach$Housed", "this$0", "LShellBeach;", true)
  | 3 => ("ShellBeach$Waiting", "this$0", "LShellBeach;", true)
  | _ => ("ShellBeach$Rowed", "this$0", "LShellBeach;", true)
def tyX10 : Nat → FieldType := fun k => match k with
  | 0 => .object "ShellBeach$Crab"
  | 1 => .object "ShellBeach"
  | 2 => .object "ShellBeach"
  | 3 => .object "ShellBeach"
  | _ => .object "ShellBeach"
abbrev wsX100 : List Cond := u_ws RX10 TX10 5
-- two fields of one name: no nmX10
theorem tyX10_ok : ∀ k, k < 5 → parseFieldDescriptor (TX10 k).2.2.1 = some (tyX10 k) := by decide +kernel
abbrev cX10_init : ByteArray := prog_14_method_1_code
def yX10_init : MethodName := ⟨RX10, "<init>", "(LShellBeach;LShellBeach$Crab;)V"⟩
theorem dX10_init_0 : decode cX10_init 0 = .ok (.aload_n 0, 1) := by decide +kernel
theorem dX10_init_1 : decode cX10_init 1 = .ok (.aload_n 1, 1) := by decide +kernel
theorem dX10_init_2 : decode cX10_init 2 = .ok (.putfield 1, 3) := by decide +kernel
theorem dX10_init_5 : decode cX10_init 5 = .ok (.aload_n 0, 1) := by decide +kernel
theorem dX10_init_6 : decode cX10_init 6 = .ok (.aload_n 1, 1) := by decide +kernel
theorem dX10_init_7 : decode cX10_init 7 = .ok (.aload_n 2, 1) := by decide +kernel
theorem dX10_init_8 : decode cX10_init 8 = .ok (.invokespecial 7, 3) := by decide +kernel
theorem dX10_init_11 : decode cX10_init 11 = .ok (.return_, 1) := by decide +kernel
abbrev cX10_kind : ByteArray := prog_14_method_2_code
def yX10_kind : MethodName := ⟨RX10, "kind", "()I"⟩
theorem dX10_kind_0 : decode cX10_kind 0 = .ok (.iconst 4, 1) := by decide +kernel
theorem dX10_kind_1 : decode cX10_kind 1 = .ok (.ireturn, 1) := by decide +kernel
abbrev cX10_asks : ByteArray := prog_14_method_4_code
def yX10_asks : MethodName := ⟨RX10, "asks", "(I)I"⟩
theorem dX10_asks_0 : decode cX10_asks 0 = .ok (.aload_n 0, 1) := by decide +kernel
theorem dX10_asks_1 : decode cX10_asks 1 = .ok (.getfield 1, 3) := by decide +kernel
theorem dX10_asks_4 : decode cX10_asks 4 = .ok (.bipush 41, 2) := by decide +kernel
theorem dX10_asks_6 : decode cX10_asks 6 = .ok (.invokevirtual 17, 3) := by decide +kernel
theorem dX10_asks_9 : decode cX10_asks 9 = .ok (.aload_n 0, 1) := by decide +kernel
theorem dX10_asks_10 : decode cX10_asks 10 = .ok (.iload_n 1, 1) := by decide +kernel
theorem dX10_asks_11 : decode cX10_asks 11 = .ok (.iconst 1, 1) := by decide +kernel
theorem dX10_asks_12 : decode cX10_asks 12 = .ok (.iadd, 1) := by decide +kernel
theorem dX10_asks_13 : decode cX10_asks 13 = .ok (.invokespecial 23, 3) := by decide +kernel
theorem dX10_asks_16 : decode cX10_asks 16 = .ok (.istore_n 2, 1) := by decide +kernel
theorem dX10_asks_17 : decode cX10_asks 17 = .ok (.iload_n 2, 1) := by decide +kernel
theorem dX10_asks_18 : decode cX10_asks 18 = .ok (.aload_n 0, 1) := by decide +kernel
theorem dX10_asks_19 : decode cX10_asks 19 = .ok (.iconst 1, 1) := by decide +kernel
theorem dX10_asks_20 : decode cX10_asks 20 = .ok (.invokevirtual 27, 3) := by decide +kernel
theorem dX10_asks_23 : decode cX10_asks 23 = .ok (.iadd, 1) := by decide +kernel
theorem dX10_asks_24 : decode cX10_asks 24 = .ok (.ireturn, 1) := by decide +kernel
abbrev cX10_isUnder : ByteArray := prog_14_method_3_code
def yX10_isUnder : MethodName := ⟨RX10, "isUnder", "(I)Z"⟩
theorem dX10_isUnder_0 : decode cX10_isUnder 0 = .ok (.iload_n 1, 1) := by decide +kernel
theorem dX10_isUnder_1 : decode cX10_isUnder 1 = .ok (.iconst 4, 1) := by decide +kernel
theorem dX10_isUnder_2 : decode cX10_isUnder 2 = .ok (.if_icmp .eq 11, 3) := by decide +kernel
theorem dX10_isUnder_5 : decode cX10_isUnder 5 = .ok (.aload_n 0, 1) := by decide +kernel
theorem dX10_isUnder_6 : decode cX10_isUnder 6 = .ok (.iload_n 1, 1) := by decide +kernel
theorem dX10_isUnder_7 : decode cX10_isUnder 7 = .ok (.invokespecial 13, 3) := by decide +kernel
theorem dX10_isUnder_10 : decode cX10_isUnder 10 = .ok (.ifCond .eq 7, 3) := by decide +kernel
theorem dX10_isUnder_13 : decode cX10_isUnder 13 = .ok (.iconst 1, 1) := by decide +kernel
theorem dX10_isUnder_14 : decode cX10_isUnder 14 = .ok (.goto 4, 3) := by decide +kernel
theorem dX10_isUnder_17 : decode cX10_isUnder 17 = .ok (.iconst 0, 1) := by decide +kernel
theorem dX10_isUnder_18 : decode cX10_isUnder 18 = .ok (.ireturn, 1) := by decide +kernel
theorem q105 : (Jvm.Cond.initialized "ShellBeach$Rowed") ∈ lw_all := lw_g (lw_at lw_m1 20 rfl) rfl
theorem q402 : (Jvm.Cond.selects "ShellBeach$Rowed" ({ cls := "java/lang/Object", name := "getClass", desc := "()Ljava/lang/Class;" } : Jvm.MethodName) ({ cls := "java/lang/Object", name := "getClass", desc := "()Ljava/lang/Class;" } : Jvm.MethodName)) ∈ lw_all := lw_g (lw_at lw_m2 77 rfl) rfl
theorem q508 : (Jvm.Cond.instantiable "ShellBeach$Rowed" (5 : Nat)) ∈ lw_all := lw_g (lw_at lw_m2 183 rfl) rfl
theorem q510 : (Jvm.Cond.instanceMethod ({ cls := "ShellBeach$Rowed", name := "<init>", desc := "(LShellBeach;LShellBeach$Crab;)V" } : Jvm.MethodName)) ∈ lw_all := lw_g (lw_at lw_m2 185 rfl) rfl
theorem q511 : (Jvm.Cond.code ({ cls := "ShellBeach$Rowed", name := "<init>", desc := "(LShellBeach;LShellBeach$Crab;)V" } : Jvm.MethodName) prog_14_method_1_code (3 : Nat) (Option.none : Option Jvm.ClassFile.FieldType)) ∈ lw_all := lw_g (lw_at lw_m2 186 rfl) rfl
theorem q512 : (Jvm.Cond.methodLink "ShellBeach$Rowed" (7 : Nat) ({ cls := "ShellBeach$Waiting", name := "<init>", desc := "(LShellBeach;LShellBeach$Crab;)V" } : Jvm.MethodName)) ∈ lw_all := lw_g (lw_at lw_m2 187 rfl) rfl
theorem q513 : (Jvm.Cond.fieldLink "ShellBeach$Rowed" (1 : Nat) "ShellBeach$Rowed" "this$0" "LShellBeach;") ∈ lw_all := lw_g (lw_at lw_m2 188 rfl) rfl
theorem q514 : (Jvm.Cond.laysFinal "ShellBeach$Rowed" "ShellBeach$Rowed" "this$0" "LShellBeach;") ∈ lw_all := lw_g (lw_at lw_m2 189 rfl) rfl
theorem q515 : (Jvm.Cond.soleField "ShellBeach$Rowed" "this$0") ∈ lw_all := lw_g (lw_at lw_m2 190 rfl) rfl
theorem q516 : (Jvm.Cond.laysFinal "ShellBeach$Rowed" "ShellBeach$Waiting" "this$0" "LShellBeach;") ∈ lw_all := lw_g (lw_at lw_m2 191 rfl) rfl
theorem q517 : (Jvm.Cond.laysFinal "ShellBeach$Rowed" "ShellBeach$Housed" "this$0" "LShellBeach;") ∈ lw_all := lw_g (lw_at lw_m2 192 rfl) rfl
theorem q518 : (Jvm.Cond.laysFinal "ShellBeach$Rowed" "ShellBeach$Way" "crab" "LShellBeach$Crab;") ∈ lw_all := lw_g (lw_at lw_m2 193 rfl) rfl
theorem q519 : (Jvm.Cond.laysFinal "ShellBeach$Rowed" "ShellBeach$Way" "this$0" "LShellBeach;") ∈ lw_all := lw_g (lw_at lw_m2 194 rfl) rfl
theorem q520 : (Jvm.Cond.superclass "ShellBeach$Rowed" "ShellBeach$Waiting") ∈ lw_all := lw_g (lw_at lw_m2 195 rfl) rfl
theorem q679 : (Jvm.Cond.selects "ShellBeach$Rowed" ({ cls := "ShellBeach$Way", name := "kind", desc := "()I" } : Jvm.MethodName) ({ cls := "ShellBeach$Rowed", name := "kind", desc := "()I" } : Jvm.MethodName)) ∈ lw_all := lw_g (lw_at lw_m3 114 rfl) rfl
theorem q680 : (Jvm.Cond.instanceMethod ({ cls := "ShellBeach$Rowed", name := "kind", desc := "()I" } : Jvm.MethodName)) ∈ lw_all := lw_g (lw_at lw_m3 115 rfl) rfl
theorem q681 : (Jvm.Cond.code ({ cls := "ShellBeach$Rowed", name := "kind", desc := "()I" } : Jvm.MethodName) prog_14_method_2_code (1 : Nat) (Option.some Jvm.ClassFile.FieldType.int)) ∈ lw_all := lw_g (lw_at lw_m3 116 rfl) rfl
theorem q1235 : (Jvm.Cond.selects "ShellBeach$Rowed" ({ cls := "ShellBeach$Way", name := "fits", desc := "(I)I" } : Jvm.MethodName) ({ cls := "ShellBeach$Housed", name := "fits", desc := "(I)I" } : Jvm.MethodName)) ∈ lw_all := lw_g (lw_at lw_m5 190 rfl) rfl
theorem q1247 : (Jvm.Cond.selects "ShellBeach$Rowed" ({ cls := "ShellBeach$Way", name := "asks", desc := "(I)I" } : Jvm.MethodName) ({ cls := "ShellBeach$Rowed", name := "asks", desc := "(I)I" } : Jvm.MethodName)) ∈ lw_all := lw_g (lw_at lw_m5 202 rfl) rfl
theorem q1248 : (Jvm.Cond.instanceMethod ({ cls := "ShellBeach$Rowed", name := "asks", desc := "(I)I" } : Jvm.MethodName)) ∈ lw_all := lw_g (lw_at lw_m5 203 rfl) rfl
theorem q1249 : (Jvm.Cond.code ({ cls := "ShellBeach$Rowed", name := "asks", desc := "(I)I" } : Jvm.MethodName) prog_14_method_4_code (3 : Nat) (Option.some Jvm.ClassFile.FieldType.int)) ∈ lw_all := lw_g (lw_at lw_m5 204 rfl) rfl
theorem q1250 : (Jvm.Cond.methodLinkNest "ShellBeach$Rowed" (17 : Nat) ({ cls := "ShellBeach", name := "body", desc := "(I)V" } : Jvm.MethodName) "ShellBeach") ∈ lw_tbl := lw_at lw_m5 205 rfl
theorem q1251 : (Jvm.Cond.methodLink "ShellBeach$Rowed" (23 : Nat) ({ cls := "ShellBeach$Waiting", name := "asks", desc := "(I)I" } : Jvm.MethodName)) ∈ lw_all := lw_g (lw_at lw_m5 206 rfl) rfl
theorem q1258 : (Jvm.Cond.methodLink "ShellBeach$Rowed" (27 : Nat) ({ cls := "ShellBeach$Rowed", name := "fits", desc := "(I)I" } : Jvm.MethodName)) ∈ lw_all := lw_g (lw_at lw_m5 213 rfl) rfl
theorem q1259 : (Jvm.Cond.sameMethod "ShellBeach$Rowed" "ShellBeach$Housed" "fits" "(I)I") ∈ lw_all := lw_g (lw_at lw_m5 214 rfl) rfl
theorem q1261 : (Jvm.Cond.selects "ShellBeach$Rowed" ({ cls := "ShellBeach$Rowed", name := "fits", desc := "(I)I" } : Jvm.MethodName) ({ cls := "ShellBeach$Housed", name := "fits", desc := "(I)I" } : Jvm.MethodName)) ∈ lw_all := lw_g (lw_at lw_m5 216 rfl) rfl
theorem q1283 : (Jvm.Cond.selects "ShellBeach$Rowed" ({ cls := "ShellBeach$Way", name := "moves", desc := "(I)I" } : Jvm.MethodName) ({ cls := "ShellBeach$Way", name := "moves", desc := "(I)I" } : Jvm.MethodName)) ∈ lw_all := lw_g (lw_at lw_m5 238 rfl) rfl
theorem q1315 : (Jvm.Cond.selects "ShellBeach$Rowed" ({ cls := "ShellBeach$Way", name := "isUnder", desc := "(I)Z" } : Jvm.MethodName) ({ cls := "ShellBeach$Rowed", name := "isUnder", desc := "(I)Z" } : Jvm.MethodName)) ∈ lw_all := lw_g (lw_at lw_m6 30 rfl) rfl
theorem q1316 : (Jvm.Cond.instanceMethod ({ cls := "ShellBeach$Rowed", name := "isUnder", desc := "(I)Z" } : Jvm.MethodName)) ∈ lw_all := lw_g (lw_at lw_m6 31 rfl) rfl
theorem q1317 : (Jvm.Cond.code ({ cls := "ShellBeach$Rowed", name := "isUnder", desc := "(I)Z" } : Jvm.MethodName) prog_14_method_3_code (2 : Nat) (Option.some Jvm.ClassFile.FieldType.boolean)) ∈ lw_all := lw_g (lw_at lw_m6 32 rfl) rfl
theorem q1318 : (Jvm.Cond.methodLink "ShellBeach$Rowed" (13 : Nat) ({ cls := "ShellBeach$Waiting", name := "isUnder", desc := "(I)Z" } : Jvm.MethodName)) ∈ lw_all := lw_g (lw_at lw_m6 33 rfl) rfl
theorem q1884 : (Jvm.Cond.castable "ShellBeach$Rowed" "java/lang/Object") ∈ lw_tbl := lw_at lw_m8 119 rfl
theorem q1898 : (Jvm.Cond.castable "ShellBeach$Rowed" "ShellBeach$Way") ∈ lw_tbl := lw_at lw_m8 133 rfl
theorem in_X10 : ∀ w ∈ wsX100, w ∈ lw_all := lw_in wsX100 [518, 519, 517, 516, 514] (by decide +kernel) (by decide +kernel)
/-! ShellBeach$Knocking -/
def RX11 : String := "ShellBeach$Knocking"
def TX11 : u_T := fun k => match k with
  | 0 => ("ShellBeach$Way", "crab", "LShellBeach$Crab;", true)
  | 1 => ("ShellBeach$Way", "this$0", "LShellBeach;", true)
  | 2 => ("ShellBeach$Housed", "this$0", "LShellBeach;", true)
  | _ => ("ShellBeach$Knocking", "this$0", "LShellBeach;", true)
def tyX11 : Nat → FieldType := fun k => match k with
  | 0 => .object "ShellBeach$Crab"
  | 1 => .object "ShellBeach"
  | 2 => .object "ShellBeach"
  | _ => .object "ShellBeach"
abbrev wsX110 : List Cond := u_ws RX11 TX11 4
-- two fields of one name: no nmX11
theorem tyX11_ok : ∀ k, k < 4 → parseFieldDescriptor (TX11 k).2.2.1 = some (tyX11 k) := by decide +kernel
abbrev cX11_init : ByteArray := prog_11_method_1_code
def yX11_init : MethodName := ⟨RX11, "<init>", "(LShellBeach;LShellBeach$Crab;)V"⟩
theorem dX11_init_0 : decode cX11_init 0 = .ok (.aload_n 0, 1) := by decide +kernel
theorem dX11_init_1 : decode cX11_init 1 = .ok (.aload_n 1, 1) := by decide +kernel
theorem dX11_init_2 : decode cX11_init 2 = .ok (.putfield 1, 3) := by decide +kernel
theorem dX11_init_5 : decode cX11_init 5 = .ok (.aload_n 0, 1) := by decide +kernel
theorem dX11_init_6 : decode cX11_init 6 = .ok (.aload_n 1, 1) := by decide +kernel
theorem dX11_init_7 : decode cX11_init 7 = .ok (.aload_n 2, 1) := by decide +kernel
theorem dX11_init_8 : decode cX11_init 8 = .ok (.invokespecial 7, 3) := by decide +kernel
theorem dX11_init_11 : decode cX11_init 11 = .ok (.return_, 1) := by decide +kernel
abbrev cX11_kind : ByteArray := prog_11_method_2_code
def yX11_kind : MethodName := ⟨RX11, "kind", "()I"⟩
theorem dX11_kind_0 : decode cX11_kind 0 = .ok (.iconst 5, 1) := by decide +kernel
theorem dX11_kind_1 : decode cX11_kind 1 = .ok (.ireturn, 1) := by decide +kernel
abbrev cX11_moves : ByteArray := prog_11_method_4_code
def yX11_moves : MethodName := ⟨RX11, "moves", "(I)I"⟩
theorem dX11_moves_0 : decode cX11_moves 0 = .ok (.aload_n 0, 1) := by decide +kernel
theorem dX11_moves_1 : decode cX11_moves 1 = .ok (.getfield 1, 3) := by decide +kernel
theorem dX11_moves_4 : decode cX11_moves 4 = .ok (.bipush 51, 2) := by decide +kernel
theorem dX11_moves_6 : decode cX11_moves 6 = .ok (.invokevirtual 17, 3) := by decide +kernel
theorem dX11_moves_9 : decode cX11_moves 9 = .ok (.aload_n 0, 1) := by decide +kernel
theorem dX11_moves_10 : decode cX11_moves 10 = .ok (.iload_n 1, 1) := by decide +kernel
theorem dX11_moves_11 : decode cX11_moves 11 = .ok (.iconst 2, 1) := by decide +kernel
theorem dX11_moves_12 : decode cX11_moves 12 = .ok (.isub, 1) := by decide +kernel
theorem dX11_moves_13 : decode cX11_moves 13 = .ok (.invokespecial 23, 3) := by decide +kernel
theorem dX11_moves_16 : decode cX11_moves 16 = .ok (.ireturn, 1) := by decide +kernel
abbrev cX11_isUnder : ByteArray := prog_11_method_3_code
def yX11_isUnder : MethodName := ⟨RX11, "isUnder", "(I)Z"⟩
theorem dX11_isUnder_0 : decode cX11_isUnder 0 = .ok (.iload_n 1, 1) := by decide +kernel
theorem dX11_isUnder_1 : decode cX11_isUnder 1 = .ok (.iconst 5, 1) := by decide +kernel
theorem dX11_isUnder_2 : decode cX11_isUnder 2 = .ok (.if_icmp .eq 11, 3) := by decide +kernel
theorem dX11_isUnder_5 : decode cX11_isUnder 5 = .ok (.aload_n 0, 1) := by decide +kernel
theorem dX11_isUnder_6 : decode cX11_isUnder 6 = .ok (.iload_n 1, 1) := by decide +kernel
theorem dX11_isUnder_7 : decode cX11_isUnder 7 = .ok (.invokespecial 13, 3) := by decide +kernel
theorem dX11_isUnder_10 : decode cX11_isUnder 10 = .ok (.ifCond .eq 7, 3) := by decide +kernel
theorem dX11_isUnder_13 : decode cX11_isUnder 13 = .ok (.iconst 1, 1) := by decide +kernel
theorem dX11_isUnder_14 : decode cX11_isUnder 14 = .ok (.goto 4, 3) := by decide +kernel
theorem dX11_isUnder_17 : decode cX11_isUnder 17 = .ok (.iconst 0, 1) := by decide +kernel
theorem dX11_isUnder_18 : decode cX11_isUnder 18 = .ok (.ireturn, 1) := by decide +kernel
theorem q106 : (Jvm.Cond.initialized "ShellBeach$Knocking") ∈ lw_all := lw_g (lw_at lw_m1 21 rfl) rfl
theorem q399 : (Jvm.Cond.selects "ShellBeach$Knocking" ({ cls := "java/lang/Object", name := "getClass", desc := "()Ljava/lang/Class;" } : Jvm.MethodName) ({ cls := "java/lang/Object", name := "getClass", desc := "()Ljava/lang/Class;" } : Jvm.MethodName)) ∈ lw_all := lw_g (lw_at lw_m2 74 rfl) rfl
theorem q522 : (Jvm.Cond.instantiable "ShellBeach$Knocking" (4 : Nat)) ∈ lw_all := lw_g (lw_at lw_m2 197 rfl) rfl
theorem q524 : (Jvm.Cond.instanceMethod ({ cls := "ShellBeach$Knocking", name := "<init>", desc := "(LShellBeach;LShellBeach$Crab;)V" } : Jvm.MethodName)) ∈ lw_all := lw_g (lw_at lw_m2 199 rfl) rfl
theorem q525 : (Jvm.Cond.code ({ cls := "ShellBeach$Knocking", name := "<init>", desc := "(LShellBeach;LShellBeach$Crab;)V" } : Jvm.MethodName) prog_11_method_1_code (3 : Nat) (Option.none : Option Jvm.ClassFile.FieldType)) ∈ lw_all := lw_g (lw_at lw_m2 200 rfl) rfl
theorem q526 : (Jvm.Cond.methodLink "ShellBeach$Knocking" (7 : Nat) ({ cls := "ShellBeach$Housed", name := "<init>", desc := "(LShellBeach;LShellBeach$Crab;)V" } : Jvm.MethodName)) ∈ lw_all := lw_g (lw_at lw_m2 201 rfl) rfl
theorem q527 : (Jvm.Cond.fieldLink "ShellBeach$Knocking" (1 : Nat) "ShellBeach$Knocking" "this$0" "LShellBeach;") ∈ lw_all := lw_g (lw_at lw_m2 202 rfl) rfl
theorem q528 : (Jvm.Cond.laysFinal "ShellBeach$Knocking" "ShellBeach$Knocking" "this$0" "LShellBeach;") ∈ lw_all := lw_g (lw_at lw_m2 203 rfl) rfl
theorem q529 : (Jvm.Cond.soleField "ShellBeach$Knocking" "this$0") ∈ lw_all := lw_g (lw_at lw_m2 204 rfl) rfl
theorem q530 : (Jvm.Cond.laysFinal "ShellBeach$Knocking" "ShellBeach$Housed" "this$0" "LShellBeach;") ∈ lw_all := lw_g (lw_at lw_m2 205 rfl) rfl
theorem q531 : (Jvm.Cond.laysFinal "ShellBeach$Knocking" "ShellBeach$Way" "crab" "LShellBeach$Crab;") ∈ lw_all := lw_g (lw_at lw_m2 206 rfl) rfl
theorem q532 : (Jvm.Cond.laysFinal "ShellBeach$Knocking" "ShellBeach$Way" "this$0" "LShellBeach;") ∈ lw_all := lw_g (lw_at lw_m2 207 rfl) rfl
theorem q533 : (Jvm.Cond.superclass "ShellBeach$Knocking" "ShellBeach$Housed") ∈ lw_all := lw_g (lw_at lw_m2 208 rfl) rfl
theorem q676 : (Jvm.Cond.selects "ShellBeach$Knocking" ({ cls := "ShellBeach$Way", name := "kind", desc := "()I" } : Jvm.MethodName) ({ cls := "ShellBeach$Knocking", name := "kind", desc := "()I" } : Jvm.MethodName)) ∈ lw_all := lw_g (lw_at lw_m3 111 rfl) rfl
theorem q677 : (Jvm.Cond.instanceMethod ({ cls := "ShellBeach$Knocking", name := "kind", desc := "()I" } : Jvm.MethodName)) ∈ lw_all := lw_g (lw_at lw_m3 112 rfl) rfl
theorem q678 : (Jvm.Cond.code ({ cls := "ShellBeach$Knocking", name := "kind", desc := "()I" } : Jvm.MethodName) prog_11_method_2_code (1 : Nat) (Option.some Jvm.ClassFile.FieldType.int)) ∈ lw_all := lw_g (lw_at lw_m3 113 rfl) rfl
theorem q1234 : (Jvm.Cond.selects "ShellBeach$Knocking" ({ cls := "ShellBeach$Way", name := "fits", desc := "(I)I" } : Jvm.MethodName) ({ cls := "ShellBeach$Housed", name := "fits", desc := "(I)I" } : Jvm.MethodName)) ∈ lw_all := lw_g (lw_at lw_m5 189 rfl) rfl
theorem q1246 : (Jvm.Cond.selects "ShellBeach$Knocking" ({ cls := "ShellBeach$Way", name := "asks", desc := "(I)I" } : Jvm.MethodName) ({ cls := "ShellBeach$Way", name := "asks", desc := "(I)I" } : Jvm.MethodName)) ∈ lw_all := lw_g (lw_at lw_m5 201 rfl) rfl
theorem q1276 : (Jvm.Cond.selects "ShellBeach$Knocking" ({ cls := "ShellBeach$Way", name := "moves", desc := "(I)I" } : Jvm.MethodName) ({ cls := "ShellBeach$Knocking", name := "moves", desc := "(I)I" } : Jvm.MethodName)) ∈ lw_all := lw_g (lw_at lw_m5 231 rfl) rfl
theorem q1277 : (Jvm.Cond.instanceMethod ({ cls := "ShellBeach$Knocking", name := "moves", desc := "(I)I" } : Jvm.MethodName)) ∈ lw_all := lw_g (lw_at lw_m5 232 rfl) rfl
theorem q1278 : (Jvm.Cond.code ({ cls := "ShellBeach$Knocking", name := "moves", desc := "(I)I" } : Jvm.MethodName) prog_11_method_4_code (2 : Nat) (Option.some Jvm.ClassFile.FieldType.int)) ∈ lw_all := lw_g (lw_at lw_m5 233 rfl) rfl
theorem q1279 : (Jvm.Cond.methodLinkNest "ShellBeach$Knocking" (17 : Nat) ({ cls := "ShellBeach", name := "body", desc := "(I)V" } : Jvm.MethodName) "ShellBeach") ∈ lw_tbl := lw_at lw_m5 234 rfl
theorem q1280 : (Jvm.Cond.methodLink "ShellBeach$Knocking" (23 : Nat) ({ cls := "ShellBeach$Housed", name := "moves", desc := "(I)I" } : Jvm.MethodName)) ∈ lw_all := lw_g (lw_at lw_m5 235 rfl) rfl
theorem q1311 : (Jvm.Cond.selects "ShellBeach$Knocking" ({ cls := "ShellBeach$Way", name := "isUnder", desc := "(I)Z" } : Jvm.MethodName) ({ cls := "ShellBeach$Knocking", name := "isUnder", desc := "(I)Z" } : Jvm.MethodName)) ∈ lw_all := lw_g (lw_at lw_m6 26 rfl) rfl
theorem q1312 : (Jvm.Cond.instanceMethod ({ cls := "ShellBeach$Knocking", name := "isUnder", desc := "(I)Z" } : Jvm.MethodName)) ∈ lw_all := lw_g (lw_at lw_m6 27 rfl) rfl
theorem q1313 : (Jvm.Cond.code ({ cls := "ShellBeach$Knocking", name := "isUnder", desc := "(I)Z" } : Jvm.MethodName) prog_11_method_3_code (2 : Nat) (Option.some Jvm.ClassFile.FieldType.boolean)) ∈ lw_all := lw_g (lw_at lw_m6 28 rfl) rfl
theorem q1314 : (Jvm.Cond.methodLink "ShellBeach$Knocking" (13 : Nat) ({ cls := "ShellBeach$Housed", name := "isUnder", desc := "(I)Z" } : Jvm.MethodName)) ∈ lw_all := lw_g (lw_at lw_m6 29 rfl) rfl
theorem q1885 : (Jvm.Cond.castable "ShellBeach$Knocking" "java/lang/Object") ∈ lw_tbl := lw_at lw_m8 120 rfl
theorem q1899 : (Jvm.Cond.castable "ShellBeach$Knocking" "ShellBeach$Way") ∈ lw_tbl := lw_at lw_m8 134 rfl
theorem in_X11 : ∀ w ∈ wsX110, w ∈ lw_all := lw_in wsX110 [531, 532, 530, 528] (by decide +kernel) (by decide +kernel)
/-! ShellBeach$Dead -/
def RX12 : String := "ShellBeach$Dead"
def TX12 : u_T := fun k => match k with
  | 0 => ("ShellBeach$Way", "crab", "LShellBeach$Crab;", true)
  | 1 => ("ShellBeach$Way", "this$0", "LShellBeach;", true)
  | _ => ("ShellBeach$Dead", "this$0", "LShellBeach;", true)
def tyX12 : Nat → FieldType := fun k => match k with
  | 0 => .object "ShellBeach$Crab"
  | 1 => .object "ShellBeach"
  | _ => .object "ShellBeach"
abbrev wsX120 : List Cond := u_ws RX12 TX12 3
-- two fields of one name: no nmX12
theorem tyX12_ok : ∀ k, k < 3 → parseFieldDescriptor (TX12 k).2.2.1 = some (tyX12 k) := by decide +kernel
abbrev cX12_init : ByteArray := prog_5_method_1_code
def yX12_init : MethodName := ⟨RX12, "<init>", "(LShellBeach;LShellBeach$Crab;)V"⟩
theorem dX12_init_0 : decode cX12_init 0 = .ok (.aload_n 0, 1) := by decide +kernel
theorem dX12_init_1 : decode cX12_init 1 = .ok (.aload_n 1, 1) := by decide +kernel
theorem dX12_init_2 : decode cX12_init 2 = .ok (.putfield 1, 3) := by decide +kernel
theorem dX12_init_5 : decode cX12_init 5 = .ok (.aload_n 0, 1) := by decide +kernel
theorem dX12_init_6 : decode cX12_init 6 = .ok (.aload_n 1, 1) := by decide +kernel
theorem dX12_init_7 : decode cX12_init 7 = .ok (.aload_n 2, 1) := by decide +kernel
theorem dX12_init_8 : decode cX12_init 8 = .ok (.invokespecial 7, 3) := by decide +kernel
theorem dX12_init_11 : decode cX12_init 11 = .ok (.return_, 1) := by decide +kernel
abbrev cX12_kind : ByteArray := prog_5_method_2_code
def yX12_kind : MethodName := ⟨RX12, "kind", "()I"⟩
theorem dX12_kind_0 : decode cX12_kind 0 = .ok (.bipush 6, 2) := by decide +kernel
theorem dX12_kind_2 : decode cX12_kind 2 = .ok (.ireturn, 1) := by decide +kernel
abbrev cX12_fits : ByteArray := prog_5_method_4_code
def yX12_fits : MethodName := ⟨RX12, "fits", "(I)I"⟩
theorem dX12_fits_0 : decode cX12_fits 0 = .ok (.aload_n 0, 1) := by decide +kernel
theorem dX12_fits_1 : decode cX12_fits 1 = .ok (.getfield 1, 3) := by decide +kernel
theorem dX12_fits_4 : decode cX12_fits 4 = .ok (.bipush 61, 2) := by decide +kernel
theorem dX12_fits_6 : decode cX12_fits 6 = .ok (.invokevirtual 17, 3) := by decide +kernel
theorem dX12_fits_9 : decode cX12_fits 9 = .ok (.aload_n 0, 1) := by decide +kernel
theorem dX12_fits_10 : decode cX12_fits 10 = .ok (.iload_n 1, 1) := by decide +kernel
theorem dX12_fits_11 : decode cX12_fits 11 = .ok (.invokespecial 23, 3) := by decide +kernel
theorem dX12_fits_14 : decode cX12_fits 14 = .ok (.ineg, 1) := by decide +kernel
theorem dX12_fits_15 : decode cX12_fits 15 = .ok (.ireturn, 1) := by decide +kernel
abbrev cX12_isUnder : ByteArray := prog_5_method_3_code
def yX12_isUnder : MethodName := ⟨RX12, "isUnder", "(I)Z"⟩
theorem dX12_isUnder_0 : decode cX12_isUnder 0 = .ok (.iload_n 1, 1) := by decide +kernel
theorem dX12_isUnder_1 : decode cX12_isUnder 1 = .ok (.bipush 6, 2) := by decide +kernel
theorem dX12_isUnder_3 : decode cX12_isUnder 3 = .ok (.if_icmp .eq 11, 3) := by decide +kernel
theorem dX12_isUnder_6 : decode cX12_isUnder 6 = .ok (.aload_n 0, 1) := by decide +kernel
theorem dX12_isUnder_7 : decode cX12_isUnder 7 = .ok (.iload_n 1, 1) := by decide +kernel
theorem dX12_isUnder_8 : decode cX12_isUnder 8 = .ok (.invokespecial 13, 3) := by decide +kernel
theorem dX12_isUnder_11 : decode cX12_isUnder 11 = .ok (.ifCond .eq 7, 3) := by decide +kernel
theorem dX12_isUnder_14 : decode cX12_isUnder 14 = .ok (.iconst 1, 1) := by decide +kernel
theorem dX12_isUnder_15 : decode cX12_isUnder 15 = .ok (.goto 4, 3) := by decide +kernel
theorem dX12_isUnder_18 : decode cX12_isUnder 18 = .ok (.iconst 0, 1) := by decide +kernel
theorem dX12_isUnder_19 : decode cX12_isUnder 19 = .ok (.ireturn, 1) := by decide +kernel
theorem q107 : (Jvm.Cond.initialized "ShellBeach$Dead") ∈ lw_all := lw_g (lw_at lw_m1 22 rfl) rfl
theorem q393 : (Jvm.Cond.selects "ShellBeach$Dead" ({ cls := "java/lang/Object", name := "getClass", desc := "()Ljava/lang/Class;" } : Jvm.MethodName) ({ cls := "java/lang/Object", name := "getClass", desc := "()Ljava/lang/Class;" } : Jvm.MethodName)) ∈ lw_all := lw_g (lw_at lw_m2 68 rfl) rfl
theorem q535 : (Jvm.Cond.instantiable "ShellBeach$Dead" (3 : Nat)) ∈ lw_all := lw_g (lw_at lw_m2 210 rfl) rfl
theorem q537 : (Jvm.Cond.instanceMethod ({ cls := "ShellBeach$Dead", name := "<init>", desc := "(LShellBeach;LShellBeach$Crab;)V" } : Jvm.MethodName)) ∈ lw_all := lw_g (lw_at lw_m2 212 rfl) rfl
theorem q538 : (Jvm.Cond.code ({ cls := "ShellBeach$Dead", name := "<init>", desc := "(LShellBeach;LShellBeach$Crab;)V" } : Jvm.MethodName) prog_5_method_1_code (3 : Nat) (Option.none : Option Jvm.ClassFile.FieldType)) ∈ lw_all := lw_g (lw_at lw_m2 213 rfl) rfl
theorem q539 : (Jvm.Cond.methodLink "ShellBeach$Dead" (7 : Nat) ({ cls := "ShellBeach$Way", name := "<init>", desc := "(LShellBeach;LShellBeach$Crab;)V" } : Jvm.MethodName)) ∈ lw_all := lw_g (lw_at lw_m2 214 rfl) rfl
theorem q540 : (Jvm.Cond.fieldLink "ShellBeach$Dead" (1 : Nat) "ShellBeach$Dead" "this$0" "LShellBeach;") ∈ lw_all := lw_g (lw_at lw_m2 215 rfl) rfl
theorem q541 : (Jvm.Cond.laysFinal "ShellBeach$Dead" "ShellBeach$Dead" "this$0" "LShellBeach;") ∈ lw_all := lw_g (lw_at lw_m2 216 rfl) rfl
theorem q542 : (Jvm.Cond.soleField "ShellBeach$Dead" "this$0") ∈ lw_all := lw_g (lw_at lw_m2 217 rfl) rfl
theorem q543 : (Jvm.Cond.laysFinal "ShellBeach$Dead" "ShellBeach$Way" "crab" "LShellBeach$Crab;") ∈ lw_all := lw_g (lw_at lw_m2 218 rfl) rfl
theorem q544 : (Jvm.Cond.laysFinal "ShellBeach$Dead" "ShellBeach$Way" "this$0" "LShellBeach;") ∈ lw_all := lw_g (lw_at lw_m2 219 rfl) rfl
theorem q545 : (Jvm.Cond.superclass "ShellBeach$Dead" "ShellBeach$Way") ∈ lw_all := lw_g (lw_at lw_m2 220 rfl) rfl
theorem q670 : (Jvm.Cond.selects "ShellBeach$Dead" ({ cls := "ShellBeach$Way", name := "kind", desc := "()I" } : Jvm.MethodName) ({ cls := "ShellBeach$Dead", name := "kind", desc := "()I" } : Jvm.MethodName)) ∈ lw_all := lw_g (lw_at lw_m3 105 rfl) rfl
theorem q671 : (Jvm.Cond.instanceMethod ({ cls := "ShellBeach$Dead", name := "kind", desc := "()I" } : Jvm.MethodName)) ∈ lw_all := lw_g (lw_at lw_m3 106 rfl) rfl
theorem q672 : (Jvm.Cond.code ({ cls := "ShellBeach$Dead", name := "kind", desc := "()I" } : Jvm.MethodName) prog_5_method_2_code (1 : Nat) (Option.some Jvm.ClassFile.FieldType.int)) ∈ lw_all := lw_g (lw_at lw_m3 107 rfl) rfl
theorem q1221 : (Jvm.Cond.selects "ShellBeach$Dead" ({ cls := "ShellBeach$Way", name := "fits", desc := "(I)I" } : Jvm.MethodName) ({ cls := "ShellBeach$Dead", name := "fits", desc := "(I)I" } : Jvm.MethodName)) ∈ lw_all := lw_g (lw_at lw_m5 176 rfl) rfl
theorem q1222 : (Jvm.Cond.instanceMethod ({ cls := "ShellBeach$Dead", name := "fits", desc := "(I)I" } : Jvm.MethodName)) ∈ lw_all := lw_g (lw_at lw_m5 177 rfl) rfl
theorem q1223 : (Jvm.Cond.code ({ cls := "ShellBeach$Dead", name := "fits", desc := "(I)I" } : Jvm.MethodName) prog_5_method_4_code (2 : Nat) (Option.some Jvm.ClassFile.FieldType.int)) ∈ lw_all := lw_g (lw_at lw_m5 178 rfl) rfl
theorem q1224 : (Jvm.Cond.methodLinkNest "ShellBeach$Dead" (17 : Nat) ({ cls := "ShellBeach", name := "body", desc := "(I)V" } : Jvm.MethodName) "ShellBeach") ∈ lw_tbl := lw_at lw_m5 179 rfl
theorem q1228 : (Jvm.Cond.methodLink "ShellBeach$Dead" (23 : Nat) ({ cls := "ShellBeach$Way", name := "fits", desc := "(I)I" } : Jvm.MethodName)) ∈ lw_all := lw_g (lw_at lw_m5 183 rfl) rfl
theorem q1244 : (Jvm.Cond.selects "ShellBeach$Dead" ({ cls := "ShellBeach$Way", name := "asks", desc := "(I)I" } : Jvm.MethodName) ({ cls := "ShellBeach$Way", name := "asks", desc := "(I)I" } : Jvm.MethodName)) ∈ lw_all := lw_g (lw_at lw_m5 199 rfl) rfl
theorem q1274 : (Jvm.Cond.selects "ShellBeach$Dead" ({ cls := "ShellBeach$Way", name := "moves", desc := "(I)I" } : Jvm.MethodName) ({ cls := "ShellBeach$Way", name := "moves", desc := "(I)I" } : Jvm.MethodName)) ∈ lw_all := lw_g (lw_at lw_m5 229 rfl) rfl
theorem q1303 : (Jvm.Cond.selects "ShellBeach$Dead" ({ cls := "ShellBeach$Way", name := "isUnder", desc := "(I)Z" } : Jvm.MethodName) ({ cls := "ShellBeach$Dead", name := "isUnder", desc := "(I)Z" } : Jvm.MethodName)) ∈ lw_all := lw_g (lw_at lw_m6 18 rfl) rfl
theorem q1304 : (Jvm.Cond.instanceMethod ({ cls := "ShellBeach$Dead", name := "isUnder", desc := "(I)Z" } : Jvm.MethodName)) ∈ lw_all := lw_g (lw_at lw_m6 19 rfl) rfl
theorem q1305 : (Jvm.Cond.code ({ cls := "ShellBeach$Dead", name := "isUnder", desc := "(I)Z" } : Jvm.MethodName) prog_5_method_3_code (2 : Nat) (Option.some Jvm.ClassFile.FieldType.boolean)) ∈ lw_all := lw_g (lw_at lw_m6 20 rfl) rfl
theorem q1306 : (Jvm.Cond.methodLink "ShellBeach$Dead" (13 : Nat) ({ cls := "ShellBeach$Way", name := "isUnder", desc := "(I)Z" } : Jvm.MethodName)) ∈ lw_all := lw_g (lw_at lw_m6 21 rfl) rfl
theorem q1886 : (Jvm.Cond.castable "ShellBeach$Dead" "java/lang/Object") ∈ lw_tbl := lw_at lw_m8 121 rfl
theorem q1900 : (Jvm.Cond.castable "ShellBeach$Dead" "ShellBeach$Way") ∈ lw_tbl := lw_at lw_m8 135 rfl
theorem in_X12 : ∀ w ∈ wsX120, w ∈ lw_all := lw_in wsX120 [543, 544, 541] (by decide +kernel) (by decide +kernel)
/-! ShellBeach$Habit -/
def RX13 : String := "ShellBeach$Habit"
def TX13 : u_T := fun k => match k with
  | 0 => ("ShellBeach$Habit", "number", "I", true)
  | 1 => ("ShellBeach$Habit", "tests", "Ljava/util/ArrayList;", true)
  | 2 => ("ShellBeach$Habit", "words", "[I", true)
  | 3 => ("ShellBeach$Habit", "facts", "Ljava/util/ArrayList;", true)
  | _ => ("ShellBeach$Habit", "this$0", "LShellBeach;", true)
def tyX13 : Nat → FieldType := fun k => match k with
  | 0 => .int
  | 1 => .object "java/util/ArrayList"
  | 2 => .array .int
  | 3 => .object "java/util/ArrayList"
  | _ => .object "ShellBeach"
abbrev wsX130 : List Cond := u_ws RX13 TX13 5
theorem nmX13 : ∀ a, a < 5 → ∀ b, b < 5 → a ≠ b → (TX13 a).2.1 ≠ (TX13 b).2.1 := by decide +kernel
theorem tyX13_ok : ∀ k, k < 5 → parseFieldDescriptor (TX13 k).2.2.1 = some (tyX13 k) := by decide +kernel
abbrev cX13_init : ByteArray := prog_8_method_1_code
def yX13_init : MethodName := ⟨RX13, "<init>", "(LShellBeach;I)V"⟩
theorem dX13_init_0 : decode cX13_init 0 = .ok (.aload_n 0, 1) := by decide +kernel
theorem dX13_init_1 : decode cX13_init 1 = .ok (.aload_n 1, 1) := by decide +kernel
theorem dX13_init_2 : decode cX13_init 2 = .ok (.putfield 3, 3) := by decide +kernel
theorem dX13_init_5 : decode cX13_init 5 = .ok (.aload_n 0, 1) := by decide +kernel
theorem dX13_init_6 : decode cX13_init 6 = .ok (.invokespecial 9, 3) := by decide +kernel
theorem dX13_init_9 : decode cX13_init 9 = .ok (.aload_n 0, 1) := by decide +kernel
theorem dX13_init_10 : decode cX13_init 10 = .ok (.new 15, 3) := by decide +kernel
theorem dX13_init_13 : decode cX13_init 13 = .ok (.dup, 1) := by decide +kernel
theorem dX13_init_14 : decode cX13_init 14 = .ok (.invokespecial 17, 3) := by decide +kernel
theorem dX13_init_17 : decode cX13_init 17 = .ok (.putfield 18, 3) := by decide +kernel
theorem dX13_init_20 : decode cX13_init 20 = .ok (.aload_n 0, 1) := by decide +kernel
theorem dX13_init_21 : decode cX13_init 21 = .ok (.bipush 8, 2) := by decide +kernel
theorem dX13_init_23 : decode cX13_init 23 = .ok (.newarray .int, 2) := by decide +kernel
theorem dX13_init_25 : decode cX13_init 25 = .ok (.putfield 22, 3) := by decide +kernel
theorem dX13_init_28 : decode cX13_init 28 = .ok (.aload_n 0, 1) := by decide +kernel
theorem dX13_init_29 : decode cX13_init 29 = .ok (.new 15, 3) := by decide +kernel
theorem dX13_init_32 : decode cX13_init 32 = .ok (.dup, 1) := by decide +kernel
theorem dX13_init_33 : decode cX13_init 33 = .ok (.invokespecial 17, 3) := by decide +kernel
theorem dX13_init_36 : decode cX13_init 36 = .ok (.putfield 26, 3) := by decide +kernel
theorem dX13_init_39 : decode cX13_init 39 = .ok (.aload_n 0, 1) := by decide +kernel
theorem dX13_init_40 : decode cX13_init 40 = .ok (.iload_n 2, 1) := by decide +kernel
theorem dX13_init_41 : decode cX13_init 41 = .ok (.putfield 29, 3) := by decide +kernel
theorem dX13_init_44 : decode cX13_init 44 = .ok (.return_, 1) := by decide +kernel
abbrev cX13_holds : ByteArray := prog_8_method_2_code
def yX13_holds : MethodName := ⟨RX13, "holds", "(IIIIII)Z"⟩
theorem dX13_holds_0 : decode cX13_holds 0 = .ok (.aload_n 0, 1) := by decide +kernel
theorem dX13_holds_1 : decode cX13_holds 1 = .ok (.getfield 3, 3) := by decide +kernel
theorem dX13_holds_4 : decode cX13_holds 4 = .ok (.getfield 33, 3) := by decide +kernel
theorem dX13_holds_7 : decode cX13_holds 7 = .ok (.iload_n 2, 1) := by decide +kernel
theorem dX13_holds_8 : decode cX13_holds 8 = .ok (.iload_n 3, 1) := by decide +kernel
theorem dX13_holds_9 : decode cX13_holds 9 = .ok (.iload 4, 2) := by decide +kernel
theorem dX13_holds_11 : decode cX13_holds 11 = .ok (.iload 5, 2) := by decide +kernel
theorem dX13_holds_13 : decode cX13_holds 13 = .ok (.iload 6, 2) := by decide +kernel
theorem dX13_holds_15 : decode cX13_holds 15 = .ok (.invokevirtual 37, 3) := by decide +kernel
theorem dX13_holds_18 : decode cX13_holds 18 = .ok (.astore 7, 2) := by decide +kernel
theorem dX13_holds_20 : decode cX13_holds 20 = .ok (.iconst 0, 1) := by decide +kernel
theorem dX13_holds_21 : decode cX13_holds 21 = .ok (.istore 8, 2) := by decide +kernel
theorem dX13_holds_23 : decode cX13_holds 23 = .ok (.iload 8, 2) := by decide +kernel
theorem dX13_holds_25 : decode cX13_holds 25 = .ok (.aload_n 0, 1) := by decide +kernel
theorem dX13_holds_26 : decode cX13_holds 26 = .ok (.getfield 18, 3) := by decide +kernel
theorem dX13_holds_29 : decode cX13_holds 29 = .ok (.invokevirtual 43, 3) := by decide +kernel
theorem dX13_holds_32 : decode cX13_holds 32 = .ok (.if_icmp .ge 44, 3) := by decide +kernel
theorem dX13_holds_35 : decode cX13_holds 35 = .ok (.aload_n 0, 1) := by decide +kernel
theorem dX13_holds_36 : decode cX13_holds 36 = .ok (.getfield 22, 3) := by decide +kernel
theorem dX13_holds_39 : decode cX13_holds 39 = .ok (.iload 8, 2) := by decide +kernel
theorem dX13_holds_41 : decode cX13_holds 41 = .ok (.iaload, 1) := by decide +kernel
theorem dX13_holds_42 : decode cX13_holds 42 = .ok (.iload_n 1, 1) := by decide +kernel
theorem dX13_holds_43 : decode cX13_holds 43 = .ok (.if_icmp .ne 27, 3) := by decide +kernel
theorem dX13_holds_46 : decode cX13_holds 46 = .ok (.aload_n 0, 1) := by decide +kernel
theorem dX13_holds_47 : decode cX13_holds 47 = .ok (.getfield 18, 3) := by decide +kernel
theorem dX13_holds_50 : decode cX13_holds 50 = .ok (.iload 8, 2) := by decide +kernel
theorem dX13_holds_52 : decode cX13_holds 52 = .ok (.invokevirtual 47, 3) := by decide +kernel
theorem dX13_holds_55 : decode cX13_holds 55 = .ok (.checkcast 51, 3) := by decide +kernel
theorem dX13_holds_58 : decode cX13_holds 58 = .ok (.aload 7, 2) := by decide +kernel
theorem dX13_holds_60 : decode cX13_holds 60 = .ok (.invokeinterface 53 2, 5) := by decide +kernel
theorem dX13_holds_65 : decode cX13_holds 65 = .ok (.ifCond .eq 5, 3) := by decide +kernel
theorem dX13_holds_68 : decode cX13_holds 68 = .ok (.iconst 1, 1) := by decide +kernel
theorem dX13_holds_69 : decode cX13_holds 69 = .ok (.ireturn, 1) := by decide +kernel
theorem dX13_holds_70 : decode cX13_holds 70 = .ok (.iinc 8 1, 3) := by decide +kernel
theorem dX13_holds_73 : decode cX13_holds 73 = .ok (.goto (-50), 3) := by decide +kernel
theorem dX13_holds_76 : decode cX13_holds 76 = .ok (.iconst 0, 1) := by decide +kernel
theorem dX13_holds_77 : decode cX13_holds 77 = .ok (.ireturn, 1) := by decide +kernel
theorem q108 : (Jvm.Cond.initialized "ShellBeach$Habit") ∈ lw_all := lw_g (lw_at lw_m1 23 rfl) rfl
theorem q230 : (Jvm.Cond.fieldLinkNest "ShellBeach$Habit" (33 : Nat) "ShellBeach" "asked" "LShellBeach$Case;" "ShellBeach") ∈ lw_tbl := lw_at lw_m1 145 rfl
theorem q396 : (Jvm.Cond.selects "ShellBeach$Habit" ({ cls := "java/lang/Object", name := "getClass", desc := "()Ljava/lang/Class;" } : Jvm.MethodName) ({ cls := "java/lang/Object", name := "getClass", desc := "()Ljava/lang/Class;" } : Jvm.MethodName)) ∈ lw_all := lw_g (lw_at lw_m2 71 rfl) rfl
theorem q730 : (Jvm.Cond.instantiable "ShellBeach$Habit" (5 : Nat)) ∈ lw_all := lw_g (lw_at lw_m3 165 rfl) rfl
theorem q733 : (Jvm.Cond.instanceMethod ({ cls := "ShellBeach$Habit", name := "<init>", desc := "(LShellBeach;I)V" } : Jvm.MethodName)) ∈ lw_all := lw_g (lw_at lw_m3 168 rfl) rfl
theorem q734 : (Jvm.Cond.code ({ cls := "ShellBeach$Habit", name := "<init>", desc := "(LShellBeach;I)V" } : Jvm.MethodName) prog_8_method_1_code (3 : Nat) (Option.none : Option Jvm.ClassFile.FieldType)) ∈ lw_all := lw_g (lw_at lw_m3 169 rfl) rfl
theorem q735 : (Jvm.Cond.methodLink "ShellBeach$Habit" (9 : Nat) ({ cls := "java/lang/Object", name := "<init>", desc := "()V" } : Jvm.MethodName)) ∈ lw_all := lw_g (lw_at lw_m3 170 rfl) rfl
theorem q736 : (Jvm.Cond.classLink "ShellBeach$Habit" (15 : Nat) "java/util/ArrayList") ∈ lw_all := lw_g (lw_at lw_m3 171 rfl) rfl
theorem q737 : (Jvm.Cond.methodLink "ShellBeach$Habit" (17 : Nat) ({ cls := "java/util/ArrayList", name := "<init>", desc := "()V" } : Jvm.MethodName)) ∈ lw_all := lw_g (lw_at lw_m3 172 rfl) rfl
theorem q738 : (Jvm.Cond.fieldLink "ShellBeach$Habit" (29 : Nat) "ShellBeach$Habit" "number" "I") ∈ lw_all := lw_g (lw_at lw_m3 173 rfl) rfl
theorem q740 : (Jvm.Cond.fieldLink "ShellBeach$Habit" (18 : Nat) "ShellBeach$Habit" "tests" "Ljava/util/ArrayList;") ∈ lw_all := lw_g (lw_at lw_m3 175 rfl) rfl
theorem q742 : (Jvm.Cond.fieldLink "ShellBeach$Habit" (22 : Nat) "ShellBeach$Habit" "words" "[I") ∈ lw_all := lw_g (lw_at lw_m3 177 rfl) rfl
theorem q744 : (Jvm.Cond.fieldLink "ShellBeach$Habit" (26 : Nat) "ShellBeach$Habit" "facts" "Ljava/util/ArrayList;") ∈ lw_all := lw_g (lw_at lw_m3 179 rfl) rfl
theorem q747 : (Jvm.Cond.fieldLink "ShellBeach$Habit" (3 : Nat) "ShellBeach$Habit" "this$0" "LShellBeach;") ∈ lw_all := lw_g (lw_at lw_m3 182 rfl) rfl
theorem q748 : (Jvm.Cond.laysFinal "ShellBeach$Habit" "ShellBeach$Habit" "number" "I") ∈ lw_all := lw_g (lw_at lw_m3 183 rfl) rfl
theorem q749 : (Jvm.Cond.soleField "ShellBeach$Habit" "number") ∈ lw_all := lw_g (lw_at lw_m3 184 rfl) rfl
theorem q750 : (Jvm.Cond.laysFinal "ShellBeach$Habit" "ShellBeach$Habit" "tests" "Ljava/util/ArrayList;") ∈ lw_all := lw_g (lw_at lw_m3 185 rfl) rfl
theorem q751 : (Jvm.Cond.soleField "ShellBeach$Habit" "tests") ∈ lw_all := lw_g (lw_at lw_m3 186 rfl) rfl
theorem q752 : (Jvm.Cond.laysFinal "ShellBeach$Habit" "ShellBeach$Habit" "words" "[I") ∈ lw_all := lw_g (lw_at lw_m3 187 rfl) rfl
theorem q753 : (Jvm.Cond.soleField "ShellBeach$Habit" "words") ∈ lw_all := lw_g (lw_at lw_m3 188 rfl) rfl
theorem q754 : (Jvm.Cond.laysFinal "ShellBeach$Habit" "ShellBeach$Habit" "facts" "Ljava/util/ArrayList;") ∈ lw_all := lw_g (lw_at lw_m3 189 rfl) rfl
theorem q755 : (Jvm.Cond.soleField "ShellBeach$Habit" "facts") ∈ lw_all := lw_g (lw_at lw_m3 190 rfl) rfl
theorem q756 : (Jvm.Cond.laysFinal "ShellBeach$Habit" "ShellBeach$Habit" "this$0" "LShellBeach;") ∈ lw_all := lw_g (lw_at lw_m3 191 rfl) rfl
theorem q757 : (Jvm.Cond.soleField "ShellBeach$Habit" "this$0") ∈ lw_all := lw_g (lw_at lw_m3 192 rfl) rfl
theorem q758 : (Jvm.Cond.superclass "ShellBeach$Habit" "java/lang/Object") ∈ lw_all := lw_g (lw_at lw_m3 193 rfl) rfl
theorem q913 : (Jvm.Cond.instanceMethod ({ cls := "ShellBeach$Habit", name := "holds", desc := "(IIIIII)Z" } : Jvm.MethodName)) ∈ lw_all := lw_g (lw_at lw_m4 108 rfl) rfl
theorem q914 : (Jvm.Cond.selects "ShellBeach$Habit" ({ cls := "ShellBeach$Habit", name := "holds", desc := "(IIIIII)Z" } : Jvm.MethodName) ({ cls := "ShellBeach$Habit", name := "holds", desc := "(IIIIII)Z" } : Jvm.MethodName)) ∈ lw_all := lw_g (lw_at lw_m4 109 rfl) rfl
theorem q915 : (Jvm.Cond.code ({ cls := "ShellBeach$Habit", name := "holds", desc := "(IIIIII)Z" } : Jvm.MethodName) prog_8_method_2_code (9 : Nat) (Option.some Jvm.ClassFile.FieldType.boolean)) ∈ lw_all := lw_g (lw_at lw_m4 110 rfl) rfl
theorem q916 : (Jvm.Cond.methodLink "ShellBeach$Habit" (37 : Nat) ({ cls := "ShellBeach$Case", name := "with", desc := "(IIIII)LShellBeach$Case;" } : Jvm.MethodName)) ∈ lw_all := lw_g (lw_at lw_m4 111 rfl) rfl
theorem q920 : (Jvm.Cond.methodLink "ShellBeach$Habit" (43 : Nat) ({ cls := "java/util/ArrayList", name := "size", desc := "()I" } : Jvm.MethodName)) ∈ lw_all := lw_g (lw_at lw_m4 115 rfl) rfl
theorem q921 : (Jvm.Cond.methodLink "ShellBeach$Habit" (47 : Nat) ({ cls := "java/util/ArrayList", name := "get", desc := "(I)Ljava/lang/Object;" } : Jvm.MethodName)) ∈ lw_all := lw_g (lw_at lw_m4 116 rfl) rfl
theorem q922 : (Jvm.Cond.classLink "ShellBeach$Habit" (51 : Nat) "ShellBeach$Test") ∈ lw_all := lw_g (lw_at lw_m4 117 rfl) rfl
theorem q923 : (Jvm.Cond.interfaceEntry "ShellBeach$Habit" (53 : Nat)) ∈ lw_tbl := lw_at lw_m4 118 rfl
theorem q924 : (Jvm.Cond.methodLink "ShellBeach$Habit" (53 : Nat) ({ cls := "ShellBeach$Test", name := "holds", desc := "(LShellBeach$Case;)Z" } : Jvm.MethodName)) ∈ lw_all := lw_g (lw_at lw_m4 119 rfl) rfl
theorem q1875 : (Jvm.Cond.castable "ShellBeach$Habit" "java/lang/Object") ∈ lw_tbl := lw_at lw_m8 110 rfl
theorem in_X13 : ∀ w ∈ wsX130, w ∈ lw_all := lw_in wsX130 [748, 750, 752, 754, 756] (by decide +kernel) (by decide +kernel)
/-! ShellBeach$Wrong -/
def RX14 : String := "ShellBeach$Wrong"
def TX14 : u_T := fun k => match k with
  | 0 => ("java/lang/Throwable", "cause", "Ljava/lang/Throwable;", false)
  | 1 => ("java/lang/Throwable", "stackTrace", "[Ljava/lang/StackTraceElement;", false)
  | 2 => ("java/lang/Throwable", "suppressedExceptions", "Ljava/util/List;", false)
  | 3 => ("java/lang/Throwable", "detailMessage", "Ljava/lang/String;", false)
  | 4 => ("java/lang/Throwable", "backtrace", "Ljava/lang/Object;", false)
  | 5 => ("java/lang/Throwable", "depth", "I", false)
  | _ => ("ShellBeach$Wrong", "place", "I", true)
def tyX14 : Nat → FieldType := fun k => match k with
  | 0 => .object "java/lang/Throwable"
  | 1 => .array (.object "java/lang/StackTraceElement")
  | 2 => .object "java/util/List"
  | 3 => .object "java/lang/String"
  | 4 => .object "java/lang/Object"
  | 5 => .int
  | _ => .int
abbrev wsX140 : List Cond := u_ws RX14 TX14 7
theorem nmX14 : ∀ a, a < 7 → ∀ b, b < 7 → a ≠ b → (TX14 a).2.1 ≠ (TX14 b).2.1 := by decide +kernel
theorem tyX14_ok : ∀ k, k < 7 → parseFieldDescriptor (TX14 k).2.2.1 = some (tyX14 k) := by decide +kernel
abbrev cX14_init : ByteArray := prog_20_method_1_code
def yX14_init : MethodName := ⟨RX14, "<init>", "(I)V"⟩
theorem dX14_init_0 : decode cX14_init 0 = .ok (.aload_n 0, 1) := by decide +kernel
theorem dX14_init_1 : decode cX14_init 1 = .ok (.aconst_null, 1) := by decide +kernel
theorem dX14_init_2 : decode cX14_init 2 = .ok (.aconst_null, 1) := by decide +kernel
theorem dX14_init_3 : decode cX14_init 3 = .ok (.iconst 0, 1) := by decide +kernel
theorem dX14_init_4 : decode cX14_init 4 = .ok (.iconst 0, 1) := by decide +kernel
theorem dX14_init_5 : decode cX14_init 5 = .ok (.invokespecial 1, 3) := by decide +kernel
theorem dX14_init_8 : decode cX14_init 8 = .ok (.aload_n 0, 1) := by decide +kernel
theorem dX14_init_9 : decode cX14_init 9 = .ok (.iload_n 1, 1) := by decide +kernel
theorem dX14_init_10 : decode cX14_init 10 = .ok (.putfield 7, 3) := by decide +kernel
theorem dX14_init_13 : decode cX14_init 13 = .ok (.return_, 1) := by decide +kernel
theorem q111 : (Jvm.Cond.initialized "ShellBeach$Wrong") ∈ lw_all := lw_g (lw_at lw_m1 26 rfl) rfl
theorem q407 : (Jvm.Cond.selects "ShellBeach$Wrong" ({ cls := "java/lang/Object", name := "getClass", desc := "()Ljava/lang/Class;" } : Jvm.MethodName) ({ cls := "java/lang/Object", name := "getClass", desc := "()Ljava/lang/Class;" } : Jvm.MethodName)) ∈ lw_all := lw_g (lw_at lw_m2 82 rfl) rfl
theorem q772 : (Jvm.Cond.instantiable "ShellBeach$Wrong" (7 : Nat)) ∈ lw_all := lw_g (lw_at lw_m3 207 rfl) rfl
theorem q773 : (Jvm.Cond.castable "ShellBeach$Wrong" "ShellBeach$Wrong") ∈ lw_tbl := lw_at lw_m3 208 rfl
theorem q778 : (Jvm.Cond.selects "ShellBeach$Wrong" ({ cls := "java/lang/Throwable", name := "fillInStackTrace", desc := "(I)Ljava/lang/Throwable;" } : Jvm.MethodName) ({ cls := "java/lang/Throwable", name := "fillInStackTrace", desc := "(I)Ljava/lang/Throwable;" } : Jvm.MethodName)) ∈ lw_all := lw_g (lw_at lw_m3 213 rfl) rfl
theorem q779 : (Jvm.Cond.selects "ShellBeach$Wrong" ({ cls := "java/lang/Throwable", name := "fillInStackTrace", desc := "()Ljava/lang/Throwable;" } : Jvm.MethodName) ({ cls := "java/lang/Throwable", name := "fillInStackTrace", desc := "()Ljava/lang/Throwable;" } : Jvm.MethodName)) ∈ lw_all := lw_g (lw_at lw_m3 214 rfl) rfl
theorem q780 : (Jvm.Cond.lays "ShellBeach$Wrong" "java/lang/Throwable" "cause" "Ljava/lang/Throwable;") ∈ lw_all := lw_g (lw_at lw_m3 215 rfl) rfl
theorem q782 : (Jvm.Cond.lays "ShellBeach$Wrong" "java/lang/Throwable" "stackTrace" "[Ljava/lang/StackTraceElement;") ∈ lw_all := lw_g (lw_at lw_m3 217 rfl) rfl
theorem q784 : (Jvm.Cond.lays "ShellBeach$Wrong" "java/lang/Throwable" "suppressedExceptions" "Ljava/util/List;") ∈ lw_all := lw_g (lw_at lw_m3 219 rfl) rfl
theorem q786 : (Jvm.Cond.lays "ShellBeach$Wrong" "java/lang/Throwable" "detailMessage" "Ljava/lang/String;") ∈ lw_all := lw_g (lw_at lw_m3 221 rfl) rfl
theorem q788 : (Jvm.Cond.lays "ShellBeach$Wrong" "java/lang/Throwable" "backtrace" "Ljava/lang/Object;") ∈ lw_all := lw_g (lw_at lw_m3 223 rfl) rfl
theorem q809 : (Jvm.Cond.instanceMethod ({ cls := "ShellBeach$Wrong", name := "<init>", desc := "(I)V" } : Jvm.MethodName)) ∈ lw_all := lw_g (lw_at lw_m4 4 rfl) rfl
theorem q810 : (Jvm.Cond.code ({ cls := "ShellBeach$Wrong", name := "<init>", desc := "(I)V" } : Jvm.MethodName) prog_20_method_1_code (2 : Nat) (Option.none : Option Jvm.ClassFile.FieldType)) ∈ lw_all := lw_g (lw_at lw_m4 5 rfl) rfl
theorem q811 : (Jvm.Cond.methodLink "ShellBeach$Wrong" (1 : Nat) ({ cls := "java/lang/Exception", name := "<init>", desc := "(Ljava/lang/String;Ljava/lang/Throwable;ZZ)V" } : Jvm.MethodName)) ∈ lw_all := lw_g (lw_at lw_m4 6 rfl) rfl
theorem q817 : (Jvm.Cond.fieldLink "ShellBeach$Wrong" (7 : Nat) "ShellBeach$Wrong" "place" "I") ∈ lw_all := lw_g (lw_at lw_m4 12 rfl) rfl
theorem q824 : (Jvm.Cond.laysFinal "ShellBeach$Wrong" "ShellBeach$Wrong" "place" "I") ∈ lw_all := lw_g (lw_at lw_m4 19 rfl) rfl
theorem q825 : (Jvm.Cond.soleField "ShellBeach$Wrong" "place") ∈ lw_all := lw_g (lw_at lw_m4 20 rfl) rfl
theorem q830 : (Jvm.Cond.lays "ShellBeach$Wrong" "java/lang/Throwable" "depth" "I") ∈ lw_all := lw_g (lw_at lw_m4 25 rfl) rfl
theorem q833 : (Jvm.Cond.superclass "ShellBeach$Wrong" "java/lang/Exception") ∈ lw_all := lw_g (lw_at lw_m4 28 rfl) rfl
theorem q1887 : (Jvm.Cond.castable "ShellBeach$Wrong" "java/lang/Object") ∈ lw_tbl := lw_at lw_m8 122 rfl
theorem in_X14 : ∀ w ∈ wsX140, w ∈ lw_all := lw_in wsX140 [780, 782, 784, 786, 788, 830, 824] (by decide +kernel) (by decide +kernel)
/-! ShellBeach$Not -/
def RX15 : String := "ShellBeach$Not"
def TX15 : u_T := fun k => match k with
  | _ => ("ShellBeach$Not", "of", "LShellBeach$Test;", true)
def tyX15 : Nat → FieldType := fun k => match k with
  | _ => .object "ShellBeach$Test"
abbrev wsX150 : List Cond := u_ws RX15 TX15 1
theorem nmX15 : ∀ a, a < 1 → ∀ b, b < 1 → a ≠ b → (TX15 a).2.1 ≠ (TX15 b).2.1 := by decide +kernel
theorem tyX15_ok : ∀ k, k < 1 → parseFieldDescriptor (TX15 k).2.2.1 = some (tyX15 k) := by decide +kernel
abbrev cX15_init : ByteArray := prog_12_method_1_code
def yX15_init : MethodName := ⟨RX15, "<init>", "(LShellBeach$Test;)V"⟩
theorem dX15_init_0 : decode cX15_init 0 = .ok (.aload_n 0, 1) := by decide +kernel
theorem dX15_init_1 : decode cX15_init 1 = .ok (.invokespecial 1, 3) := by decide +kernel
theorem dX15_init_4 : decode cX15_init 4 = .ok (.aload_n 0, 1) := by decide +kernel
theorem dX15_init_5 : decode cX15_init 5 = .ok (.aload_n 1, 1) := by decide +kernel
theorem dX15_init_6 : decode cX15_init 6 = .ok (.putfield 7, 3) := by decide +kernel
theorem dX15_init_9 : decode cX15_init 9 = .ok (.return_, 1) := by decide +kernel
abbrev cX15_holds : ByteArray := prog_12_method_2_code
def yX15_holds : MethodName := ⟨RX15, "holds", "(LShellBeach$Case;)Z"⟩
theorem dX15_holds_0 : decode cX15_holds 0 = .ok (.aload_n 0, 1) := by decide +kernel
theorem dX15_holds_1 : decode cX15_holds 1 = .ok (.getfield 7, 3) := by decide +kernel
theorem dX15_holds_4 : decode cX15_holds 4 = .ok (.aload_n 1, 1) := by decide +kernel
theorem dX15_holds_5 : decode cX15_holds 5 = .ok (.invokeinterface 13 2, 5) := by decide +kernel
theorem dX15_holds_10 : decode cX15_holds 10 = .ok (.ifCond .ne 7, 3) := by decide +kernel
theorem dX15_holds_13 : decode cX15_holds 13 = .ok (.iconst 1, 1) := by decide +kernel
theorem dX15_holds_14 : decode cX15_holds 14 = .ok (.goto 4, 3) := by decide +kernel
theorem dX15_holds_17 : decode cX15_holds 17 = .ok (.iconst 0, 1) := by decide +kernel
theorem dX15_holds_18 : decode cX15_holds 18 = .ok (.ireturn, 1) := by decide +kernel
theorem q112 : (Jvm.Cond.initialized "ShellBeach$Not") ∈ lw_all := lw_g (lw_at lw_m1 27 rfl) rfl
theorem q400 : (Jvm.Cond.selects "ShellBeach$Not" ({ cls := "java/lang/Object", name := "getClass", desc := "()Ljava/lang/Class;" } : Jvm.MethodName) ({ cls := "java/lang/Object", name := "getClass", desc := "()Ljava/lang/Class;" } : Jvm.MethodName)) ∈ lw_all := lw_g (lw_at lw_m2 75 rfl) rfl
theorem q855 : (Jvm.Cond.instantiable "ShellBeach$Not" (1 : Nat)) ∈ lw_all := lw_g (lw_at lw_m4 50 rfl) rfl
theorem q857 : (Jvm.Cond.instanceMethod ({ cls := "ShellBeach$Not", name := "<init>", desc := "(LShellBeach$Test;)V" } : Jvm.MethodName)) ∈ lw_all := lw_g (lw_at lw_m4 52 rfl) rfl
theorem q858 : (Jvm.Cond.code ({ cls := "ShellBeach$Not", name := "<init>", desc := "(LShellBeach$Test;)V" } : Jvm.MethodName) prog_12_method_1_code (2 : Nat) (Option.none : Option Jvm.ClassFile.FieldType)) ∈ lw_all := lw_g (lw_at lw_m4 53 rfl) rfl
theorem q859 : (Jvm.Cond.methodLink "ShellBeach$Not" (1 : Nat) ({ cls := "java/lang/Object", name := "<init>", desc := "()V" } : Jvm.MethodName)) ∈ lw_all := lw_g (lw_at lw_m4 54 rfl) rfl
theorem q860 : (Jvm.Cond.fieldLink "ShellBeach$Not" (7 : Nat) "ShellBeach$Not" "of" "LShellBeach$Test;") ∈ lw_all := lw_g (lw_at lw_m4 55 rfl) rfl
theorem q861 : (Jvm.Cond.laysFinal "ShellBeach$Not" "ShellBeach$Not" "of" "LShellBeach$Test;") ∈ lw_all := lw_g (lw_at lw_m4 56 rfl) rfl
theorem q862 : (Jvm.Cond.soleField "ShellBeach$Not" "of") ∈ lw_all := lw_g (lw_at lw_m4 57 rfl) rfl
theorem q863 : (Jvm.Cond.superclass "ShellBeach$Not" "java/lang/Object") ∈ lw_all := lw_g (lw_at lw_m4 58 rfl) rfl
theorem q937 : (Jvm.Cond.castable "ShellBeach$Not" "ShellBeach$Test") ∈ lw_tbl := lw_at lw_m4 132 rfl
theorem q938 : (Jvm.Cond.selects "ShellBeach$Not" ({ cls := "ShellBeach$Test", name := "holds", desc := "(LShellBeach$Case;)Z" } : Jvm.MethodName) ({ cls := "ShellBeach$Not", name := "holds", desc := "(LShellBeach$Case;)Z" } : Jvm.MethodName)) ∈ lw_all := lw_g (lw_at lw_m4 133 rfl) rfl
theorem q939 : (Jvm.Cond.unhidden "ShellBeach$Not" "holds" "(LShellBeach$Case;)Z") ∈ lw_tbl := lw_at lw_m4 134 rfl
theorem q940 : (Jvm.Cond.instanceMethod ({ cls := "ShellBeach$Not", name := "holds", desc := "(LShellBeach$Case;)Z" } : Jvm.MethodName)) ∈ lw_all := lw_g (lw_at lw_m4 135 rfl) rfl
theorem q941 : (Jvm.Cond.publicMethod ({ cls := "ShellBeach$Not", name := "holds", desc := "(LShellBeach$Case;)Z" } : Jvm.MethodName)) ∈ lw_tbl := lw_at lw_m4 136 rfl
theorem q942 : (Jvm.Cond.code ({ cls := "ShellBeach$Not", name := "holds", desc := "(LShellBeach$Case;)Z" } : Jvm.MethodName) prog_12_method_2_code (2 : Nat) (Option.some Jvm.ClassFile.FieldType.boolean)) ∈ lw_all := lw_g (lw_at lw_m4 137 rfl) rfl
theorem q943 : (Jvm.Cond.interfaceEntry "ShellBeach$Not" (13 : Nat)) ∈ lw_tbl := lw_at lw_m4 138 rfl
theorem q944 : (Jvm.Cond.methodLink "ShellBeach$Not" (13 : Nat) ({ cls := "ShellBeach$Test", name := "holds", desc := "(LShellBeach$Case;)Z" } : Jvm.MethodName)) ∈ lw_all := lw_g (lw_at lw_m4 139 rfl) rfl
theorem q1888 : (Jvm.Cond.castable "ShellBeach$Not" "java/lang/Object") ∈ lw_tbl := lw_at lw_m8 123 rfl
theorem in_X15 : ∀ w ∈ wsX150, w ∈ lw_all := lw_in wsX150 [861] (by decide +kernel) (by decide +kernel)
/-! ShellBeach$Fact -/
def RX16 : String := "ShellBeach$Fact"
def TX16 : u_T := fun k => match k with
  | 0 => ("ShellBeach$Fact", "letter", "I", true)
  | 1 => ("ShellBeach$Fact", "op", "I", true)
  | _ => ("ShellBeach$Fact", "number", "I", false)
def tyX16 : Nat → FieldType := fun k => match k with
  | 0 => .int
  | 1 => .int
  | _ => .int
abbrev wsX160 : List Cond := u_ws RX16 TX16 3
theorem nmX16 : ∀ a, a < 3 → ∀ b, b < 3 → a ≠ b → (TX16 a).2.1 ≠ (TX16 b).2.1 := by decide +kernel
theorem tyX16_ok : ∀ k, k < 3 → parseFieldDescriptor (TX16 k).2.2.1 = some (tyX16 k) := by decide +kernel
abbrev cX16_init : ByteArray := prog_6_method_1_code
def yX16_init : MethodName := ⟨RX16, "<init>", "(III)V"⟩
theorem dX16_init_0 : decode cX16_init 0 = .ok (.aload_n 0, 1) := by decide +kernel
theorem dX16_init_1 : decode cX16_init 1 = .ok (.invokespecial 1, 3) := by decide +kernel
theorem dX16_init_4 : decode cX16_init 4 = .ok (.aload_n 0, 1) := by decide +kernel
theorem dX16_init_5 : decode cX16_init 5 = .ok (.iload_n 1, 1) := by decide +kernel
theorem dX16_init_6 : decode cX16_init 6 = .ok (.putfield 7, 3) := by decide +kernel
theorem dX16_init_9 : decode cX16_init 9 = .ok (.aload_n 0, 1) := by decide +kernel
theorem dX16_init_10 : decode cX16_init 10 = .ok (.iload_n 2, 1) := by decide +kernel
theorem dX16_init_11 : decode cX16_init 11 = .ok (.putfield 13, 3) := by decide +kernel
theorem dX16_init_14 : decode cX16_init 14 = .ok (.aload_n 0, 1) := by decide +kernel
theorem dX16_init_15 : decode cX16_init 15 = .ok (.iload_n 3, 1) := by decide +kernel
theorem dX16_init_16 : decode cX16_init 16 = .ok (.putfield 16, 3) := by decide +kernel
theorem dX16_init_19 : decode cX16_init 19 = .ok (.return_, 1) := by decide +kernel
abbrev cX16_holds : ByteArray := prog_6_method_2_code
def yX16_holds : MethodName := ⟨RX16, "holds", "(LShellBeach$Case;)Z"⟩
theorem dX16_holds_0 : decode cX16_holds 0 = .ok (.aload_n 1, 1) := by decide +kernel
theorem dX16_holds_1 : decode cX16_holds 1 = .ok (.aload_n 0, 1) := by decide +kernel
theorem dX16_holds_2 : decode cX16_holds 2 = .ok (.getfield 7, 3) := by decide +kernel
theorem dX16_holds_5 : decode cX16_holds 5 = .ok (.invokevirtual 19, 3) := by decide +kernel
theorem dX16_holds_8 : decode cX16_holds 8 = .ok (.istore_n 2, 1) := by decide +kernel
theorem dX16_holds_9 : decode cX16_holds 9 = .ok (.aload_n 0, 1) := by decide +kernel
theorem dX16_holds_10 : decode cX16_holds 10 = .ok (.getfield 13, 3) := by decide +kernel
theorem dX16_holds_13 : decode cX16_holds 13 = .ok (.bipush 60, 2) := by decide +kernel
theorem dX16_holds_15 : decode cX16_holds 15 = .ok (.if_icmp .ne 19, 3) := by decide +kernel
theorem dX16_holds_18 : decode cX16_holds 18 = .ok (.iload_n 2, 1) := by decide +kernel
theorem dX16_holds_19 : decode cX16_holds 19 = .ok (.aload_n 0, 1) := by decide +kernel
theorem dX16_holds_20 : decode cX16_holds 20 = .ok (.getfield 16, 3) := by decide +kernel
theorem dX16_holds_23 : decode cX16_holds 23 = .ok (.if_icmp .ge 7, 3) := by decide +kernel
theorem dX16_holds_26 : decode cX16_holds 26 = .ok (.iconst 1, 1) := by decide +kernel
theorem dX16_holds_27 : decode cX16_holds 27 = .ok (.goto 45, 3) := by decide +kernel
theorem dX16_holds_30 : decode cX16_holds 30 = .ok (.iconst 0, 1) := by decide +kernel
theorem dX16_holds_31 : decode cX16_holds 31 = .ok (.goto 41, 3) := by decide +kernel
theorem dX16_holds_34 : decode cX16_holds 34 = .ok (.aload_n 0, 1) := by decide +kernel
theorem dX16_holds_35 : decode cX16_holds 35 = .ok (.getfield 13, 3) := by decide +kernel
theorem dX16_holds_38 : decode cX16_holds 38 = .ok (.bipush 61, 2) := by decide +kernel
theorem dX16_holds_40 : decode cX16_holds 40 = .ok (.if_icmp .ne 19, 3) := by decide +kernel
theorem dX16_holds_43 : decode cX16_holds 43 = .ok (.iload_n 2, 1) := by decide +kernel
theorem dX16_holds_44 : decode cX16_holds 44 = .ok (.aload_n 0, 1) := by decide +kernel
theorem dX16_holds_45 : decode cX16_holds 45 = .ok (.getfield 16, 3) := by decide +kernel
theorem dX16_holds_48 : decode cX16_holds 48 = .ok (.if_icmp .ne 7, 3) := by decide +kernel
theorem dX16_holds_51 : decode cX16_holds 51 = .ok (.iconst 1, 1) := by decide +kernel
theorem dX16_holds_52 : decode cX16_holds 52 = .ok (.goto 20, 3) := by decide +kernel
theorem dX16_holds_55 : decode cX16_holds 55 = .ok (.iconst 0, 1) := by decide +kernel
theorem dX16_holds_56 : decode cX16_holds 56 = .ok (.goto 16, 3) := by decide +kernel
theorem dX16_holds_59 : decode cX16_holds 59 = .ok (.iload_n 2, 1) := by decide +kernel
theorem dX16_holds_60 : decode cX16_holds 60 = .ok (.aload_n 0, 1) := by decide +kernel
theorem dX16_holds_61 : decode cX16_holds 61 = .ok (.getfield 16, 3) := by decide +kernel
theorem dX16_holds_64 : decode cX16_holds 64 = .ok (.if_icmp .le 7, 3) := by decide +kernel
theorem dX16_holds_67 : decode cX16_holds 67 = .ok (.iconst 1, 1) := by decide +kernel
theorem dX16_holds_68 : decode cX16_holds 68 = .ok (.goto 4, 3) := by decide +kernel
theorem dX16_holds_71 : decode cX16_holds 71 = .ok (.iconst 0, 1) := by decide +kernel
theorem dX16_holds_72 : decode cX16_holds 72 = .ok (.ireturn, 1) := by decide +kernel
theorem q113 : (Jvm.Cond.initialized "ShellBeach$Fact") ∈ lw_all := lw_g (lw_at lw_m1 28 rfl) rfl
theorem q394 : (Jvm.Cond.selects "ShellBeach$Fact" ({ cls := "java/lang/Object", name := "getClass", desc := "()Ljava/lang/Class;" } : Jvm.MethodName) ({ cls := "java/lang/Object", name := "getClass", desc := "()Ljava/lang/Class;" } : Jvm.MethodName)) ∈ lw_all := lw_g (lw_at lw_m2 69 rfl) rfl
theorem q865 : (Jvm.Cond.instantiable "ShellBeach$Fact" (3 : Nat)) ∈ lw_all := lw_g (lw_at lw_m4 60 rfl) rfl
theorem q871 : (Jvm.Cond.instanceMethod ({ cls := "ShellBeach$Fact", name := "<init>", desc := "(III)V" } : Jvm.MethodName)) ∈ lw_all := lw_g (lw_at lw_m4 66 rfl) rfl
theorem q872 : (Jvm.Cond.code ({ cls := "ShellBeach$Fact", name := "<init>", desc := "(III)V" } : Jvm.MethodName) prog_6_method_1_code (4 : Nat) (Option.none : Option Jvm.ClassFile.FieldType)) ∈ lw_all := lw_g (lw_at lw_m4 67 rfl) rfl
theorem q873 : (Jvm.Cond.methodLink "ShellBeach$Fact" (1 : Nat) ({ cls := "java/lang/Object", name := "<init>", desc := "()V" } : Jvm.MethodName)) ∈ lw_all := lw_g (lw_at lw_m4 68 rfl) rfl
theorem q874 : (Jvm.Cond.fieldLink "ShellBeach$Fact" (7 : Nat) "ShellBeach$Fact" "letter" "I") ∈ lw_all := lw_g (lw_at lw_m4 69 rfl) rfl
theorem q875 : (Jvm.Cond.fieldLink "ShellBeach$Fact" (13 : Nat) "ShellBeach$Fact" "op" "I") ∈ lw_all := lw_g (lw_at lw_m4 70 rfl) rfl
theorem q876 : (Jvm.Cond.fieldLink "ShellBeach$Fact" (16 : Nat) "ShellBeach$Fact" "number" "I") ∈ lw_all := lw_g (lw_at lw_m4 71 rfl) rfl
theorem q878 : (Jvm.Cond.laysFinal "ShellBeach$Fact" "ShellBeach$Fact" "letter" "I") ∈ lw_all := lw_g (lw_at lw_m4 73 rfl) rfl
theorem q879 : (Jvm.Cond.soleField "ShellBeach$Fact" "letter") ∈ lw_all := lw_g (lw_at lw_m4 74 rfl) rfl
theorem q880 : (Jvm.Cond.laysFinal "ShellBeach$Fact" "ShellBeach$Fact" "op" "I") ∈ lw_all := lw_g (lw_at lw_m4 75 rfl) rfl
theorem q881 : (Jvm.Cond.soleField "ShellBeach$Fact" "op") ∈ lw_all := lw_g (lw_at lw_m4 76 rfl) rfl
theorem q882 : (Jvm.Cond.lays "ShellBeach$Fact" "ShellBeach$Fact" "number" "I") ∈ lw_all := lw_g (lw_at lw_m4 77 rfl) rfl
theorem q883 : (Jvm.Cond.soleField "ShellBeach$Fact" "number") ∈ lw_all := lw_g (lw_at lw_m4 78 rfl) rfl
theorem q884 : (Jvm.Cond.superclass "ShellBeach$Fact" "java/lang/Object") ∈ lw_all := lw_g (lw_at lw_m4 79 rfl) rfl
theorem q927 : (Jvm.Cond.castable "ShellBeach$Fact" "ShellBeach$Test") ∈ lw_tbl := lw_at lw_m4 122 rfl
theorem q928 : (Jvm.Cond.selects "ShellBeach$Fact" ({ cls := "ShellBeach$Test", name := "holds", desc := "(LShellBeach$Case;)Z" } : Jvm.MethodName) ({ cls := "ShellBeach$Fact", name := "holds", desc := "(LShellBeach$Case;)Z" } : Jvm.MethodName)) ∈ lw_all := lw_g (lw_at lw_m4 123 rfl) rfl
theorem q929 : (Jvm.Cond.unhidden "ShellBeach$Fact" "holds" "(LShellBeach$Case;)Z") ∈ lw_tbl := lw_at lw_m4 124 rfl
theorem q930 : (Jvm.Cond.instanceMethod ({ cls := "ShellBeach$Fact", name := "holds", desc := "(LShellBeach$Case;)Z" } : Jvm.MethodName)) ∈ lw_all := lw_g (lw_at lw_m4 125 rfl) rfl
theorem q931 : (Jvm.Cond.publicMethod ({ cls := "ShellBeach$Fact", name := "holds", desc := "(LShellBeach$Case;)Z" } : Jvm.MethodName)) ∈ lw_tbl := lw_at lw_m4 126 rfl
theorem q932 : (Jvm.Cond.code ({ cls := "ShellBeach$Fact", name := "holds", desc := "(LShellBeach$Case;)Z" } : Jvm.MethodName) prog_6_method_2_code (3 : Nat) (Option.some Jvm.ClassFile.FieldType.boolean)) ∈ lw_all := lw_g (lw_at lw_m4 127 rfl) rfl
theorem q933 : (Jvm.Cond.methodLink "ShellBeach$Fact" (19 : Nat) ({ cls := "ShellBeach$Case", name := "fact", desc := "(I)I" } : Jvm.MethodName)) ∈ lw_all := lw_g (lw_at lw_m4 128 rfl) rfl
theorem q1889 : (Jvm.Cond.castable "ShellBeach$Fact" "java/lang/Object") ∈ lw_tbl := lw_at lw_m8 124 rfl
theorem in_X16 : ∀ w ∈ wsX160, w ∈ lw_all := lw_in wsX160 [878, 880, 882] (by decide +kernel) (by decide +kernel)
/-! ShellBeach$Two -/
def RX17 : String := "ShellBeach$Two"
def TX17 : u_T := fun k => match k with
  | 0 => ("ShellBeach$Two", "first", "LShellBeach$Test;", true)
  | 1 => ("ShellBeach$Two", "second", "LShellBeach$Test;", true)
  | _ => ("ShellBeach$Two", "both", "Z", true)
def tyX17 : Nat → FieldType := fun k => match k with
  | 0 => .object "ShellBeach$Test"
  | 1 => .object "ShellBeach$Test"
  | _ => .boolean
abbrev wsX170 : List Cond := u_ws RX17 TX17 3
theorem nmX17 : ∀ a, a < 3 → ∀ b, b < 3 → a ≠ b → (TX17 a).2.1 ≠ (TX17 b).2.1 := by decide +kernel
theorem tyX17_ok : ∀ k, k < 3 → parseFieldDescriptor (TX17 k).2.2.1 = some (tyX17 k) := by decide +kernel
abbrev cX17_init : ByteArray := prog_17_method_1_code
def yX17_init : MethodName := ⟨RX17, "<init>", "(LShellBeach$Test;LShellBeach$Test;Z)V"⟩
theorem dX17_init_0 : decode cX17_init 0 = .ok (.aload_n 0, 1) := by decide +kernel
theorem dX17_init_1 : decode cX17_init 1 = .ok (.invokespecial 1, 3) := by decide +kernel
theorem dX17_init_4 : decode cX17_init 4 = .ok (.aload_n 0, 1) := by decide +kernel
theorem dX17_init_5 : decode cX17_init 5 = .ok (.aload_n 1, 1) := by decide +kernel
theorem dX17_init_6 : decode cX17_init 6 = .ok (.putfield 7, 3) := by decide +kernel
theorem dX17_init_9 : decode cX17_init 9 = .ok (.aload_n 0, 1) := by decide +kernel
theorem dX17_init_10 : decode cX17_init 10 = .ok (.aload_n 2, 1) := by decide +kernel
theorem dX17_init_11 : decode cX17_init 11 = .ok (.putfield 13, 3) := by decide +kernel
theorem dX17_init_14 : decode cX17_init 14 = .ok (.aload_n 0, 1) := by decide +kernel
theorem dX17_init_15 : decode cX17_init 15 = .ok (.iload_n 3, 1) := by decide +kernel
theorem dX17_init_16 : decode cX17_init 16 = .ok (.putfield 16, 3) := by decide +kernel
theorem dX17_init_19 : decode cX17_init 19 = .ok (.return_, 1) := by decide +kernel
abbrev cX17_holds : ByteArray := prog_17_method_2_code
def yX17_holds : MethodName := ⟨RX17, "holds", "(LShellBeach$Case;)Z"⟩
theorem dX17_holds_0 : decode cX17_holds 0 = .ok (.aload_n 0, 1) := by decide +kernel
theorem dX17_holds_1 : decode cX17_holds 1 = .ok (.getfield 16, 3) := by decide +kernel
theorem dX17_holds_4 : decode cX17_holds 4 = .ok (.ifCond .eq 37, 3) := by decide +kernel
theorem dX17_holds_7 : decode cX17_holds 7 = .ok (.aload_n 0, 1) := by decide +kernel
theorem dX17_holds_8 : decode cX17_holds 8 = .ok (.getfield 7, 3) := by decide +kernel
theorem dX17_holds_11 : decode cX17_holds 11 = .ok (.aload_n 1, 1) := by decide +kernel
theorem dX17_holds_12 : decode cX17_holds 12 = .ok (.invokeinterface 20 2, 5) := by decide +kernel
theorem dX17_holds_17 : decode cX17_holds 17 = .ok (.ifCond .eq 20, 3) := by decide +kernel
theorem dX17_holds_20 : decode cX17_holds 20 = .ok (.aload_n 0, 1) := by decide +kernel
theorem dX17_holds_21 : decode cX17_holds 21 = .ok (.getfield 13, 3) := by decide +kernel
theorem dX17_holds_24 : decode cX17_holds 24 = .ok (.aload_n 1, 1) := by decide +kernel
theorem dX17_holds_25 : decode cX17_holds 25 = .ok (.invokeinterface 20 2, 5) := by decide +kernel
theorem dX17_holds_30 : decode cX17_holds 30 = .ok (.ifCond .eq 7, 3) := by decide +kernel
theorem dX17_holds_33 : decode cX17_holds 33 = .ok (.iconst 1, 1) := by decide +kernel
theorem dX17_holds_34 : decode cX17_holds 34 = .ok (.goto 38, 3) := by decide +kernel
theorem dX17_holds_37 : decode cX17_holds 37 = .ok (.iconst 0, 1) := by decide +kernel
theorem dX17_holds_38 : decode cX17_holds 38 = .ok (.goto 34, 3) := by decide +kernel
theorem dX17_holds_41 : decode cX17_holds 41 = .ok (.aload_n 0, 1) := by decide +kernel
theorem dX17_holds_42 : decode cX17_holds 42 = .ok (.getfield 7, 3) := by decide +kernel
theorem dX17_holds_45 : decode cX17_holds 45 = .ok (.aload_n 1, 1) := by decide +kernel
theorem dX17_holds_46 : decode cX17_holds 46 = .ok (.invokeinterface 20 2, 5) := by decide +kernel
theorem dX17_holds_51 : decode cX17_holds 51 = .ok (.ifCond .ne 16, 3) := by decide +kernel
theorem dX17_holds_54 : decode cX17_holds 54 = .ok (.aload_n 0, 1) := by decide +kernel
theorem dX17_holds_55 : decode cX17_holds 55 = .ok (.getfield 13, 3) := by decide +kernel
theorem dX17_holds_58 : decode cX17_holds 58 = .ok (.aload_n 1, 1) := by decide +kernel
theorem dX17_holds_59 : decode cX17_holds 59 = .ok (.invokeinterface 20 2, 5) := by decide +kernel
theorem dX17_holds_64 : decode cX17_holds 64 = .ok (.ifCond .eq 7, 3) := by decide +kernel
theorem dX17_holds_67 : decode cX17_holds 67 = .ok (.iconst 1, 1) := by decide +kernel
theorem dX17_holds_68 : decode cX17_holds 68 = .ok (.goto 4, 3) := by decide +kernel
theorem dX17_holds_71 : decode cX17_holds 71 = .ok (.iconst 0, 1) := by decide +kernel
theorem dX17_holds_72 : decode cX17_holds 72 = .ok (.ireturn, 1) := by decide +kernel
theorem q114 : (Jvm.Cond.initialized "ShellBeach$Two") ∈ lw_all := lw_g (lw_at lw_m1 29 rfl) rfl
theorem q404 : (Jvm.Cond.selects "ShellBeach$Two" ({ cls := "java/lang/Object", name := "getClass", desc := "()Ljava/lang/Class;" } : Jvm.MethodName) ({ cls := "java/lang/Object", name := "getClass", desc := "()Ljava/lang/Class;" } : Jvm.MethodName)) ∈ lw_all := lw_g (lw_at lw_m2 79 rfl) rfl
theorem q887 : (Jvm.Cond.instantiable "ShellBeach$Two" (3 : Nat)) ∈ lw_all := lw_g (lw_at lw_m4 82 rfl) rfl
theorem q889 : (Jvm.Cond.instanceMethod ({ cls := "ShellBeach$Two", name := "<init>", desc := "(LShellBeach$Test;LShellBeach$Test;Z)V" } : Jvm.MethodName)) ∈ lw_all := lw_g (lw_at lw_m4 84 rfl) rfl
theorem q890 : (Jvm.Cond.code ({ cls := "ShellBeach$Two", name := "<init>", desc := "(LShellBeach$Test;LShellBeach$Test;Z)V" } : Jvm.MethodName) prog_17_method_1_code (4 : Nat) (Option.none : Option Jvm.ClassFile.FieldType)) ∈ lw_all := lw_g (lw_at lw_m4 85 rfl) rfl
theorem q891 : (Jvm.Cond.methodLink "ShellBeach$Two" (1 : Nat) ({ cls := "java/lang/Object", name := "<init>", desc := "()V" } : Jvm.MethodName)) ∈ lw_all := lw_g (lw_at lw_m4 86 rfl) rfl
theorem q892 : (Jvm.Cond.fieldLink "ShellBeach$Two" (7 : Nat) "ShellBeach$Two" "first" "LShellBeach$Test;") ∈ lw_all := lw_g (lw_at lw_m4 87 rfl) rfl
theorem q893 : (Jvm.Cond.fieldLink "ShellBeach$Two" (13 : Nat) "ShellBeach$Two" "second" "LShellBeach$Test;") ∈ lw_all := lw_g (lw_at lw_m4 88 rfl) rfl
theorem q894 : (Jvm.Cond.fieldLink "ShellBeach$Two" (16 : Nat) "ShellBeach$Two" "both" "Z") ∈ lw_all := lw_g (lw_at lw_m4 89 rfl) rfl
theorem q895 : (Jvm.Cond.laysFinal "ShellBeach$Two" "ShellBeach$Two" "first" "LShellBeach$Test;") ∈ lw_all := lw_g (lw_at lw_m4 90 rfl) rfl
theorem q896 : (Jvm.Cond.soleField "ShellBeach$Two" "first") ∈ lw_all := lw_g (lw_at lw_m4 91 rfl) rfl
theorem q897 : (Jvm.Cond.laysFinal "ShellBeach$Two" "ShellBeach$Two" "second" "LShellBeach$Test;") ∈ lw_all := lw_g (lw_at lw_m4 92 rfl) rfl
theorem q898 : (Jvm.Cond.soleField "ShellBeach$Two" "second") ∈ lw_all := lw_g (lw_at lw_m4 93 rfl) rfl
theorem q899 : (Jvm.Cond.laysFinal "ShellBeach$Two" "ShellBeach$Two" "both" "Z") ∈ lw_all := lw_g (lw_at lw_m4 94 rfl) rfl
theorem q900 : (Jvm.Cond.soleField "ShellBeach$Two" "both") ∈ lw_all := lw_g (lw_at lw_m4 95 rfl) rfl
theorem q901 : (Jvm.Cond.superclass "ShellBeach$Two" "java/lang/Object") ∈ lw_all := lw_g (lw_at lw_m4 96 rfl) rfl
theorem q945 : (Jvm.Cond.castable "ShellBeach$Two" "ShellBeach$Test") ∈ lw_tbl := lw_at lw_m4 140 rfl
theorem q946 : (Jvm.Cond.selects "ShellBeach$Two" ({ cls := "ShellBeach$Test", name := "holds", desc := "(LShellBeach$Case;)Z" } : Jvm.MethodName) ({ cls := "ShellBeach$Two", name := "holds", desc := "(LShellBeach$Case;)Z" } : Jvm.MethodName)) ∈ lw_all := lw_g (lw_at lw_m4 141 rfl) rfl
theorem q947 : (Jvm.Cond.unhidden "ShellBeach$Two" "holds" "(LShellBeach$Case;)Z") ∈ lw_tbl := lw_at lw_m4 142 rfl
theorem q948 : (Jvm.Cond.instanceMethod ({ cls := "ShellBeach$Two", name := "holds", desc := "(LShellBeach$Case;)Z" } : Jvm.MethodName)) ∈ lw_all := lw_g (lw_at lw_m4 143 rfl) rfl
theorem q949 : (Jvm.Cond.publicMethod ({ cls := "ShellBeach$Two", name := "holds", desc := "(LShellBeach$Case;)Z" } : Jvm.MethodName)) ∈ lw_tbl := lw_at lw_m4 144 rfl
theorem q950 : (Jvm.Cond.code ({ cls := "ShellBeach$Two", name := "holds", desc := "(LShellBeach$Case;)Z" } : Jvm.MethodName) prog_17_method_2_code (2 : Nat) (Option.some Jvm.ClassFile.FieldType.boolean)) ∈ lw_all := lw_g (lw_at lw_m4 145 rfl) rfl
theorem q951 : (Jvm.Cond.interfaceEntry "ShellBeach$Two" (20 : Nat)) ∈ lw_tbl := lw_at lw_m4 146 rfl
theorem q952 : (Jvm.Cond.methodLink "ShellBeach$Two" (20 : Nat) ({ cls := "ShellBeach$Test", name := "holds", desc := "(LShellBeach$Case;)Z" } : Jvm.MethodName)) ∈ lw_all := lw_g (lw_at lw_m4 147 rfl) rfl
theorem q1890 : (Jvm.Cond.castable "ShellBeach$Two" "java/lang/Object") ∈ lw_tbl := lw_at lw_m8 125 rfl
theorem in_X17 : ∀ w ∈ wsX170, w ∈ lw_all := lw_in wsX170 [895, 897, 899] (by decide +kernel) (by decide +kernel)
/-! ShellBeach$Film -/
def RX18 : String := "ShellBeach$Film"
def TX18 : u_T := fun k => match k with
  | 0 => ("ShellBeach$Film", "word", "I", true)
  | 1 => ("ShellBeach$Film", "f", "I", true)
  | 2 => ("ShellBeach$Film", "g", "I", true)
  | 3 => ("ShellBeach$Film", "s", "I", true)
  | 4 => ("ShellBeach$Film", "o", "I", true)
  | 5 => ("ShellBeach$Film", "n", "I", true)
  | _ => ("ShellBeach$Film", "seen", "I", true)
def tyX18 : Nat → FieldType := fun k => match k with
  | 0 => .int
  | 1 => .int
  | 2 => .int
  | 3 => .int
  | 4 => .int
  | 5 => .int
  | _ => .int
abbrev wsX180 : List Cond := u_ws RX18 TX18 7
theorem nmX18 : ∀ a, a < 7 → ∀ b, b < 7 → a ≠ b → (TX18 a).2.1 ≠ (TX18 b).2.1 := by decide +kernel
theorem tyX18_ok : ∀ k, k < 7 → parseFieldDescriptor (TX18 k).2.2.1 = some (tyX18 k) := by decide +kernel
abbrev cX18_init : ByteArray := prog_7_method_1_code
def yX18_init : MethodName := ⟨RX18, "<init>", "(IIIIIII)V"⟩
theorem dX18_init_0 : decode cX18_init 0 = .ok (.aload_n 0, 1) := by decide +kernel
theorem dX18_init_1 : decode cX18_init 1 = .ok (.invokespecial 3, 3) := by decide +kernel
theorem dX18_init_4 : decode cX18_init 4 = .ok (.aload_n 0, 1) := by decide +kernel
theorem dX18_init_5 : decode cX18_init 5 = .ok (.iload_n 1, 1) := by decide +kernel
theorem dX18_init_6 : decode cX18_init 6 = .ok (.putfield 9, 3) := by decide +kernel
theorem dX18_init_9 : decode cX18_init 9 = .ok (.aload_n 0, 1) := by decide +kernel
theorem dX18_init_10 : decode cX18_init 10 = .ok (.iload_n 2, 1) := by decide +kernel
theorem dX18_init_11 : decode cX18_init 11 = .ok (.putfield 15, 3) := by decide +kernel
theorem dX18_init_14 : decode cX18_init 14 = .ok (.aload_n 0, 1) := by decide +kernel
theorem dX18_init_15 : decode cX18_init 15 = .ok (.iload_n 3, 1) := by decide +kernel
theorem dX18_init_16 : decode cX18_init 16 = .ok (.putfield 18, 3) := by decide +kernel
theorem dX18_init_19 : decode cX18_init 19 = .ok (.aload_n 0, 1) := by decide +kernel
theorem dX18_init_20 : decode cX18_init 20 = .ok (.iload 4, 2) := by decide +kernel
theorem dX18_init_22 : decode cX18_init 22 = .ok (.putfield 21, 3) := by decide +kernel
theorem dX18_init_25 : decode cX18_init 25 = .ok (.aload_n 0, 1) := by decide +kernel
theorem dX18_init_26 : decode cX18_init 26 = .ok (.iload 5, 2) := by decide +kernel
theorem dX18_init_28 : decode cX18_init 28 = .ok (.putfield 24, 3) := by decide +kernel
theorem dX18_init_31 : decode cX18_init 31 = .ok (.aload_n 0, 1) := by decide +kernel
theorem dX18_init_32 : decode cX18_init 32 = .ok (.iload 6, 2) := by decide +kernel
theorem dX18_init_34 : decode cX18_init 34 = .ok (.putfield 27, 3) := by decide +kernel
theorem dX18_init_37 : decode cX18_init 37 = .ok (.aload_n 0, 1) := by decide +kernel
theorem dX18_init_38 : decode cX18_init 38 = .ok (.iload 7, 2) := by decide +kernel
theorem dX18_init_40 : decode cX18_init 40 = .ok (.putfield 30, 3) := by decide +kernel
theorem dX18_init_43 : decode cX18_init 43 = .ok (.return_, 1) := by decide +kernel
abbrev cX18_isSeen : ByteArray := prog_7_method_2_code
def yX18_isSeen : MethodName := ⟨RX18, "isSeen", "()Z"⟩
theorem dX18_isSeen_0 : decode cX18_isSeen 0 = .ok (.aload_n 0, 1) := by decide +kernel
theorem dX18_isSeen_1 : decode cX18_isSeen 1 = .ok (.getfield 30, 3) := by decide +kernel
theorem dX18_isSeen_4 : decode cX18_isSeen 4 = .ok (.iconst (-1), 1) := by decide +kernel
theorem dX18_isSeen_5 : decode cX18_isSeen 5 = .ok (.if_icmp .eq 7, 3) := by decide +kernel
theorem dX18_isSeen_8 : decode cX18_isSeen 8 = .ok (.iconst 1, 1) := by decide +kernel
theorem dX18_isSeen_9 : decode cX18_isSeen 9 = .ok (.goto 4, 3) := by decide +kernel
theorem dX18_isSeen_12 : decode cX18_isSeen 12 = .ok (.iconst 0, 1) := by decide +kernel
theorem dX18_isSeen_13 : decode cX18_isSeen 13 = .ok (.ireturn, 1) := by decide +kernel
abbrev cX18_agrees : ByteArray := prog_7_method_3_code
def yX18_agrees : MethodName := ⟨RX18, "agrees", "(LShellBeach$Habit;)Z"⟩
theorem dX18_agrees_0 : decode cX18_agrees 0 = .ok (.aload_n 1, 1) := by decide +kernel
theorem dX18_agrees_1 : decode cX18_agrees 1 = .ok (.aload_n 0, 1) := by decide +kernel
theorem dX18_agrees_2 : decode cX18_agrees 2 = .ok (.getfield 9, 3) := by decide +kernel
theorem dX18_agrees_5 : decode cX18_agrees 5 = .ok (.aload_n 0, 1) := by decide +kernel
theorem dX18_agrees_6 : decode cX18_agrees 6 = .ok (.getfield 15, 3) := by decide +kernel
theorem dX18_agrees_9 : decode cX18_agrees 9 = .ok (.aload_n 0, 1) := by decide +kernel
theorem dX18_agrees_10 : decode cX18_agrees 10 = .ok (.getfield 18, 3) := by decide +kernel
theorem dX18_agrees_13 : decode cX18_agrees 13 = .ok (.aload_n 0, 1) := by decide +kernel
theorem dX18_agrees_14 : decode cX18_agrees 14 = .ok (.getfield 21, 3) := by decide +kernel
theorem dX18_agrees_17 : decode cX18_agrees 17 = .ok (.aload_n 0, 1) := by decide +kernel
theorem dX18_agrees_18 : decode cX18_agrees 18 = .ok (.getfield 24, 3) := by decide +kernel
theorem dX18_agrees_21 : decode cX18_agrees 21 = .ok (.aload_n 0, 1) := by decide +kernel
theorem dX18_agrees_22 : decode cX18_agrees 22 = .ok (.getfield 27, 3) := by decide +kernel
theorem dX18_agrees_25 : decode cX18_agrees 25 = .ok (.invokevirtual 33, 3) := by decide +kernel
theorem dX18_agrees_28 : decode cX18_agrees 28 = .ok (.aload_n 0, 1) := by decide +kernel
theorem dX18_agrees_29 : decode cX18_agrees 29 = .ok (.getfield 30, 3) := by decide +kernel
theorem dX18_agrees_32 : decode cX18_agrees 32 = .ok (.iconst 1, 1) := by decide +kernel
theorem dX18_agrees_33 : decode cX18_agrees 33 = .ok (.if_icmp .ne 7, 3) := by decide +kernel
theorem dX18_agrees_36 : decode cX18_agrees 36 = .ok (.iconst 1, 1) := by decide +kernel
theorem dX18_agrees_37 : decode cX18_agrees 37 = .ok (.goto 4, 3) := by decide +kernel
theorem dX18_agrees_40 : decode cX18_agrees 40 = .ok (.iconst 0, 1) := by decide +kernel
theorem dX18_agrees_41 : decode cX18_agrees 41 = .ok (.if_icmp .ne 7, 3) := by decide +kernel
theorem dX18_agrees_44 : decode cX18_agrees 44 = .ok (.iconst 1, 1) := by decide +kernel
theorem dX18_agrees_45 : decode cX18_agrees 45 = .ok (.goto 4, 3) := by decide +kernel
theorem dX18_agrees_48 : decode cX18_agrees 48 = .ok (.iconst 0, 1) := by decide +kernel
theorem dX18_agrees_49 : decode cX18_agrees 49 = .ok (.ireturn, 1) := by decide +kernel
theorem q119 : (Jvm.Cond.initialized "ShellBeach$Film") ∈ lw_all := lw_g (lw_at lw_m1 34 rfl) rfl
theorem q395 : (Jvm.Cond.selects "ShellBeach$Film" ({ cls := "java/lang/Object", name := "getClass", desc := "()Ljava/lang/Class;" } : Jvm.MethodName) ({ cls := "java/lang/Object", name := "getClass", desc := "()Ljava/lang/Class;" } : Jvm.MethodName)) ∈ lw_all := lw_g (lw_at lw_m2 70 rfl) rfl
theorem q1079 : (Jvm.Cond.instantiable "ShellBeach$Film" (7 : Nat)) ∈ lw_all := lw_g (lw_at lw_m5 34 rfl) rfl
theorem q1081 : (Jvm.Cond.instanceMethod ({ cls := "ShellBeach$Film", name := "<init>", desc := "(IIIIIII)V" } : Jvm.MethodName)) ∈ lw_all := lw_g (lw_at lw_m5 36 rfl) rfl
theorem q1082 : (Jvm.Cond.code ({ cls := "ShellBeach$Film", name := "<init>", desc := "(IIIIIII)V" } : Jvm.MethodName) prog_7_method_1_code (8 : Nat) (Option.none : Option Jvm.ClassFile.FieldType)) ∈ lw_all := lw_g (lw_at lw_m5 37 rfl) rfl
theorem q1083 : (Jvm.Cond.methodLink "ShellBeach$Film" (3 : Nat) ({ cls := "java/lang/Object", name := "<init>", desc := "()V" } : Jvm.MethodName)) ∈ lw_all := lw_g (lw_at lw_m5 38 rfl) rfl
theorem q1084 : (Jvm.Cond.fieldLink "ShellBeach$Film" (9 : Nat) "ShellBeach$Film" "word" "I") ∈ lw_all := lw_g (lw_at lw_m5 39 rfl) rfl
theorem q1085 : (Jvm.Cond.fieldLink "ShellBeach$Film" (15 : Nat) "ShellBeach$Film" "f" "I") ∈ lw_all := lw_g (lw_at lw_m5 40 rfl) rfl
theorem q1086 : (Jvm.Cond.fieldLink "ShellBeach$Film" (18 : Nat) "ShellBeach$Film" "g" "I") ∈ lw_all := lw_g (lw_at lw_m5 41 rfl) rfl
theorem q1087 : (Jvm.Cond.fieldLink "ShellBeach$Film" (21 : Nat) "ShellBeach$Film" "s" "I") ∈ lw_all := lw_g (lw_at lw_m5 42 rfl) rfl
theorem q1088 : (Jvm.Cond.fieldLink "ShellBeach$Film" (24 : Nat) "ShellBeach$Film" "o" "I") ∈ lw_all := lw_g (lw_at lw_m5 43 rfl) rfl
theorem q1089 : (Jvm.Cond.fieldLink "ShellBeach$Film" (27 : Nat) "ShellBeach$Film" "n" "I") ∈ lw_all := lw_g (lw_at lw_m5 44 rfl) rfl
theorem q1090 : (Jvm.Cond.fieldLink "ShellBeach$Film" (30 : Nat) "ShellBeach$Film" "seen" "I") ∈ lw_all := lw_g (lw_at lw_m5 45 rfl) rfl
theorem q1091 : (Jvm.Cond.laysFinal "ShellBeach$Film" "ShellBeach$Film" "word" "I") ∈ lw_all := lw_g (lw_at lw_m5 46 rfl) rfl
theorem q1092 : (Jvm.Cond.soleField "ShellBeach$Film" "word") ∈ lw_all := lw_g (lw_at lw_m5 47 rfl) rfl
theorem q1093 : (Jvm.Cond.laysFinal "ShellBeach$Film" "ShellBeach$Film" "f" "I") ∈ lw_all := lw_g (lw_at lw_m5 48 rfl) rfl
theorem q1094 : (Jvm.Cond.soleField "ShellBeach$Film" "f") ∈ lw_all := lw_g (lw_at lw_m5 49 rfl) rfl
theorem q1095 : (Jvm.Cond.laysFinal "ShellBeach$Film" "ShellBeach$Film" "g" "I") ∈ lw_all := lw_g (lw_at lw_m5 50 rfl) rfl
theorem q1096 : (Jvm.Cond.soleField "ShellBeach$Film" "g") ∈ lw_all := lw_g (lw_at lw_m5 51 rfl) rfl
theorem q1097 : (Jvm.Cond.laysFinal "ShellBeach$Film" "ShellBeach$Film" "s" "I") ∈ lw_all := lw_g (lw_at lw_m5 52 rfl) rfl
theorem q1098 : (Jvm.Cond.soleField "ShellBeach$Film" "s") ∈ lw_all := lw_g (lw_at lw_m5 53 rfl) rfl
theorem q1099 : (Jvm.Cond.laysFinal "ShellBeach$Film" "ShellBeach$Film" "o" "I") ∈ lw_all := lw_g (lw_at lw_m5 54 rfl) rfl
theorem q1100 : (Jvm.Cond.soleField "ShellBeach$Film" "o") ∈ lw_all := lw_g (lw_at lw_m5 55 rfl) rfl
theorem q1101 : (Jvm.Cond.laysFinal "ShellBeach$Film" "ShellBeach$Film" "n" "I") ∈ lw_all := lw_g (lw_at lw_m5 56 rfl) rfl
theorem q1102 : (Jvm.Cond.soleField "ShellBeach$Film" "n") ∈ lw_all := lw_g (lw_at lw_m5 57 rfl) rfl
theorem q1103 : (Jvm.Cond.laysFinal "ShellBeach$Film" "ShellBeach$Film" "seen" "I") ∈ lw_all := lw_g (lw_at lw_m5 58 rfl) rfl
theorem q1104 : (Jvm.Cond.soleField "ShellBeach$Film" "seen") ∈ lw_all := lw_g (lw_at lw_m5 59 rfl) rfl
theorem q1105 : (Jvm.Cond.superclass "ShellBeach$Film" "java/lang/Object") ∈ lw_all := lw_g (lw_at lw_m5 60 rfl) rfl
theorem q1115 : (Jvm.Cond.instanceMethod ({ cls := "ShellBeach$Film", name := "isSeen", desc := "()Z" } : Jvm.MethodName)) ∈ lw_all := lw_g (lw_at lw_m5 70 rfl) rfl
theorem q1116 : (Jvm.Cond.selects "ShellBeach$Film" ({ cls := "ShellBeach$Film", name := "isSeen", desc := "()Z" } : Jvm.MethodName) ({ cls := "ShellBeach$Film", name := "isSeen", desc := "()Z" } : Jvm.MethodName)) ∈ lw_all := lw_g (lw_at lw_m5 71 rfl) rfl
theorem q1117 : (Jvm.Cond.code ({ cls := "ShellBeach$Film", name := "isSeen", desc := "()Z" } : Jvm.MethodName) prog_7_method_2_code (1 : Nat) (Option.some Jvm.ClassFile.FieldType.boolean)) ∈ lw_all := lw_g (lw_at lw_m5 72 rfl) rfl
theorem q1119 : (Jvm.Cond.instanceMethod ({ cls := "ShellBeach$Film", name := "agrees", desc := "(LShellBeach$Habit;)Z" } : Jvm.MethodName)) ∈ lw_all := lw_g (lw_at lw_m5 74 rfl) rfl
theorem q1120 : (Jvm.Cond.selects "ShellBeach$Film" ({ cls := "ShellBeach$Film", name := "agrees", desc := "(LShellBeach$Habit;)Z" } : Jvm.MethodName) ({ cls := "ShellBeach$Film", name := "agrees", desc := "(LShellBeach$Habit;)Z" } : Jvm.MethodName)) ∈ lw_all := lw_g (lw_at lw_m5 75 rfl) rfl
theorem q1121 : (Jvm.Cond.code ({ cls := "ShellBeach$Film", name := "agrees", desc := "(LShellBeach$Habit;)Z" } : Jvm.MethodName) prog_7_method_3_code (2 : Nat) (Option.some Jvm.ClassFile.FieldType.boolean)) ∈ lw_all := lw_g (lw_at lw_m5 76 rfl) rfl
theorem q1122 : (Jvm.Cond.methodLink "ShellBeach$Film" (33 : Nat) ({ cls := "ShellBeach$Habit", name := "holds", desc := "(IIIIII)Z" } : Jvm.MethodName)) ∈ lw_all := lw_g (lw_at lw_m5 77 rfl) rfl
theorem q1891 : (Jvm.Cond.castable "ShellBeach$Film" "java/lang/Object") ∈ lw_tbl := lw_at lw_m8 126 rfl
theorem in_X18 : ∀ w ∈ wsX180, w ∈ lw_all := lw_in wsX180 [1091, 1093, 1095, 1097, 1099, 1101, 1103] (by decide +kernel) (by decide +kernel)
