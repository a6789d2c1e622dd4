set_option maxRecDepth 100000
/-! java/lang/Object -/
def RJ14 : String := "java/lang/Object"
abbrev cJ14_init : ByteArray := object_method_1_code
def yJ14_init : MethodName := ⟨RJ14, "<init>", "()V"⟩
theorem dJ14_init_0 : decode cJ14_init 0 = .ok (.return_, 1) := by decide +kernel
theorem q127 : (Jvm.Cond.instanceMethod ({ cls := "java/lang/Object", name := "<init>", desc := "()V" } : Jvm.MethodName)) ∈ lw_all := lw_g (lw_at lw_m1 42 rfl) rfl
theorem q128 : (Jvm.Cond.code ({ cls := "java/lang/Object", name := "<init>", desc := "()V" } : Jvm.MethodName) object_method_1_code (1 : Nat) (Option.none : Option Jvm.ClassFile.FieldType)) ∈ lw_all := lw_g (lw_at lw_m1 43 rfl) rfl
theorem q387 : (Jvm.Cond.instanceMethod ({ cls := "java/lang/Object", name := "getClass", desc := "()Ljava/lang/Class;" } : Jvm.MethodName)) ∈ lw_all := lw_g (lw_at lw_m2 62 rfl) rfl
theorem q388 : (Jvm.Cond.sameMethod "java/lang/Object" "java/lang/Object" "getClass" "()Ljava/lang/Class;") ∈ lw_all := lw_g (lw_at lw_m2 63 rfl) rfl
theorem q410 : (Jvm.Cond.native ({ cls := "java/lang/Object", name := "getClass", desc := "()Ljava/lang/Class;" } : Jvm.MethodName)) ∈ lw_all := lw_g (lw_at lw_m2 85 rfl) rfl
theorem q1144 : (Jvm.Cond.native ({ cls := "java/lang/Object", name := "clone", desc := "()Ljava/lang/Object;" } : Jvm.MethodName)) ∈ lw_all := lw_g (lw_at lw_m5 99 rfl) rfl
theorem q1145 : (Jvm.Cond.instanceMethod ({ cls := "java/lang/Object", name := "clone", desc := "()Ljava/lang/Object;" } : Jvm.MethodName)) ∈ lw_all := lw_g (lw_at lw_m5 100 rfl) rfl
theorem q1903 : (Jvm.Cond.declares ({ cls := "java/lang/Object", name := "getClass", desc := "()Ljava/lang/Class;" } : Jvm.MethodName)) ∈ lw_tbl := lw_at lw_m8 138 rfl
/-! java/util/AbstractCollection -/
def RJ0 : String := "java/util/AbstractCollection"
abbrev cJ0_init : ByteArray := prog_38_method_1_code
def yJ0_init : MethodName := ⟨RJ0, "<init>", "()V"⟩
theorem dJ0_init_0 : decode cJ0_init 0 = .ok (.aload_n 0, 1) := by decide +kernel
theorem dJ0_init_1 : decode cJ0_init 1 = .ok (.invokespecial 1, 3) := by decide +kernel
theorem dJ0_init_4 : decode cJ0_init 4 = .ok (.return_, 1) := by decide +kernel
theorem q87 : (Jvm.Cond.initialized "java/util/AbstractCollection") ∈ lw_all := lw_g (lw_at lw_m1 2 rfl) rfl
theorem q138 : (Jvm.Cond.instanceMethod ({ cls := "java/util/AbstractCollection", name := "<init>", desc := "()V" } : Jvm.MethodName)) ∈ lw_all := lw_g (lw_at lw_m1 53 rfl) rfl
theorem q139 : (Jvm.Cond.code ({ cls := "java/util/AbstractCollection", name := "<init>", desc := "()V" } : Jvm.MethodName) prog_38_method_1_code (1 : Nat) (Option.none : Option Jvm.ClassFile.FieldType)) ∈ lw_all := lw_g (lw_at lw_m1 54 rfl) rfl
theorem q140 : (Jvm.Cond.methodLink "java/util/AbstractCollection" (1 : Nat) ({ cls := "java/lang/Object", name := "<init>", desc := "()V" } : Jvm.MethodName)) ∈ lw_all := lw_g (lw_at lw_m1 55 rfl) rfl
/-! java/util/AbstractList -/
def RJ1 : String := "java/util/AbstractList"
abbrev cJ1_init : ByteArray := prog_39_method_1_code
def yJ1_init : MethodName := ⟨RJ1, "<init>", "()V"⟩
theorem dJ1_init_0 : decode cJ1_init 0 = .ok (.aload_n 0, 1) := by decide +kernel
theorem dJ1_init_1 : decode cJ1_init 1 = .ok (.invokespecial 1, 3) := by decide +kernel
theorem dJ1_init_4 : decode cJ1_init 4 = .ok (.aload_n 0, 1) := by decide +kernel
theorem dJ1_init_5 : decode cJ1_init 5 = .ok (.iconst 0, 1) := by decide +kernel
theorem dJ1_init_6 : decode cJ1_init 6 = .ok (.putfield 7, 3) := by decide +kernel
theorem dJ1_init_9 : decode cJ1_init 9 = .ok (.return_, 1) := by decide +kernel
theorem q88 : (Jvm.Cond.initialized "java/util/AbstractList") ∈ lw_all := lw_g (lw_at lw_m1 3 rfl) rfl
theorem q135 : (Jvm.Cond.instanceMethod ({ cls := "java/util/AbstractList", name := "<init>", desc := "()V" } : Jvm.MethodName)) ∈ lw_all := lw_g (lw_at lw_m1 50 rfl) rfl
theorem q136 : (Jvm.Cond.code ({ cls := "java/util/AbstractList", name := "<init>", desc := "()V" } : Jvm.MethodName) prog_39_method_1_code (1 : Nat) (Option.none : Option Jvm.ClassFile.FieldType)) ∈ lw_all := lw_g (lw_at lw_m1 51 rfl) rfl
theorem q137 : (Jvm.Cond.methodLink "java/util/AbstractList" (1 : Nat) ({ cls := "java/util/AbstractCollection", name := "<init>", desc := "()V" } : Jvm.MethodName)) ∈ lw_all := lw_g (lw_at lw_m1 52 rfl) rfl
theorem q145 : (Jvm.Cond.fieldLink "java/util/AbstractList" (7 : Nat) "java/util/AbstractList" "modCount" "I") ∈ lw_all := lw_g (lw_at lw_m1 60 rfl) rfl
theorem q153 : (Jvm.Cond.soleField "java/util/AbstractList" "modCount") ∈ lw_all := lw_g (lw_at lw_m1 68 rfl) rfl
/-! java/util/ArrayList -/
def RJ2 : String := "java/util/ArrayList"
def TJ2 : u_T := fun k => match k with
  | 0 => ("java/util/AbstractList", "modCount", "I", false)
  | 1 => ("java/util/ArrayList", "elementData", "[Ljava/lang/Object;", false)
  | _ => ("java/util/ArrayList", "size", "I", false)
def tyJ2 : Nat → FieldType := fun k => match k with
  | 0 => .int
  | 1 => .array (.object "java/lang/Object")
  | _ => .int
abbrev wsJ20 : List Cond := u_ws RJ2 TJ2 3
theorem nmJ2 : ∀ a, a < 3 → ∀ b, b < 3 → a ≠ b → (TJ2 a).2.1 ≠ (TJ2 b).2.1 := by decide +kernel
theorem tyJ2_ok : ∀ k, k < 3 → parseFieldDescriptor (TJ2 k).2.2.1 = some (tyJ2 k) := by decide +kernel
abbrev cJ2_init : ByteArray := prog_40_method_2_code
def yJ2_init : MethodName := ⟨RJ2, "<init>", "()V"⟩
theorem dJ2_init_0 : decode cJ2_init 0 = .ok (.aload_n 0, 1) := by decide +kernel
theorem dJ2_init_1 : decode cJ2_init 1 = .ok (.invokespecial 1, 3) := by decide +kernel
theorem dJ2_init_4 : decode cJ2_init 4 = .ok (.aload_n 0, 1) := by decide +kernel
theorem dJ2_init_5 : decode cJ2_init 5 = .ok (.getstatic 39, 3) := by decide +kernel
theorem dJ2_init_8 : decode cJ2_init 8 = .ok (.putfield 9, 3) := by decide +kernel
theorem dJ2_init_11 : decode cJ2_init 11 = .ok (.return_, 1) := by decide +kernel
abbrev cJ2_size : ByteArray := prog_40_method_8_code
def yJ2_size : MethodName := ⟨RJ2, "size", "()I"⟩
theorem dJ2_size_0 : decode cJ2_size 0 = .ok (.aload_n 0, 1) := by decide +kernel
theorem dJ2_size_1 : decode cJ2_size 1 = .ok (.getfield 48, 3) := by decide +kernel
theorem dJ2_size_4 : decode cJ2_size 4 = .ok (.ireturn, 1) := by decide +kernel
abbrev cJ2_add : ByteArray := prog_40_method_25_code
def yJ2_add : MethodName := ⟨RJ2, "add", "(Ljava/lang/Object;)Z"⟩
theorem dJ2_add_0 : decode cJ2_add 0 = .ok (.aload_n 0, 1) := by decide +kernel
theorem dJ2_add_1 : decode cJ2_add 1 = .ok (.dup, 1) := by decide +kernel
theorem dJ2_add_2 : decode cJ2_add 2 = .ok (.getfield 63, 3) := by decide +kernel
theorem dJ2_add_5 : decode cJ2_add 5 = .ok (.iconst 1, 1) := by decide +kernel
theorem dJ2_add_6 : decode cJ2_add 6 = .ok (.iadd, 1) := by decide +kernel
theorem dJ2_add_7 : decode cJ2_add 7 = .ok (.putfield 63, 3) := by decide +kernel
theorem dJ2_add_10 : decode cJ2_add 10 = .ok (.aload_n 0, 1) := by decide +kernel
theorem dJ2_add_11 : decode cJ2_add 11 = .ok (.aload_n 1, 1) := by decide +kernel
theorem dJ2_add_12 : decode cJ2_add 12 = .ok (.aload_n 0, 1) := by decide +kernel
theorem dJ2_add_13 : decode cJ2_add 13 = .ok (.getfield 9, 3) := by decide +kernel
theorem dJ2_add_16 : decode cJ2_add 16 = .ok (.aload_n 0, 1) := by decide +kernel
theorem dJ2_add_17 : decode cJ2_add 17 = .ok (.getfield 48, 3) := by decide +kernel
theorem dJ2_add_20 : decode cJ2_add 20 = .ok (.invokevirtual 131, 3) := by decide +kernel
theorem dJ2_add_23 : decode cJ2_add 23 = .ok (.iconst 1, 1) := by decide +kernel
theorem dJ2_add_24 : decode cJ2_add 24 = .ok (.ireturn, 1) := by decide +kernel
abbrev cJ2_add_2 : ByteArray := prog_40_method_24_code
def yJ2_add_2 : MethodName := ⟨RJ2, "add", "(Ljava/lang/Object;[Ljava/lang/Object;I)V"⟩
theorem dJ2_add_2_0 : decode cJ2_add_2 0 = .ok (.iload_n 3, 1) := by decide +kernel
theorem dJ2_add_2_1 : decode cJ2_add_2 1 = .ok (.aload_n 2, 1) := by decide +kernel
theorem dJ2_add_2_2 : decode cJ2_add_2 2 = .ok (.arraylength, 1) := by decide +kernel
theorem dJ2_add_2_3 : decode cJ2_add_2 3 = .ok (.if_icmp .ne 8, 3) := by decide +kernel
theorem dJ2_add_2_6 : decode cJ2_add_2 6 = .ok (.aload_n 0, 1) := by decide +kernel
theorem dJ2_add_2_7 : decode cJ2_add_2 7 = .ok (.invokevirtual 129, 3) := by decide +kernel
theorem dJ2_add_2_10 : decode cJ2_add_2 10 = .ok (.astore_n 2, 1) := by decide +kernel
theorem dJ2_add_2_11 : decode cJ2_add_2 11 = .ok (.aload_n 2, 1) := by decide +kernel
theorem dJ2_add_2_12 : decode cJ2_add_2 12 = .ok (.iload_n 3, 1) := by decide +kernel
theorem dJ2_add_2_13 : decode cJ2_add_2 13 = .ok (.aload_n 1, 1) := by decide +kernel
theorem dJ2_add_2_14 : decode cJ2_add_2 14 = .ok (.aastore, 1) := by decide +kernel
theorem dJ2_add_2_15 : decode cJ2_add_2 15 = .ok (.aload_n 0, 1) := by decide +kernel
theorem dJ2_add_2_16 : decode cJ2_add_2 16 = .ok (.iload_n 3, 1) := by decide +kernel
theorem dJ2_add_2_17 : decode cJ2_add_2 17 = .ok (.iconst 1, 1) := by decide +kernel
theorem dJ2_add_2_18 : decode cJ2_add_2 18 = .ok (.iadd, 1) := by decide +kernel
theorem dJ2_add_2_19 : decode cJ2_add_2 19 = .ok (.putfield 48, 3) := by decide +kernel
theorem dJ2_add_2_22 : decode cJ2_add_2 22 = .ok (.return_, 1) := by decide +kernel
abbrev cJ2_grow : ByteArray := prog_40_method_7_code
def yJ2_grow : MethodName := ⟨RJ2, "grow", "()[Ljava/lang/Object;"⟩
theorem dJ2_grow_0 : decode cJ2_grow 0 = .ok (.aload_n 0, 1) := by decide +kernel
theorem dJ2_grow_1 : decode cJ2_grow 1 = .ok (.aload_n 0, 1) := by decide +kernel
theorem dJ2_grow_2 : decode cJ2_grow 2 = .ok (.getfield 48, 3) := by decide +kernel
theorem dJ2_grow_5 : decode cJ2_grow 5 = .ok (.iconst 1, 1) := by decide +kernel
theorem dJ2_grow_6 : decode cJ2_grow 6 = .ok (.iadd, 1) := by decide +kernel
theorem dJ2_grow_7 : decode cJ2_grow 7 = .ok (.invokevirtual 69, 3) := by decide +kernel
theorem dJ2_grow_10 : decode cJ2_grow 10 = .ok (.areturn, 1) := by decide +kernel
abbrev cJ2_grow_2 : ByteArray := prog_40_method_6_code
def yJ2_grow_2 : MethodName := ⟨RJ2, "grow", "(I)[Ljava/lang/Object;"⟩
theorem dJ2_grow_2_0 : decode cJ2_grow_2 0 = .ok (.aload_n 0, 1) := by decide +kernel
theorem dJ2_grow_2_1 : decode cJ2_grow_2 1 = .ok (.getfield 9, 3) := by decide +kernel
theorem dJ2_grow_2_4 : decode cJ2_grow_2 4 = .ok (.arraylength, 1) := by decide +kernel
theorem dJ2_grow_2_5 : decode cJ2_grow_2 5 = .ok (.istore_n 2, 1) := by decide +kernel
theorem dJ2_grow_2_6 : decode cJ2_grow_2 6 = .ok (.iload_n 2, 1) := by decide +kernel
theorem dJ2_grow_2_7 : decode cJ2_grow_2 7 = .ok (.ifCond .gt 13, 3) := by decide +kernel
theorem dJ2_grow_2_10 : decode cJ2_grow_2 10 = .ok (.aload_n 0, 1) := by decide +kernel
theorem dJ2_grow_2_11 : decode cJ2_grow_2 11 = .ok (.getfield 9, 3) := by decide +kernel
theorem dJ2_grow_2_14 : decode cJ2_grow_2 14 = .ok (.getstatic 39, 3) := by decide +kernel
theorem dJ2_grow_2_17 : decode cJ2_grow_2 17 = .ok (.if_acmp .eq 28, 3) := by decide +kernel
theorem dJ2_grow_2_20 : decode cJ2_grow_2 20 = .ok (.iload_n 2, 1) := by decide +kernel
theorem dJ2_grow_2_21 : decode cJ2_grow_2 21 = .ok (.iload_n 1, 1) := by decide +kernel
theorem dJ2_grow_2_22 : decode cJ2_grow_2 22 = .ok (.iload_n 2, 1) := by decide +kernel
theorem dJ2_grow_2_23 : decode cJ2_grow_2 23 = .ok (.isub, 1) := by decide +kernel
theorem dJ2_grow_2_24 : decode cJ2_grow_2 24 = .ok (.iload_n 2, 1) := by decide +kernel
theorem dJ2_grow_2_25 : decode cJ2_grow_2 25 = .ok (.iconst 1, 1) := by decide +kernel
theorem dJ2_grow_2_26 : decode cJ2_grow_2 26 = .ok (.ishr, 1) := by decide +kernel
theorem dJ2_grow_2_27 : decode cJ2_grow_2 27 = .ok (.invokestatic 73, 3) := by decide +kernel
theorem dJ2_grow_2_30 : decode cJ2_grow_2 30 = .ok (.istore_n 3, 1) := by decide +kernel
theorem dJ2_grow_2_31 : decode cJ2_grow_2 31 = .ok (.aload_n 0, 1) := by decide +kernel
theorem dJ2_grow_2_32 : decode cJ2_grow_2 32 = .ok (.aload_n 0, 1) := by decide +kernel
theorem dJ2_grow_2_33 : decode cJ2_grow_2 33 = .ok (.getfield 9, 3) := by decide +kernel
theorem dJ2_grow_2_36 : decode cJ2_grow_2 36 = .ok (.iload_n 3, 1) := by decide +kernel
theorem dJ2_grow_2_37 : decode cJ2_grow_2 37 = .ok (.invokestatic 66, 3) := by decide +kernel
theorem dJ2_grow_2_40 : decode cJ2_grow_2 40 = .ok (.dup_x1, 1) := by decide +kernel
theorem dJ2_grow_2_41 : decode cJ2_grow_2 41 = .ok (.putfield 9, 3) := by decide +kernel
theorem dJ2_grow_2_44 : decode cJ2_grow_2 44 = .ok (.areturn, 1) := by decide +kernel
theorem dJ2_grow_2_45 : decode cJ2_grow_2 45 = .ok (.aload_n 0, 1) := by decide +kernel
theorem dJ2_grow_2_46 : decode cJ2_grow_2 46 = .ok (.bipush 10, 2) := by decide +kernel
theorem dJ2_grow_2_48 : decode cJ2_grow_2 48 = .ok (.iload_n 1, 1) := by decide +kernel
theorem dJ2_grow_2_49 : decode cJ2_grow_2 49 = .ok (.invokestatic 79, 3) := by decide +kernel
theorem dJ2_grow_2_52 : decode cJ2_grow_2 52 = .ok (.anewarray 7, 3) := by decide +kernel
theorem dJ2_grow_2_55 : decode cJ2_grow_2 55 = .ok (.dup_x1, 1) := by decide +kernel
theorem dJ2_grow_2_56 : decode cJ2_grow_2 56 = .ok (.putfield 9, 3) := by decide +kernel
theorem dJ2_grow_2_59 : decode cJ2_grow_2 59 = .ok (.areturn, 1) := by decide +kernel
abbrev cJ2_get : ByteArray := prog_40_method_20_code
def yJ2_get : MethodName := ⟨RJ2, "get", "(I)Ljava/lang/Object;"⟩
theorem dJ2_get_0 : decode cJ2_get 0 = .ok (.iload_n 1, 1) := by decide +kernel
theorem dJ2_get_1 : decode cJ2_get 1 = .ok (.aload_n 0, 1) := by decide +kernel
theorem dJ2_get_2 : decode cJ2_get 2 = .ok (.getfield 48, 3) := by decide +kernel
theorem dJ2_get_5 : decode cJ2_get 5 = .ok (.invokestatic 118, 3) := by decide +kernel
theorem dJ2_get_8 : decode cJ2_get 8 = .ok (.pop, 1) := by decide +kernel
theorem dJ2_get_9 : decode cJ2_get 9 = .ok (.aload_n 0, 1) := by decide +kernel
theorem dJ2_get_10 : decode cJ2_get 10 = .ok (.iload_n 1, 1) := by decide +kernel
theorem dJ2_get_11 : decode cJ2_get 11 = .ok (.invokevirtual 123, 3) := by decide +kernel
theorem dJ2_get_14 : decode cJ2_get 14 = .ok (.areturn, 1) := by decide +kernel
abbrev cJ2_elementData : ByteArray := prog_40_method_18_code
def yJ2_elementData : MethodName := ⟨RJ2, "elementData", "(I)Ljava/lang/Object;"⟩
theorem dJ2_elementData_0 : decode cJ2_elementData 0 = .ok (.aload_n 0, 1) := by decide +kernel
theorem dJ2_elementData_1 : decode cJ2_elementData 1 = .ok (.getfield 9, 3) := by decide +kernel
theorem dJ2_elementData_4 : decode cJ2_elementData 4 = .ok (.iload_n 1, 1) := by decide +kernel
theorem dJ2_elementData_5 : decode cJ2_elementData 5 = .ok (.aaload, 1) := by decide +kernel
theorem dJ2_elementData_6 : decode cJ2_elementData 6 = .ok (.areturn, 1) := by decide +kernel
abbrev cJ2_remove : ByteArray := prog_40_method_29_code
def yJ2_remove : MethodName := ⟨RJ2, "remove", "(I)Ljava/lang/Object;"⟩
theorem dJ2_remove_0 : decode cJ2_remove 0 = .ok (.iload_n 1, 1) := by decide +kernel
theorem dJ2_remove_1 : decode cJ2_remove 1 = .ok (.aload_n 0, 1) := by decide +kernel
theorem dJ2_remove_2 : decode cJ2_remove 2 = .ok (.getfield 48, 3) := by decide +kernel
theorem dJ2_remove_5 : decode cJ2_remove 5 = .ok (.invokestatic 118, 3) := by decide +kernel
theorem dJ2_remove_8 : decode cJ2_remove 8 = .ok (.pop, 1) := by decide +kernel
theorem dJ2_remove_9 : decode cJ2_remove 9 = .ok (.aload_n 0, 1) := by decide +kernel
theorem dJ2_remove_10 : decode cJ2_remove 10 = .ok (.getfield 9, 3) := by decide +kernel
theorem dJ2_remove_13 : decode cJ2_remove 13 = .ok (.astore_n 2, 1) := by decide +kernel
theorem dJ2_remove_14 : decode cJ2_remove 14 = .ok (.aload_n 2, 1) := by decide +kernel
theorem dJ2_remove_15 : decode cJ2_remove 15 = .ok (.iload_n 1, 1) := by decide +kernel
theorem dJ2_remove_16 : decode cJ2_remove 16 = .ok (.aaload, 1) := by decide +kernel
theorem dJ2_remove_17 : decode cJ2_remove 17 = .ok (.astore_n 3, 1) := by decide +kernel
theorem dJ2_remove_18 : decode cJ2_remove 18 = .ok (.aload_n 0, 1) := by decide +kernel
theorem dJ2_remove_19 : decode cJ2_remove 19 = .ok (.aload_n 2, 1) := by decide +kernel
theorem dJ2_remove_20 : decode cJ2_remove 20 = .ok (.iload_n 1, 1) := by decide +kernel
theorem dJ2_remove_21 : decode cJ2_remove 21 = .ok (.invokevirtual 144, 3) := by decide +kernel
theorem dJ2_remove_24 : decode cJ2_remove 24 = .ok (.aload_n 3, 1) := by decide +kernel
theorem dJ2_remove_25 : decode cJ2_remove 25 = .ok (.areturn, 1) := by decide +kernel
abbrev cJ2_fastRemove : ByteArray := prog_40_method_39_code
def yJ2_fastRemove : MethodName := ⟨RJ2, "fastRemove", "([Ljava/lang/Object;I)V"⟩
theorem dJ2_fastRemove_0 : decode cJ2_fastRemove 0 = .ok (.aload_n 0, 1) := by decide +kernel
theorem dJ2_fastRemove_1 : decode cJ2_fastRemove 1 = .ok (.dup, 1) := by decide +kernel
theorem dJ2_fastRemove_2 : decode cJ2_fastRemove 2 = .ok (.getfield 63, 3) := by decide +kernel
theorem dJ2_fastRemove_5 : decode cJ2_fastRemove 5 = .ok (.iconst 1, 1) := by decide +kernel
theorem dJ2_fastRemove_6 : decode cJ2_fastRemove 6 = .ok (.iadd, 1) := by decide +kernel
theorem dJ2_fastRemove_7 : decode cJ2_fastRemove 7 = .ok (.putfield 63, 3) := by decide +kernel
theorem dJ2_fastRemove_10 : decode cJ2_fastRemove 10 = .ok (.aload_n 0, 1) := by decide +kernel
theorem dJ2_fastRemove_11 : decode cJ2_fastRemove 11 = .ok (.getfield 48, 3) := by decide +kernel
theorem dJ2_fastRemove_14 : decode cJ2_fastRemove 14 = .ok (.iconst 1, 1) := by decide +kernel
theorem dJ2_fastRemove_15 : decode cJ2_fastRemove 15 = .ok (.isub, 1) := by decide +kernel
theorem dJ2_fastRemove_16 : decode cJ2_fastRemove 16 = .ok (.dup, 1) := by decide +kernel
theorem dJ2_fastRemove_17 : decode cJ2_fastRemove 17 = .ok (.istore_n 3, 1) := by decide +kernel
theorem dJ2_fastRemove_18 : decode cJ2_fastRemove 18 = .ok (.iload_n 2, 1) := by decide +kernel
theorem dJ2_fastRemove_19 : decode cJ2_fastRemove 19 = .ok (.if_icmp .le 15, 3) := by decide +kernel
theorem dJ2_fastRemove_22 : decode cJ2_fastRemove 22 = .ok (.aload_n 1, 1) := by decide +kernel
theorem dJ2_fastRemove_23 : decode cJ2_fastRemove 23 = .ok (.iload_n 2, 1) := by decide +kernel
theorem dJ2_fastRemove_24 : decode cJ2_fastRemove 24 = .ok (.iconst 1, 1) := by decide +kernel
theorem dJ2_fastRemove_25 : decode cJ2_fastRemove 25 = .ok (.iadd, 1) := by decide +kernel
theorem dJ2_fastRemove_26 : decode cJ2_fastRemove 26 = .ok (.aload_n 1, 1) := by decide +kernel
theorem dJ2_fastRemove_27 : decode cJ2_fastRemove 27 = .ok (.iload_n 2, 1) := by decide +kernel
theorem dJ2_fastRemove_28 : decode cJ2_fastRemove 28 = .ok (.iload_n 3, 1) := by decide +kernel
theorem dJ2_fastRemove_29 : decode cJ2_fastRemove 29 = .ok (.iload_n 2, 1) := by decide +kernel
theorem dJ2_fastRemove_30 : decode cJ2_fastRemove 30 = .ok (.isub, 1) := by decide +kernel
theorem dJ2_fastRemove_31 : decode cJ2_fastRemove 31 = .ok (.invokestatic 112, 3) := by decide +kernel
theorem dJ2_fastRemove_34 : decode cJ2_fastRemove 34 = .ok (.aload_n 1, 1) := by decide +kernel
theorem dJ2_fastRemove_35 : decode cJ2_fastRemove 35 = .ok (.aload_n 0, 1) := by decide +kernel
theorem dJ2_fastRemove_36 : decode cJ2_fastRemove 36 = .ok (.iload_n 3, 1) := by decide +kernel
theorem dJ2_fastRemove_37 : decode cJ2_fastRemove 37 = .ok (.dup_x1, 1) := by decide +kernel
theorem dJ2_fastRemove_38 : decode cJ2_fastRemove 38 = .ok (.putfield 48, 3) := by decide +kernel
theorem dJ2_fastRemove_41 : decode cJ2_fastRemove 41 = .ok (.aconst_null, 1) := by decide +kernel
theorem dJ2_fastRemove_42 : decode cJ2_fastRemove 42 = .ok (.aastore, 1) := by decide +kernel
theorem dJ2_fastRemove_43 : decode cJ2_fastRemove 43 = .ok (.return_, 1) := by decide +kernel
theorem q89 : (Jvm.Cond.initialized "java/util/ArrayList") ∈ lw_all := lw_g (lw_at lw_m1 4 rfl) rfl
theorem q130 : (Jvm.Cond.instantiable "java/util/ArrayList" (3 : Nat)) ∈ lw_all := lw_g (lw_at lw_m1 45 rfl) rfl
theorem q132 : (Jvm.Cond.instanceMethod ({ cls := "java/util/ArrayList", name := "<init>", desc := "()V" } : Jvm.MethodName)) ∈ lw_all := lw_g (lw_at lw_m1 47 rfl) rfl
theorem q133 : (Jvm.Cond.code ({ cls := "java/util/ArrayList", name := "<init>", desc := "()V" } : Jvm.MethodName) prog_40_method_2_code (1 : Nat) (Option.none : Option Jvm.ClassFile.FieldType)) ∈ lw_all := lw_g (lw_at lw_m1 48 rfl) rfl
theorem q134 : (Jvm.Cond.methodLink "java/util/ArrayList" (1 : Nat) ({ cls := "java/util/AbstractList", name := "<init>", desc := "()V" } : Jvm.MethodName)) ∈ lw_all := lw_g (lw_at lw_m1 49 rfl) rfl
theorem q141 : (Jvm.Cond.fieldLink "java/util/ArrayList" (39 : Nat) "java/util/ArrayList" "DEFAULTCAPACITY_EMPTY_ELEMENTDATA" "[Ljava/lang/Object;") ∈ lw_all := lw_g (lw_at lw_m1 56 rfl) rfl
theorem q142 : (Jvm.Cond.laysStatic "java/util/ArrayList" "DEFAULTCAPACITY_EMPTY_ELEMENTDATA" "[Ljava/lang/Object;") ∈ lw_tbl := lw_at lw_m1 57 rfl
theorem q143 : (Jvm.Cond.fieldLink "java/util/ArrayList" (9 : Nat) "java/util/ArrayList" "elementData" "[Ljava/lang/Object;") ∈ lw_all := lw_g (lw_at lw_m1 58 rfl) rfl
theorem q144 : (Jvm.Cond.fieldLink "java/util/ArrayList" (48 : Nat) "java/util/ArrayList" "size" "I") ∈ lw_all := lw_g (lw_at lw_m1 59 rfl) rfl
theorem q146 : (Jvm.Cond.fieldLink "java/util/ArrayList" (63 : Nat) "java/util/ArrayList" "modCount" "I") ∈ lw_all := lw_g (lw_at lw_m1 61 rfl) rfl
theorem q147 : (Jvm.Cond.sameField "java/util/ArrayList" "java/util/AbstractList" "modCount" "I") ∈ lw_all := lw_g (lw_at lw_m1 62 rfl) rfl
theorem q148 : (Jvm.Cond.lays "java/util/ArrayList" "java/util/ArrayList" "elementData" "[Ljava/lang/Object;") ∈ lw_all := lw_g (lw_at lw_m1 63 rfl) rfl
theorem q149 : (Jvm.Cond.soleField "java/util/ArrayList" "elementData") ∈ lw_all := lw_g (lw_at lw_m1 64 rfl) rfl
theorem q150 : (Jvm.Cond.lays "java/util/ArrayList" "java/util/ArrayList" "size" "I") ∈ lw_all := lw_g (lw_at lw_m1 65 rfl) rfl
theorem q151 : (Jvm.Cond.soleField "java/util/ArrayList" "size") ∈ lw_all := lw_g (lw_at lw_m1 66 rfl) rfl
theorem q152 : (Jvm.Cond.lays "java/util/ArrayList" "java/util/AbstractList" "modCount" "I") ∈ lw_all := lw_g (lw_at lw_m1 67 rfl) rfl
theorem q154 : (Jvm.Cond.superclass "java/util/ArrayList" "java/util/AbstractList") ∈ lw_all := lw_g (lw_at lw_m1 69 rfl) rfl
theorem q315 : (Jvm.Cond.instanceMethod ({ cls := "java/util/ArrayList", name := "size", desc := "()I" } : Jvm.MethodName)) ∈ lw_all := lw_g (lw_at lw_m1 230 rfl) rfl
theorem q316 : (Jvm.Cond.selects "java/util/ArrayList" ({ cls := "java/util/ArrayList", name := "size", desc := "()I" } : Jvm.MethodName) ({ cls := "java/util/ArrayList", name := "size", desc := "()I" } : Jvm.MethodName)) ∈ lw_all := lw_g (lw_at lw_m1 231 rfl) rfl
theorem q317 : (Jvm.Cond.code ({ cls := "java/util/ArrayList", name := "size", desc := "()I" } : Jvm.MethodName) prog_40_method_8_code (1 : Nat) (Option.some Jvm.ClassFile.FieldType.int)) ∈ lw_all := lw_g (lw_at lw_m1 232 rfl) rfl
theorem q358 : (Jvm.Cond.instanceMethod ({ cls := "java/util/ArrayList", name := "add", desc := "(Ljava/lang/Object;)Z" } : Jvm.MethodName)) ∈ lw_all := lw_g (lw_at lw_m2 33 rfl) rfl
theorem q359 : (Jvm.Cond.selects "java/util/ArrayList" ({ cls := "java/util/ArrayList", name := "add", desc := "(Ljava/lang/Object;)Z" } : Jvm.MethodName) ({ cls := "java/util/ArrayList", name := "add", desc := "(Ljava/lang/Object;)Z" } : Jvm.MethodName)) ∈ lw_all := lw_g (lw_at lw_m2 34 rfl) rfl
theorem q360 : (Jvm.Cond.code ({ cls := "java/util/ArrayList", name := "add", desc := "(Ljava/lang/Object;)Z" } : Jvm.MethodName) prog_40_method_25_code (2 : Nat) (Option.some Jvm.ClassFile.FieldType.boolean)) ∈ lw_all := lw_g (lw_at lw_m2 35 rfl) rfl
theorem q361 : (Jvm.Cond.methodLink "java/util/ArrayList" (131 : Nat) ({ cls := "java/util/ArrayList", name := "add", desc := "(Ljava/lang/Object;[Ljava/lang/Object;I)V" } : Jvm.MethodName)) ∈ lw_all := lw_g (lw_at lw_m2 36 rfl) rfl
theorem q362 : (Jvm.Cond.privateMethod ({ cls := "java/util/ArrayList", name := "add", desc := "(Ljava/lang/Object;[Ljava/lang/Object;I)V" } : Jvm.MethodName)) ∈ lw_tbl := lw_at lw_m2 37 rfl
theorem q363 : (Jvm.Cond.instanceMethod ({ cls := "java/util/ArrayList", name := "add", desc := "(Ljava/lang/Object;[Ljava/lang/Object;I)V" } : Jvm.MethodName)) ∈ lw_all := lw_g (lw_at lw_m2 38 rfl) rfl
theorem q364 : (Jvm.Cond.code ({ cls := "java/util/ArrayList", name := "add", desc := "(Ljava/lang/Object;[Ljava/lang/Object;I)V" } : Jvm.MethodName) prog_40_method_24_code (4 : Nat) (Option.none : Option Jvm.ClassFile.FieldType)) ∈ lw_all := lw_g (lw_at lw_m2 39 rfl) rfl
theorem q365 : (Jvm.Cond.methodLink "java/util/ArrayList" (129 : Nat) ({ cls := "java/util/ArrayList", name := "grow", desc := "()[Ljava/lang/Object;" } : Jvm.MethodName)) ∈ lw_all := lw_g (lw_at lw_m2 40 rfl) rfl
theorem q366 : (Jvm.Cond.privateMethod ({ cls := "java/util/ArrayList", name := "grow", desc := "()[Ljava/lang/Object;" } : Jvm.MethodName)) ∈ lw_tbl := lw_at lw_m2 41 rfl
theorem q367 : (Jvm.Cond.instanceMethod ({ cls := "java/util/ArrayList", name := "grow", desc := "()[Ljava/lang/Object;" } : Jvm.MethodName)) ∈ lw_all := lw_g (lw_at lw_m2 42 rfl) rfl
theorem q368 : (Jvm.Cond.code ({ cls := "java/util/ArrayList", name := "grow", desc := "()[Ljava/lang/Object;" } : Jvm.MethodName) prog_40_method_7_code (1 : Nat) (Option.some (Jvm.ClassFile.FieldType.array (Jvm.ClassFile.FieldType.object "java/lang/Object")))) ∈ lw_all := lw_g (lw_at lw_m2 43 rfl) rfl
theorem q369 : (Jvm.Cond.methodLink "java/util/ArrayList" (69 : Nat) ({ cls := "java/util/ArrayList", name := "grow", desc := "(I)[Ljava/lang/Object;" } : Jvm.MethodName)) ∈ lw_all := lw_g (lw_at lw_m2 44 rfl) rfl
theorem q370 : (Jvm.Cond.privateMethod ({ cls := "java/util/ArrayList", name := "grow", desc := "(I)[Ljava/lang/Object;" } : Jvm.MethodName)) ∈ lw_tbl := lw_at lw_m2 45 rfl
theorem q371 : (Jvm.Cond.instanceMethod ({ cls := "java/util/ArrayList", name := "grow", desc := "(I)[Ljava/lang/Object;" } : Jvm.MethodName)) ∈ lw_all := lw_g (lw_at lw_m2 46 rfl) rfl
theorem q372 : (Jvm.Cond.code ({ cls := "java/util/ArrayList", name := "grow", desc := "(I)[Ljava/lang/Object;" } : Jvm.MethodName) prog_40_method_6_code (4 : Nat) (Option.some (Jvm.ClassFile.FieldType.array (Jvm.ClassFile.FieldType.object "java/lang/Object")))) ∈ lw_all := lw_g (lw_at lw_m2 47 rfl) rfl
theorem q373 : (Jvm.Cond.methodLink "java/util/ArrayList" (73 : Nat) ({ cls := "jdk/internal/util/ArraysSupport", name := "newLength", desc := "(III)I" } : Jvm.MethodName)) ∈ lw_all := lw_g (lw_at lw_m2 48 rfl) rfl
theorem q383 : (Jvm.Cond.methodLink "java/util/ArrayList" (66 : Nat) ({ cls := "java/util/Arrays", name := "copyOf", desc := "([Ljava/lang/Object;I)[Ljava/lang/Object;" } : Jvm.MethodName)) ∈ lw_all := lw_g (lw_at lw_m2 58 rfl) rfl
theorem q409 : (Jvm.Cond.selects "java/util/ArrayList" ({ cls := "java/lang/Object", name := "getClass", desc := "()Ljava/lang/Class;" } : Jvm.MethodName) ({ cls := "java/lang/Object", name := "getClass", desc := "()Ljava/lang/Class;" } : Jvm.MethodName)) ∈ lw_all := lw_g (lw_at lw_m2 84 rfl) rfl
theorem q423 : (Jvm.Cond.methodLink "java/util/ArrayList" (79 : Nat) ({ cls := "java/lang/Math", name := "max", desc := "(II)I" } : Jvm.MethodName)) ∈ lw_all := lw_g (lw_at lw_m2 98 rfl) rfl
theorem q424 : (Jvm.Cond.classLink "java/util/ArrayList" (7 : Nat) "java/lang/Object") ∈ lw_all := lw_g (lw_at lw_m2 99 rfl) rfl
theorem q434 : (Jvm.Cond.instanceMethod ({ cls := "java/util/ArrayList", name := "get", desc := "(I)Ljava/lang/Object;" } : Jvm.MethodName)) ∈ lw_all := lw_g (lw_at lw_m2 109 rfl) rfl
theorem q435 : (Jvm.Cond.selects "java/util/ArrayList" ({ cls := "java/util/ArrayList", name := "get", desc := "(I)Ljava/lang/Object;" } : Jvm.MethodName) ({ cls := "java/util/ArrayList", name := "get", desc := "(I)Ljava/lang/Object;" } : Jvm.MethodName)) ∈ lw_all := lw_g (lw_at lw_m2 110 rfl) rfl
theorem q436 : (Jvm.Cond.code ({ cls := "java/util/ArrayList", name := "get", desc := "(I)Ljava/lang/Object;" } : Jvm.MethodName) prog_40_method_20_code (2 : Nat) (Option.some (Jvm.ClassFile.FieldType.object "java/lang/Object"))) ∈ lw_all := lw_g (lw_at lw_m2 111 rfl) rfl
theorem q437 : (Jvm.Cond.methodLink "java/util/ArrayList" (118 : Nat) ({ cls := "java/util/Objects", name := "checkIndex", desc := "(II)I" } : Jvm.MethodName)) ∈ lw_all := lw_g (lw_at lw_m2 112 rfl) rfl
theorem q443 : (Jvm.Cond.methodLink "java/util/ArrayList" (123 : Nat) ({ cls := "java/util/ArrayList", name := "elementData", desc := "(I)Ljava/lang/Object;" } : Jvm.MethodName)) ∈ lw_all := lw_g (lw_at lw_m2 118 rfl) rfl
theorem q444 : (Jvm.Cond.instanceMethod ({ cls := "java/util/ArrayList", name := "elementData", desc := "(I)Ljava/lang/Object;" } : Jvm.MethodName)) ∈ lw_all := lw_g (lw_at lw_m2 119 rfl) rfl
theorem q445 : (Jvm.Cond.selects "java/util/ArrayList" ({ cls := "java/util/ArrayList", name := "elementData", desc := "(I)Ljava/lang/Object;" } : Jvm.MethodName) ({ cls := "java/util/ArrayList", name := "elementData", desc := "(I)Ljava/lang/Object;" } : Jvm.MethodName)) ∈ lw_all := lw_g (lw_at lw_m2 120 rfl) rfl
theorem q446 : (Jvm.Cond.code ({ cls := "java/util/ArrayList", name := "elementData", desc := "(I)Ljava/lang/Object;" } : Jvm.MethodName) prog_40_method_18_code (2 : Nat) (Option.some (Jvm.ClassFile.FieldType.object "java/lang/Object"))) ∈ lw_all := lw_g (lw_at lw_m2 121 rfl) rfl
theorem q1195 : (Jvm.Cond.instanceMethod ({ cls := "java/util/ArrayList", name := "remove", desc := "(I)Ljava/lang/Object;" } : Jvm.MethodName)) ∈ lw_all := lw_g (lw_at lw_m5 150 rfl) rfl
theorem q1196 : (Jvm.Cond.selects "java/util/ArrayList" ({ cls := "java/util/ArrayList", name := "remove", desc := "(I)Ljava/lang/Object;" } : Jvm.MethodName) ({ cls := "java/util/ArrayList", name := "remove", desc := "(I)Ljava/lang/Object;" } : Jvm.MethodName)) ∈ lw_all := lw_g (lw_at lw_m5 151 rfl) rfl
theorem q1197 : (Jvm.Cond.code ({ cls := "java/util/ArrayList", name := "remove", desc := "(I)Ljava/lang/Object;" } : Jvm.MethodName) prog_40_method_29_code (4 : Nat) (Option.some (Jvm.ClassFile.FieldType.object "java/lang/Object"))) ∈ lw_all := lw_g (lw_at lw_m5 152 rfl) rfl
theorem q1198 : (Jvm.Cond.methodLink "java/util/ArrayList" (144 : Nat) ({ cls := "java/util/ArrayList", name := "fastRemove", desc := "([Ljava/lang/Object;I)V" } : Jvm.MethodName)) ∈ lw_all := lw_g (lw_at lw_m5 153 rfl) rfl
theorem q1199 : (Jvm.Cond.privateMethod ({ cls := "java/util/ArrayList", name := "fastRemove", desc := "([Ljava/lang/Object;I)V" } : Jvm.MethodName)) ∈ lw_tbl := lw_at lw_m5 154 rfl
theorem q1200 : (Jvm.Cond.instanceMethod ({ cls := "java/util/ArrayList", name := "fastRemove", desc := "([Ljava/lang/Object;I)V" } : Jvm.MethodName)) ∈ lw_all := lw_g (lw_at lw_m5 155 rfl) rfl
theorem q1201 : (Jvm.Cond.code ({ cls := "java/util/ArrayList", name := "fastRemove", desc := "([Ljava/lang/Object;I)V" } : Jvm.MethodName) prog_40_method_39_code (4 : Nat) (Option.none : Option Jvm.ClassFile.FieldType)) ∈ lw_all := lw_g (lw_at lw_m5 156 rfl) rfl
theorem q1202 : (Jvm.Cond.methodLink "java/util/ArrayList" (112 : Nat) ({ cls := "java/lang/System", name := "arraycopy", desc := "(Ljava/lang/Object;ILjava/lang/Object;II)V" } : Jvm.MethodName)) ∈ lw_all := lw_g (lw_at lw_m5 157 rfl) rfl
theorem q1877 : (Jvm.Cond.castable "java/util/ArrayList" "java/lang/Object") ∈ lw_tbl := lw_at lw_m8 112 rfl
theorem in_J2 : ∀ w ∈ wsJ20, w ∈ lw_all := lw_in wsJ20 [152, 148, 150] (by decide +kernel) (by decide +kernel)
/-! jdk/internal/util/ArraysSupport -/
def RJ3 : String := "jdk/internal/util/ArraysSupport"
abbrev cJ3_newLength : ByteArray := prog_47_method_27_code
def yJ3_newLength : MethodName := ⟨RJ3, "newLength", "(III)I"⟩
theorem dJ3_newLength_0 : decode cJ3_newLength 0 = .ok (.iload_n 0, 1) := by decide +kernel
theorem dJ3_newLength_1 : decode cJ3_newLength 1 = .ok (.iload_n 1, 1) := by decide +kernel
theorem dJ3_newLength_2 : decode cJ3_newLength 2 = .ok (.iload_n 2, 1) := by decide +kernel
theorem dJ3_newLength_3 : decode cJ3_newLength 3 = .ok (.invokestatic 194, 3) := by decide +kernel
theorem dJ3_newLength_6 : decode cJ3_newLength 6 = .ok (.iadd, 1) := by decide +kernel
theorem dJ3_newLength_7 : decode cJ3_newLength 7 = .ok (.istore_n 3, 1) := by decide +kernel
theorem dJ3_newLength_8 : decode cJ3_newLength 8 = .ok (.iconst 0, 1) := by decide +kernel
theorem dJ3_newLength_9 : decode cJ3_newLength 9 = .ok (.iload_n 3, 1) := by decide +kernel
theorem dJ3_newLength_10 : decode cJ3_newLength 10 = .ok (.if_icmp .ge 11, 3) := by decide +kernel
theorem dJ3_newLength_13 : decode cJ3_newLength 13 = .ok (.iload_n 3, 1) := by decide +kernel
theorem dJ3_newLength_14 : decode cJ3_newLength 14 = .ok (.ldc 200, 2) := by decide +kernel
theorem dJ3_newLength_16 : decode cJ3_newLength 16 = .ok (.if_icmp .gt 5, 3) := by decide +kernel
theorem dJ3_newLength_19 : decode cJ3_newLength 19 = .ok (.iload_n 3, 1) := by decide +kernel
theorem dJ3_newLength_20 : decode cJ3_newLength 20 = .ok (.ireturn, 1) := by decide +kernel
theorem dJ3_newLength_21 : decode cJ3_newLength 21 = .ok (.iload_n 0, 1) := by decide +kernel
theorem dJ3_newLength_22 : decode cJ3_newLength 22 = .ok (.iload_n 1, 1) := by decide +kernel
theorem dJ3_newLength_23 : decode cJ3_newLength 23 = .ok (.invokestatic 201, 3) := by decide +kernel
theorem dJ3_newLength_26 : decode cJ3_newLength 26 = .ok (.ireturn, 1) := by decide +kernel
abbrev cJ3_hugeLength : ByteArray := prog_47_method_28_code
def yJ3_hugeLength : MethodName := ⟨RJ3, "hugeLength", "(II)I"⟩
theorem dJ3_hugeLength_0 : decode cJ3_hugeLength 0 = .ok (.iload_n 0, 1) := by decide +kernel
theorem dJ3_hugeLength_1 : decode cJ3_hugeLength 1 = .ok (.iload_n 1, 1) := by decide +kernel
theorem dJ3_hugeLength_2 : decode cJ3_hugeLength 2 = .ok (.iadd, 1) := by decide +kernel
theorem dJ3_hugeLength_3 : decode cJ3_hugeLength 3 = .ok (.istore_n 2, 1) := by decide +kernel
theorem dJ3_hugeLength_4 : decode cJ3_hugeLength 4 = .ok (.iload_n 2, 1) := by decide +kernel
theorem dJ3_hugeLength_5 : decode cJ3_hugeLength 5 = .ok (.ifCond .ge 44, 3) := by decide +kernel
theorem dJ3_hugeLength_8 : decode cJ3_hugeLength 8 = .ok (.new 204, 3) := by decide +kernel
theorem dJ3_hugeLength_11 : decode cJ3_hugeLength 11 = .ok (.dup, 1) := by decide +kernel
theorem dJ3_hugeLength_12 : decode cJ3_hugeLength 12 = .ok (.new 89, 3) := by decide +kernel
theorem dJ3_hugeLength_15 : decode cJ3_hugeLength 15 = .ok (.dup, 1) := by decide +kernel
theorem dJ3_hugeLength_16 : decode cJ3_hugeLength 16 = .ok (.invokespecial 91, 3) := by decide +kernel
theorem dJ3_hugeLength_19 : decode cJ3_hugeLength 19 = .ok (.ldc 206, 2) := by decide +kernel
theorem dJ3_hugeLength_21 : decode cJ3_hugeLength 21 = .ok (.invokevirtual 94, 3) := by decide +kernel
theorem dJ3_hugeLength_24 : decode cJ3_hugeLength 24 = .ok (.iload_n 0, 1) := by decide +kernel
theorem dJ3_hugeLength_25 : decode cJ3_hugeLength 25 = .ok (.invokevirtual 98, 3) := by decide +kernel
theorem dJ3_hugeLength_28 : decode cJ3_hugeLength 28 = .ok (.ldc 208, 2) := by decide +kernel
theorem dJ3_hugeLength_30 : decode cJ3_hugeLength 30 = .ok (.invokevirtual 94, 3) := by decide +kernel
theorem dJ3_hugeLength_33 : decode cJ3_hugeLength 33 = .ok (.iload_n 1, 1) := by decide +kernel
theorem dJ3_hugeLength_34 : decode cJ3_hugeLength 34 = .ok (.invokevirtual 98, 3) := by decide +kernel
theorem dJ3_hugeLength_37 : decode cJ3_hugeLength 37 = .ok (.ldc 210, 2) := by decide +kernel
theorem dJ3_hugeLength_39 : decode cJ3_hugeLength 39 = .ok (.invokevirtual 94, 3) := by decide +kernel
theorem dJ3_hugeLength_42 : decode cJ3_hugeLength 42 = .ok (.invokevirtual 101, 3) := by decide +kernel
theorem dJ3_hugeLength_45 : decode cJ3_hugeLength 45 = .ok (.invokespecial 212, 3) := by decide +kernel
theorem dJ3_hugeLength_48 : decode cJ3_hugeLength 48 = .ok (.athrow, 1) := by decide +kernel
theorem dJ3_hugeLength_49 : decode cJ3_hugeLength 49 = .ok (.iload_n 2, 1) := by decide +kernel
theorem dJ3_hugeLength_50 : decode cJ3_hugeLength 50 = .ok (.ldc 200, 2) := by decide +kernel
theorem dJ3_hugeLength_52 : decode cJ3_hugeLength 52 = .ok (.if_icmp .gt 6, 3) := by decide +kernel
theorem dJ3_hugeLength_55 : decode cJ3_hugeLength 55 = .ok (.ldc 200, 2) := by decide +kernel
theorem dJ3_hugeLength_57 : decode cJ3_hugeLength 57 = .ok (.ireturn, 1) := by decide +kernel
theorem dJ3_hugeLength_58 : decode cJ3_hugeLength 58 = .ok (.iload_n 2, 1) := by decide +kernel
theorem dJ3_hugeLength_59 : decode cJ3_hugeLength 59 = .ok (.ireturn, 1) := by decide +kernel
theorem q94 : (Jvm.Cond.initialized "jdk/internal/util/ArraysSupport") ∈ lw_all := lw_g (lw_at lw_m1 9 rfl) rfl
theorem q374 : (Jvm.Cond.static ({ cls := "jdk/internal/util/ArraysSupport", name := "newLength", desc := "(III)I" } : Jvm.MethodName)) ∈ lw_all := lw_g (lw_at lw_m2 49 rfl) rfl
theorem q375 : (Jvm.Cond.code ({ cls := "jdk/internal/util/ArraysSupport", name := "newLength", desc := "(III)I" } : Jvm.MethodName) prog_47_method_27_code (4 : Nat) (Option.some Jvm.ClassFile.FieldType.int)) ∈ lw_all := lw_g (lw_at lw_m2 50 rfl) rfl
theorem q376 : (Jvm.Cond.methodLink "jdk/internal/util/ArraysSupport" (194 : Nat) ({ cls := "java/lang/Math", name := "max", desc := "(II)I" } : Jvm.MethodName)) ∈ lw_all := lw_g (lw_at lw_m2 51 rfl) rfl
theorem q379 : (Jvm.Cond.constant "jdk/internal/util/ArraysSupport" (200 : Nat) (2147483639 : Int32)) ∈ lw_all := lw_g (lw_at lw_m2 54 rfl) rfl
theorem q380 : (Jvm.Cond.methodLink "jdk/internal/util/ArraysSupport" (201 : Nat) ({ cls := "jdk/internal/util/ArraysSupport", name := "hugeLength", desc := "(II)I" } : Jvm.MethodName)) ∈ lw_all := lw_g (lw_at lw_m2 55 rfl) rfl
theorem q381 : (Jvm.Cond.static ({ cls := "jdk/internal/util/ArraysSupport", name := "hugeLength", desc := "(II)I" } : Jvm.MethodName)) ∈ lw_all := lw_g (lw_at lw_m2 56 rfl) rfl
theorem q382 : (Jvm.Cond.code ({ cls := "jdk/internal/util/ArraysSupport", name := "hugeLength", desc := "(II)I" } : Jvm.MethodName) prog_47_method_28_code (3 : Nat) (Option.some Jvm.ClassFile.FieldType.int)) ∈ lw_all := lw_g (lw_at lw_m2 57 rfl) rfl
/-! java/lang/Math -/
def RJ4 : String := "java/lang/Math"
abbrev cJ4_max : ByteArray := prog_30_method_65_code
def yJ4_max : MethodName := ⟨RJ4, "max", "(II)I"⟩
theorem dJ4_max_0 : decode cJ4_max 0 = .ok (.iload_n 0, 1) := by decide +kernel
theorem dJ4_max_1 : decode cJ4_max 1 = .ok (.iload_n 1, 1) := by decide +kernel
theorem dJ4_max_2 : decode cJ4_max 2 = .ok (.if_icmp .lt 7, 3) := by decide +kernel
theorem dJ4_max_5 : decode cJ4_max 5 = .ok (.iload_n 0, 1) := by decide +kernel
theorem dJ4_max_6 : decode cJ4_max 6 = .ok (.goto 4, 3) := by decide +kernel
theorem dJ4_max_9 : decode cJ4_max 9 = .ok (.iload_n 1, 1) := by decide +kernel
theorem dJ4_max_10 : decode cJ4_max 10 = .ok (.ireturn, 1) := by decide +kernel
abbrev cJ4_min : ByteArray := prog_30_method_69_code
def yJ4_min : MethodName := ⟨RJ4, "min", "(II)I"⟩
theorem dJ4_min_0 : decode cJ4_min 0 = .ok (.iload_n 0, 1) := by decide +kernel
theorem dJ4_min_1 : decode cJ4_min 1 = .ok (.iload_n 1, 1) := by decide +kernel
theorem dJ4_min_2 : decode cJ4_min 2 = .ok (.if_icmp .gt 7, 3) := by decide +kernel
theorem dJ4_min_5 : decode cJ4_min 5 = .ok (.iload_n 0, 1) := by decide +kernel
theorem dJ4_min_6 : decode cJ4_min 6 = .ok (.goto 4, 3) := by decide +kernel
theorem dJ4_min_9 : decode cJ4_min 9 = .ok (.iload_n 1, 1) := by decide +kernel
theorem dJ4_min_10 : decode cJ4_min 10 = .ok (.ireturn, 1) := by decide +kernel
theorem q95 : (Jvm.Cond.initialized "java/lang/Math") ∈ lw_all := lw_g (lw_at lw_m1 10 rfl) rfl
theorem q377 : (Jvm.Cond.static ({ cls := "java/lang/Math", name := "max", desc := "(II)I" } : Jvm.MethodName)) ∈ lw_all := lw_g (lw_at lw_m2 52 rfl) rfl
theorem q378 : (Jvm.Cond.code ({ cls := "java/lang/Math", name := "max", desc := "(II)I" } : Jvm.MethodName) prog_30_method_65_code (2 : Nat) (Option.some Jvm.ClassFile.FieldType.int)) ∈ lw_all := lw_g (lw_at lw_m2 53 rfl) rfl
theorem q418 : (Jvm.Cond.static ({ cls := "java/lang/Math", name := "min", desc := "(II)I" } : Jvm.MethodName)) ∈ lw_all := lw_g (lw_at lw_m2 93 rfl) rfl
theorem q419 : (Jvm.Cond.code ({ cls := "java/lang/Math", name := "min", desc := "(II)I" } : Jvm.MethodName) prog_30_method_69_code (2 : Nat) (Option.some Jvm.ClassFile.FieldType.int)) ∈ lw_all := lw_g (lw_at lw_m2 94 rfl) rfl
/-! java/util/Arrays -/
def RJ5 : String := "java/util/Arrays"
abbrev cJ5_copyOf : ByteArray := prog_41_method_119_code
def yJ5_copyOf : MethodName := ⟨RJ5, "copyOf", "([Ljava/lang/Object;I)[Ljava/lang/Object;"⟩
theorem dJ5_copyOf_0 : decode cJ5_copyOf 0 = .ok (.aload_n 0, 1) := by decide +kernel
theorem dJ5_copyOf_1 : decode cJ5_copyOf 1 = .ok (.iload_n 1, 1) := by decide +kernel
theorem dJ5_copyOf_2 : decode cJ5_copyOf 2 = .ok (.aload_n 0, 1) := by decide +kernel
theorem dJ5_copyOf_3 : decode cJ5_copyOf 3 = .ok (.invokevirtual 86, 3) := by decide +kernel
theorem dJ5_copyOf_6 : decode cJ5_copyOf 6 = .ok (.invokestatic 300, 3) := by decide +kernel
theorem dJ5_copyOf_9 : decode cJ5_copyOf 9 = .ok (.areturn, 1) := by decide +kernel
abbrev cJ5_copyOf_2 : ByteArray := prog_41_method_120_code
def yJ5_copyOf_2 : MethodName := ⟨RJ5, "copyOf", "([Ljava/lang/Object;ILjava/lang/Class;)[Ljava/lang/Object;"⟩
theorem dJ5_copyOf_2_0 : decode cJ5_copyOf_2 0 = .ok (.aload_n 2, 1) := by decide +kernel
theorem dJ5_copyOf_2_1 : decode cJ5_copyOf_2 1 = .ok (.ldc 110, 2) := by decide +kernel
theorem dJ5_copyOf_2_3 : decode cJ5_copyOf_2 3 = .ok (.if_acmp .ne 10, 3) := by decide +kernel
theorem dJ5_copyOf_2_6 : decode cJ5_copyOf_2 6 = .ok (.iload_n 1, 1) := by decide +kernel
theorem dJ5_copyOf_2_7 : decode cJ5_copyOf_2 7 = .ok (.anewarray 2, 3) := by decide +kernel
theorem dJ5_copyOf_2_10 : decode cJ5_copyOf_2 10 = .ok (.goto 14, 3) := by decide +kernel
theorem dJ5_copyOf_2_13 : decode cJ5_copyOf_2 13 = .ok (.aload_n 2, 1) := by decide +kernel
theorem dJ5_copyOf_2_14 : decode cJ5_copyOf_2 14 = .ok (.invokevirtual 90, 3) := by decide +kernel
theorem dJ5_copyOf_2_17 : decode cJ5_copyOf_2 17 = .ok (.iload_n 1, 1) := by decide +kernel
theorem dJ5_copyOf_2_18 : decode cJ5_copyOf_2 18 = .ok (.invokestatic 95, 3) := by decide +kernel
theorem dJ5_copyOf_2_21 : decode cJ5_copyOf_2 21 = .ok (.checkcast 110, 3) := by decide +kernel
theorem dJ5_copyOf_2_24 : decode cJ5_copyOf_2 24 = .ok (.astore_n 3, 1) := by decide +kernel
theorem dJ5_copyOf_2_25 : decode cJ5_copyOf_2 25 = .ok (.aload_n 0, 1) := by decide +kernel
theorem dJ5_copyOf_2_26 : decode cJ5_copyOf_2 26 = .ok (.iconst 0, 1) := by decide +kernel
theorem dJ5_copyOf_2_27 : decode cJ5_copyOf_2 27 = .ok (.aload_n 3, 1) := by decide +kernel
theorem dJ5_copyOf_2_28 : decode cJ5_copyOf_2 28 = .ok (.iconst 0, 1) := by decide +kernel
theorem dJ5_copyOf_2_29 : decode cJ5_copyOf_2 29 = .ok (.aload_n 0, 1) := by decide +kernel
theorem dJ5_copyOf_2_30 : decode cJ5_copyOf_2 30 = .ok (.arraylength, 1) := by decide +kernel
theorem dJ5_copyOf_2_31 : decode cJ5_copyOf_2 31 = .ok (.iload_n 1, 1) := by decide +kernel
theorem dJ5_copyOf_2_32 : decode cJ5_copyOf_2 32 = .ok (.invokestatic 304, 3) := by decide +kernel
theorem dJ5_copyOf_2_35 : decode cJ5_copyOf_2 35 = .ok (.invokestatic 150, 3) := by decide +kernel
theorem dJ5_copyOf_2_38 : decode cJ5_copyOf_2 38 = .ok (.aload_n 3, 1) := by decide +kernel
theorem dJ5_copyOf_2_39 : decode cJ5_copyOf_2 39 = .ok (.areturn, 1) := by decide +kernel
theorem q96 : (Jvm.Cond.initialized "java/util/Arrays") ∈ lw_all := lw_g (lw_at lw_m1 11 rfl) rfl
theorem q384 : (Jvm.Cond.static ({ cls := "java/util/Arrays", name := "copyOf", desc := "([Ljava/lang/Object;I)[Ljava/lang/Object;" } : Jvm.MethodName)) ∈ lw_all := lw_g (lw_at lw_m2 59 rfl) rfl
theorem q385 : (Jvm.Cond.code ({ cls := "java/util/Arrays", name := "copyOf", desc := "([Ljava/lang/Object;I)[Ljava/lang/Object;" } : Jvm.MethodName) prog_41_method_119_code (2 : Nat) (Option.some (Jvm.ClassFile.FieldType.array (Jvm.ClassFile.FieldType.object "java/lang/Object")))) ∈ lw_all := lw_g (lw_at lw_m2 60 rfl) rfl
theorem q386 : (Jvm.Cond.methodLink "java/util/Arrays" (86 : Nat) ({ cls := "java/lang/Object", name := "getClass", desc := "()Ljava/lang/Class;" } : Jvm.MethodName)) ∈ lw_all := lw_g (lw_at lw_m2 61 rfl) rfl
theorem q411 : (Jvm.Cond.methodLink "java/util/Arrays" (300 : Nat) ({ cls := "java/util/Arrays", name := "copyOf", desc := "([Ljava/lang/Object;ILjava/lang/Class;)[Ljava/lang/Object;" } : Jvm.MethodName)) ∈ lw_all := lw_g (lw_at lw_m2 86 rfl) rfl
theorem q412 : (Jvm.Cond.static ({ cls := "java/util/Arrays", name := "copyOf", desc := "([Ljava/lang/Object;ILjava/lang/Class;)[Ljava/lang/Object;" } : Jvm.MethodName)) ∈ lw_all := lw_g (lw_at lw_m2 87 rfl) rfl
theorem q413 : (Jvm.Cond.code ({ cls := "java/util/Arrays", name := "copyOf", desc := "([Ljava/lang/Object;ILjava/lang/Class;)[Ljava/lang/Object;" } : Jvm.MethodName) prog_41_method_120_code (4 : Nat) (Option.some (Jvm.ClassFile.FieldType.array (Jvm.ClassFile.FieldType.object "java/lang/Object")))) ∈ lw_all := lw_g (lw_at lw_m2 88 rfl) rfl
theorem q414 : (Jvm.Cond.classLink "java/util/Arrays" (110 : Nat) "[Ljava/lang/Object;") ∈ lw_all := lw_g (lw_at lw_m2 89 rfl) rfl
theorem q416 : (Jvm.Cond.classLink "java/util/Arrays" (2 : Nat) "java/lang/Object") ∈ lw_all := lw_g (lw_at lw_m2 91 rfl) rfl
theorem q417 : (Jvm.Cond.methodLink "java/util/Arrays" (304 : Nat) ({ cls := "java/lang/Math", name := "min", desc := "(II)I" } : Jvm.MethodName)) ∈ lw_all := lw_g (lw_at lw_m2 92 rfl) rfl
theorem q420 : (Jvm.Cond.methodLink "java/util/Arrays" (150 : Nat) ({ cls := "java/lang/System", name := "arraycopy", desc := "(Ljava/lang/Object;ILjava/lang/Object;II)V" } : Jvm.MethodName)) ∈ lw_all := lw_g (lw_at lw_m2 95 rfl) rfl
/-! java/util/Objects -/
def RJ6 : String := "java/util/Objects"
abbrev cJ6_checkIndex : ByteArray := prog_44_method_17_code
def yJ6_checkIndex : MethodName := ⟨RJ6, "checkIndex", "(II)I"⟩
theorem dJ6_checkIndex_0 : decode cJ6_checkIndex 0 = .ok (.iload_n 0, 1) := by decide +kernel
theorem dJ6_checkIndex_1 : decode cJ6_checkIndex 1 = .ok (.iload_n 1, 1) := by decide +kernel
theorem dJ6_checkIndex_2 : decode cJ6_checkIndex 2 = .ok (.aconst_null, 1) := by decide +kernel
theorem dJ6_checkIndex_3 : decode cJ6_checkIndex 3 = .ok (.invokestatic 105, 3) := by decide +kernel
theorem dJ6_checkIndex_6 : decode cJ6_checkIndex 6 = .ok (.ireturn, 1) := by decide +kernel
theorem q98 : (Jvm.Cond.initialized "java/util/Objects") ∈ lw_all := lw_g (lw_at lw_m1 13 rfl) rfl
theorem q438 : (Jvm.Cond.static ({ cls := "java/util/Objects", name := "checkIndex", desc := "(II)I" } : Jvm.MethodName)) ∈ lw_all := lw_g (lw_at lw_m2 113 rfl) rfl
theorem q439 : (Jvm.Cond.code ({ cls := "java/util/Objects", name := "checkIndex", desc := "(II)I" } : Jvm.MethodName) prog_44_method_17_code (2 : Nat) (Option.some Jvm.ClassFile.FieldType.int)) ∈ lw_all := lw_g (lw_at lw_m2 114 rfl) rfl
theorem q440 : (Jvm.Cond.methodLink "java/util/Objects" (105 : Nat) ({ cls := "jdk/internal/util/Preconditions", name := "checkIndex", desc := "(IILjava/util/function/BiFunction;)I" } : Jvm.MethodName)) ∈ lw_all := lw_g (lw_at lw_m2 115 rfl) rfl
/-! jdk/internal/util/Preconditions -/
def RJ7 : String := "jdk/internal/util/Preconditions"
abbrev cJ7_checkIndex : ByteArray := prog_48_method_11_code
def yJ7_checkIndex : MethodName := ⟨RJ7, "checkIndex", "(IILjava/util/function/BiFunction;)I"⟩
theorem dJ7_checkIndex_0 : decode cJ7_checkIndex 0 = .ok (.iload_n 0, 1) := by decide +kernel
theorem dJ7_checkIndex_1 : decode cJ7_checkIndex 1 = .ok (.ifCond .lt 8, 3) := by decide +kernel
theorem dJ7_checkIndex_4 : decode cJ7_checkIndex 4 = .ok (.iload_n 0, 1) := by decide +kernel
theorem dJ7_checkIndex_5 : decode cJ7_checkIndex 5 = .ok (.iload_n 1, 1) := by decide +kernel
theorem dJ7_checkIndex_6 : decode cJ7_checkIndex 6 = .ok (.if_icmp .lt 10, 3) := by decide +kernel
theorem dJ7_checkIndex_9 : decode cJ7_checkIndex 9 = .ok (.aload_n 2, 1) := by decide +kernel
theorem dJ7_checkIndex_10 : decode cJ7_checkIndex 10 = .ok (.iload_n 0, 1) := by decide +kernel
theorem dJ7_checkIndex_11 : decode cJ7_checkIndex 11 = .ok (.iload_n 1, 1) := by decide +kernel
theorem dJ7_checkIndex_12 : decode cJ7_checkIndex 12 = .ok (.invokestatic 95, 3) := by decide +kernel
theorem dJ7_checkIndex_15 : decode cJ7_checkIndex 15 = .ok (.athrow, 1) := by decide +kernel
theorem dJ7_checkIndex_16 : decode cJ7_checkIndex 16 = .ok (.iload_n 0, 1) := by decide +kernel
theorem dJ7_checkIndex_17 : decode cJ7_checkIndex 17 = .ok (.ireturn, 1) := by decide +kernel
theorem q99 : (Jvm.Cond.initialized "jdk/internal/util/Preconditions") ∈ lw_all := lw_g (lw_at lw_m1 14 rfl) rfl
theorem q441 : (Jvm.Cond.static ({ cls := "jdk/internal/util/Preconditions", name := "checkIndex", desc := "(IILjava/util/function/BiFunction;)I" } : Jvm.MethodName)) ∈ lw_all := lw_g (lw_at lw_m2 116 rfl) rfl
theorem q442 : (Jvm.Cond.code ({ cls := "jdk/internal/util/Preconditions", name := "checkIndex", desc := "(IILjava/util/function/BiFunction;)I" } : Jvm.MethodName) prog_48_method_11_code (3 : Nat) (Option.some Jvm.ClassFile.FieldType.int)) ∈ lw_all := lw_g (lw_at lw_m2 117 rfl) rfl
theorem q1600 : (Jvm.Cond.laysStatic "jdk/internal/util/Preconditions" "SIOOBE_FORMATTER" "Ljava/util/function/BiFunction;") ∈ lw_tbl := lw_at lw_m7 75 rfl
/-! java/lang/Throwable -/
def RJ8 : String := "java/lang/Throwable"
def TJ8 : u_T := fun k => match k with
  | 0 => ("java/lang/Throwable", "cause", "Ljava/lang/Throwable;", false)
  | 1 => ("java/lang/Throwable", "stackTrace", "[Ljava/lang/StackTraceElement;", false)
  | 2 => ("java/lang/Throwable", "suppressedExceptions", "Ljava/util/List;", false)
  | 3 => ("java/lang/Throwable", "detailMessage", "Ljava/lang/String;", false)
  | _ => ("java/lang/Throwable", "backtrace", "Ljava/lang/Object;", false)
def tyJ8 : Nat → FieldType := fun k => match k with
  | 0 => .object "java/lang/Throwable"
  | 1 => .array (.object "java/lang/StackTraceElement")
  | 2 => .object "java/util/List"
  | 3 => .object "java/lang/String"
  | _ => .object "java/lang/Object"
abbrev wsJ80 : List Cond := u_ws RJ8 TJ8 5
theorem nmJ8 : ∀ a, a < 5 → ∀ b, b < 5 → a ≠ b → (TJ8 a).2.1 ≠ (TJ8 b).2.1 := by decide +kernel
theorem tyJ8_ok : ∀ k, k < 5 → parseFieldDescriptor (TJ8 k).2.2.1 = some (tyJ8 k) := by decide +kernel
abbrev cJ8_init : ByteArray := prog_35_method_1_code
def yJ8_init : MethodName := ⟨RJ8, "<init>", "()V"⟩
theorem dJ8_init_0 : decode cJ8_init 0 = .ok (.aload_n 0, 1) := by decide +kernel
theorem dJ8_init_1 : decode cJ8_init 1 = .ok (.invokespecial 1, 3) := by decide +kernel
theorem dJ8_init_4 : decode cJ8_init 4 = .ok (.aload_n 0, 1) := by decide +kernel
theorem dJ8_init_5 : decode cJ8_init 5 = .ok (.aload_n 0, 1) := by decide +kernel
theorem dJ8_init_6 : decode cJ8_init 6 = .ok (.putfield 7, 3) := by decide +kernel
theorem dJ8_init_9 : decode cJ8_init 9 = .ok (.aload_n 0, 1) := by decide +kernel
theorem dJ8_init_10 : decode cJ8_init 10 = .ok (.getstatic 13, 3) := by decide +kernel
theorem dJ8_init_13 : decode cJ8_init 13 = .ok (.putfield 17, 3) := by decide +kernel
theorem dJ8_init_16 : decode cJ8_init 16 = .ok (.aload_n 0, 1) := by decide +kernel
theorem dJ8_init_17 : decode cJ8_init 17 = .ok (.getstatic 20, 3) := by decide +kernel
theorem dJ8_init_20 : decode cJ8_init 20 = .ok (.putfield 24, 3) := by decide +kernel
theorem dJ8_init_23 : decode cJ8_init 23 = .ok (.aload_n 0, 1) := by decide +kernel
theorem dJ8_init_24 : decode cJ8_init 24 = .ok (.invokevirtual 27, 3) := by decide +kernel
theorem dJ8_init_27 : decode cJ8_init 27 = .ok (.pop, 1) := by decide +kernel
theorem dJ8_init_28 : decode cJ8_init 28 = .ok (.return_, 1) := by decide +kernel
abbrev cJ8_init_2 : ByteArray := prog_35_method_5_code
def yJ8_init_2 : MethodName := ⟨RJ8, "<init>", "(Ljava/lang/String;Ljava/lang/Throwable;ZZ)V"⟩
theorem dJ8_init_2_0 : decode cJ8_init_2 0 = .ok (.aload_n 0, 1) := by decide +kernel
theorem dJ8_init_2_1 : decode cJ8_init_2 1 = .ok (.invokespecial 1, 3) := by decide +kernel
theorem dJ8_init_2_4 : decode cJ8_init_2 4 = .ok (.aload_n 0, 1) := by decide +kernel
theorem dJ8_init_2_5 : decode cJ8_init_2 5 = .ok (.aload_n 0, 1) := by decide +kernel
theorem dJ8_init_2_6 : decode cJ8_init_2 6 = .ok (.putfield 7, 3) := by decide +kernel
theorem dJ8_init_2_9 : decode cJ8_init_2 9 = .ok (.aload_n 0, 1) := by decide +kernel
theorem dJ8_init_2_10 : decode cJ8_init_2 10 = .ok (.getstatic 13, 3) := by decide +kernel
theorem dJ8_init_2_13 : decode cJ8_init_2 13 = .ok (.putfield 17, 3) := by decide +kernel
theorem dJ8_init_2_16 : decode cJ8_init_2 16 = .ok (.aload_n 0, 1) := by decide +kernel
theorem dJ8_init_2_17 : decode cJ8_init_2 17 = .ok (.getstatic 20, 3) := by decide +kernel
theorem dJ8_init_2_20 : decode cJ8_init_2 20 = .ok (.putfield 24, 3) := by decide +kernel
theorem dJ8_init_2_23 : decode cJ8_init_2 23 = .ok (.iload 4, 2) := by decide +kernel
theorem dJ8_init_2_25 : decode cJ8_init_2 25 = .ok (.ifCond .eq 11, 3) := by decide +kernel
theorem dJ8_init_2_28 : decode cJ8_init_2 28 = .ok (.aload_n 0, 1) := by decide +kernel
theorem dJ8_init_2_29 : decode cJ8_init_2 29 = .ok (.invokevirtual 27, 3) := by decide +kernel
theorem dJ8_init_2_32 : decode cJ8_init_2 32 = .ok (.pop, 1) := by decide +kernel
theorem dJ8_init_2_33 : decode cJ8_init_2 33 = .ok (.goto 8, 3) := by decide +kernel
theorem dJ8_init_2_36 : decode cJ8_init_2 36 = .ok (.aload_n 0, 1) := by decide +kernel
theorem dJ8_init_2_37 : decode cJ8_init_2 37 = .ok (.aconst_null, 1) := by decide +kernel
theorem dJ8_init_2_38 : decode cJ8_init_2 38 = .ok (.putfield 17, 3) := by decide +kernel
theorem dJ8_init_2_41 : decode cJ8_init_2 41 = .ok (.aload_n 0, 1) := by decide +kernel
theorem dJ8_init_2_42 : decode cJ8_init_2 42 = .ok (.aload_n 1, 1) := by decide +kernel
theorem dJ8_init_2_43 : decode cJ8_init_2 43 = .ok (.putfield 31, 3) := by decide +kernel
theorem dJ8_init_2_46 : decode cJ8_init_2 46 = .ok (.aload_n 0, 1) := by decide +kernel
theorem dJ8_init_2_47 : decode cJ8_init_2 47 = .ok (.aload_n 2, 1) := by decide +kernel
theorem dJ8_init_2_48 : decode cJ8_init_2 48 = .ok (.putfield 7, 3) := by decide +kernel
theorem dJ8_init_2_51 : decode cJ8_init_2 51 = .ok (.iload_n 3, 1) := by decide +kernel
theorem dJ8_init_2_52 : decode cJ8_init_2 52 = .ok (.ifCond .ne 8, 3) := by decide +kernel
theorem dJ8_init_2_55 : decode cJ8_init_2 55 = .ok (.aload_n 0, 1) := by decide +kernel
theorem dJ8_init_2_56 : decode cJ8_init_2 56 = .ok (.aconst_null, 1) := by decide +kernel
theorem dJ8_init_2_57 : decode cJ8_init_2 57 = .ok (.putfield 24, 3) := by decide +kernel
theorem dJ8_init_2_60 : decode cJ8_init_2 60 = .ok (.return_, 1) := by decide +kernel
theorem q109 : (Jvm.Cond.initialized "java/lang/Throwable") ∈ lw_all := lw_g (lw_at lw_m1 24 rfl) rfl
theorem q776 : (Jvm.Cond.declares ({ cls := "java/lang/Throwable", name := "<init>", desc := "()V" } : Jvm.MethodName)) ∈ lw_tbl := lw_at lw_m3 211 rfl
theorem q777 : (Jvm.Cond.declares ({ cls := "java/lang/Throwable", name := "<init>", desc := "(Ljava/lang/String;)V" } : Jvm.MethodName)) ∈ lw_tbl := lw_at lw_m3 212 rfl
theorem q781 : (Jvm.Cond.lays "java/lang/Throwable" "java/lang/Throwable" "cause" "Ljava/lang/Throwable;") ∈ lw_all := lw_g (lw_at lw_m3 216 rfl) rfl
theorem q783 : (Jvm.Cond.lays "java/lang/Throwable" "java/lang/Throwable" "stackTrace" "[Ljava/lang/StackTraceElement;") ∈ lw_all := lw_g (lw_at lw_m3 218 rfl) rfl
theorem q785 : (Jvm.Cond.lays "java/lang/Throwable" "java/lang/Throwable" "suppressedExceptions" "Ljava/util/List;") ∈ lw_all := lw_g (lw_at lw_m3 220 rfl) rfl
theorem q787 : (Jvm.Cond.lays "java/lang/Throwable" "java/lang/Throwable" "detailMessage" "Ljava/lang/String;") ∈ lw_all := lw_g (lw_at lw_m3 222 rfl) rfl
theorem q789 : (Jvm.Cond.lays "java/lang/Throwable" "java/lang/Throwable" "backtrace" "Ljava/lang/Object;") ∈ lw_all := lw_g (lw_at lw_m3 224 rfl) rfl
theorem q790 : (Jvm.Cond.fieldLink "java/lang/Throwable" (198 : Nat) "java/lang/Throwable" "backtrace" "Ljava/lang/Object;") ∈ lw_all := lw_g (lw_at lw_m3 225 rfl) rfl
theorem q791 : (Jvm.Cond.superclass "java/lang/Throwable" "java/lang/Object") ∈ lw_all := lw_g (lw_at lw_m3 226 rfl) rfl
theorem q792 : (Jvm.Cond.instanceMethod ({ cls := "java/lang/Throwable", name := "<init>", desc := "()V" } : Jvm.MethodName)) ∈ lw_all := lw_g (lw_at lw_m3 227 rfl) rfl
theorem q793 : (Jvm.Cond.code ({ cls := "java/lang/Throwable", name := "<init>", desc := "()V" } : Jvm.MethodName) prog_35_method_1_code (1 : Nat) (Option.none : Option Jvm.ClassFile.FieldType)) ∈ lw_all := lw_g (lw_at lw_m3 228 rfl) rfl
theorem q794 : (Jvm.Cond.methodLink "java/lang/Throwable" (1 : Nat) ({ cls := "java/lang/Object", name := "<init>", desc := "()V" } : Jvm.MethodName)) ∈ lw_all := lw_g (lw_at lw_m3 229 rfl) rfl
theorem q795 : (Jvm.Cond.fieldLink "java/lang/Throwable" (13 : Nat) "java/lang/Throwable" "UNASSIGNED_STACK" "[Ljava/lang/StackTraceElement;") ∈ lw_all := lw_g (lw_at lw_m3 230 rfl) rfl
theorem q796 : (Jvm.Cond.laysStatic "java/lang/Throwable" "UNASSIGNED_STACK" "[Ljava/lang/StackTraceElement;") ∈ lw_tbl := lw_at lw_m3 231 rfl
theorem q797 : (Jvm.Cond.fieldLink "java/lang/Throwable" (20 : Nat) "java/lang/Throwable" "SUPPRESSED_SENTINEL" "Ljava/util/List;") ∈ lw_all := lw_g (lw_at lw_m3 232 rfl) rfl
theorem q798 : (Jvm.Cond.laysStatic "java/lang/Throwable" "SUPPRESSED_SENTINEL" "Ljava/util/List;") ∈ lw_tbl := lw_at lw_m3 233 rfl
theorem q799 : (Jvm.Cond.methodLink "java/lang/Throwable" (27 : Nat) ({ cls := "java/lang/Throwable", name := "fillInStackTrace", desc := "()Ljava/lang/Throwable;" } : Jvm.MethodName)) ∈ lw_all := lw_g (lw_at lw_m3 234 rfl) rfl
theorem q800 : (Jvm.Cond.instanceMethod ({ cls := "java/lang/Throwable", name := "fillInStackTrace", desc := "()Ljava/lang/Throwable;" } : Jvm.MethodName)) ∈ lw_all := lw_g (lw_at lw_m3 235 rfl) rfl
theorem q801 : (Jvm.Cond.sameMethod "java/lang/Throwable" "java/lang/Throwable" "fillInStackTrace" "()Ljava/lang/Throwable;") ∈ lw_all := lw_g (lw_at lw_m3 236 rfl) rfl
theorem q802 : (Jvm.Cond.codeSync ({ cls := "java/lang/Throwable", name := "fillInStackTrace", desc := "()Ljava/lang/Throwable;" } : Jvm.MethodName) prog_35_method_18_code (1 : Nat) (Option.some (Jvm.ClassFile.FieldType.object "java/lang/Throwable"))) ∈ lw_all := lw_g (lw_at lw_m3 237 rfl) rfl
theorem q803 : (Jvm.Cond.methodLink "java/lang/Throwable" (202 : Nat) ({ cls := "java/lang/Throwable", name := "fillInStackTrace", desc := "(I)Ljava/lang/Throwable;" } : Jvm.MethodName)) ∈ lw_all := lw_g (lw_at lw_m3 238 rfl) rfl
theorem q804 : (Jvm.Cond.privateMethod ({ cls := "java/lang/Throwable", name := "fillInStackTrace", desc := "(I)Ljava/lang/Throwable;" } : Jvm.MethodName)) ∈ lw_tbl := lw_at lw_m3 239 rfl
theorem q805 : (Jvm.Cond.instanceMethod ({ cls := "java/lang/Throwable", name := "fillInStackTrace", desc := "(I)Ljava/lang/Throwable;" } : Jvm.MethodName)) ∈ lw_all := lw_g (lw_at lw_m4 0 rfl) rfl
theorem q806 : (Jvm.Cond.instantiable "java/lang/Throwable" (6 : Nat)) ∈ lw_all := lw_g (lw_at lw_m4 1 rfl) rfl
theorem q807 : (Jvm.Cond.native ({ cls := "java/lang/Throwable", name := "fillInStackTrace", desc := "(I)Ljava/lang/Throwable;" } : Jvm.MethodName)) ∈ lw_all := lw_g (lw_at lw_m4 2 rfl) rfl
theorem q815 : (Jvm.Cond.instanceMethod ({ cls := "java/lang/Throwable", name := "<init>", desc := "(Ljava/lang/String;Ljava/lang/Throwable;ZZ)V" } : Jvm.MethodName)) ∈ lw_all := lw_g (lw_at lw_m4 10 rfl) rfl
theorem q816 : (Jvm.Cond.code ({ cls := "java/lang/Throwable", name := "<init>", desc := "(Ljava/lang/String;Ljava/lang/Throwable;ZZ)V" } : Jvm.MethodName) prog_35_method_5_code (5 : Nat) (Option.none : Option Jvm.ClassFile.FieldType)) ∈ lw_all := lw_g (lw_at lw_m4 11 rfl) rfl
theorem q819 : (Jvm.Cond.fieldLink "java/lang/Throwable" (198 : Nat) "java/lang/Throwable" "backtrace" "Ljava/lang/Object;") ∈ lw_all := lw_g (lw_at lw_m4 14 rfl) rfl
theorem q820 : (Jvm.Cond.fieldLink "java/lang/Throwable" (31 : Nat) "java/lang/Throwable" "detailMessage" "Ljava/lang/String;") ∈ lw_all := lw_g (lw_at lw_m4 15 rfl) rfl
theorem q821 : (Jvm.Cond.fieldLink "java/lang/Throwable" (7 : Nat) "java/lang/Throwable" "cause" "Ljava/lang/Throwable;") ∈ lw_all := lw_g (lw_at lw_m4 16 rfl) rfl
theorem q822 : (Jvm.Cond.fieldLink "java/lang/Throwable" (17 : Nat) "java/lang/Throwable" "stackTrace" "[Ljava/lang/StackTraceElement;") ∈ lw_all := lw_g (lw_at lw_m4 17 rfl) rfl
theorem q823 : (Jvm.Cond.fieldLink "java/lang/Throwable" (24 : Nat) "java/lang/Throwable" "suppressedExceptions" "Ljava/util/List;") ∈ lw_all := lw_g (lw_at lw_m4 18 rfl) rfl
theorem q826 : (Jvm.Cond.soleField "java/lang/Throwable" "backtrace") ∈ lw_all := lw_g (lw_at lw_m4 21 rfl) rfl
theorem q827 : (Jvm.Cond.soleField "java/lang/Throwable" "detailMessage") ∈ lw_all := lw_g (lw_at lw_m4 22 rfl) rfl
theorem q828 : (Jvm.Cond.soleField "java/lang/Throwable" "cause") ∈ lw_all := lw_g (lw_at lw_m4 23 rfl) rfl
theorem q829 : (Jvm.Cond.soleField "java/lang/Throwable" "stackTrace") ∈ lw_all := lw_g (lw_at lw_m4 24 rfl) rfl
theorem q831 : (Jvm.Cond.soleField "java/lang/Throwable" "depth") ∈ lw_all := lw_g (lw_at lw_m4 26 rfl) rfl
theorem q832 : (Jvm.Cond.soleField "java/lang/Throwable" "suppressedExceptions") ∈ lw_all := lw_g (lw_at lw_m4 27 rfl) rfl
theorem q1868 : (Jvm.Cond.sameMethod "java/lang/Throwable" "java/lang/Throwable" "fillInStackTrace" "(I)Ljava/lang/Throwable;") ∈ lw_all := lw_g (lw_at lw_m8 103 rfl) rfl
theorem q1893 : (Jvm.Cond.castable "java/lang/Throwable" "java/lang/Object") ∈ lw_tbl := lw_at lw_m8 128 rfl
theorem in_J8 : ∀ w ∈ wsJ80, w ∈ lw_all := lw_in wsJ80 [781, 783, 785, 787, 789] (by decide +kernel) (by decide +kernel)
/-! java/lang/Exception -/
def RJ9 : String := "java/lang/Exception"
abbrev cJ9_init : ByteArray := prog_27_method_5_code
def yJ9_init : MethodName := ⟨RJ9, "<init>", "(Ljava/lang/String;Ljava/lang/Throwable;ZZ)V"⟩
theorem dJ9_init_0 : decode cJ9_init 0 = .ok (.aload_n 0, 1) := by decide +kernel
theorem dJ9_init_1 : decode cJ9_init 1 = .ok (.aload_n 1, 1) := by decide +kernel
theorem dJ9_init_2 : decode cJ9_init 2 = .ok (.aload_n 2, 1) := by decide +kernel
theorem dJ9_init_3 : decode cJ9_init 3 = .ok (.iload_n 3, 1) := by decide +kernel
theorem dJ9_init_4 : decode cJ9_init 4 = .ok (.iload 4, 2) := by decide +kernel
theorem dJ9_init_6 : decode cJ9_init 6 = .ok (.invokespecial 16, 3) := by decide +kernel
theorem dJ9_init_9 : decode cJ9_init 9 = .ok (.return_, 1) := by decide +kernel
theorem q110 : (Jvm.Cond.initialized "java/lang/Exception") ∈ lw_all := lw_g (lw_at lw_m1 25 rfl) rfl
theorem q774 : (Jvm.Cond.declares ({ cls := "java/lang/Exception", name := "<init>", desc := "()V" } : Jvm.MethodName)) ∈ lw_tbl := lw_at lw_m3 209 rfl
theorem q775 : (Jvm.Cond.declares ({ cls := "java/lang/Exception", name := "<init>", desc := "(Ljava/lang/String;)V" } : Jvm.MethodName)) ∈ lw_tbl := lw_at lw_m3 210 rfl
theorem q812 : (Jvm.Cond.instanceMethod ({ cls := "java/lang/Exception", name := "<init>", desc := "(Ljava/lang/String;Ljava/lang/Throwable;ZZ)V" } : Jvm.MethodName)) ∈ lw_all := lw_g (lw_at lw_m4 7 rfl) rfl
theorem q813 : (Jvm.Cond.code ({ cls := "java/lang/Exception", name := "<init>", desc := "(Ljava/lang/String;Ljava/lang/Throwable;ZZ)V" } : Jvm.MethodName) prog_27_method_5_code (5 : Nat) (Option.none : Option Jvm.ClassFile.FieldType)) ∈ lw_all := lw_g (lw_at lw_m4 8 rfl) rfl
theorem q814 : (Jvm.Cond.methodLink "java/lang/Exception" (16 : Nat) ({ cls := "java/lang/Throwable", name := "<init>", desc := "(Ljava/lang/String;Ljava/lang/Throwable;ZZ)V" } : Jvm.MethodName)) ∈ lw_all := lw_g (lw_at lw_m4 9 rfl) rfl
/-! java/lang/String -/
def RJ10 : String := "java/lang/String"
abbrev cJ10_length : ByteArray := prog_31_method_54_code
def yJ10_length : MethodName := ⟨RJ10, "length", "()I"⟩
theorem dJ10_length_0 : decode cJ10_length 0 = .ok (.aload_n 0, 1) := by decide +kernel
theorem dJ10_length_1 : decode cJ10_length 1 = .ok (.getfield 9, 3) := by decide +kernel
theorem dJ10_length_4 : decode cJ10_length 4 = .ok (.arraylength, 1) := by decide +kernel
theorem dJ10_length_5 : decode cJ10_length 5 = .ok (.aload_n 0, 1) := by decide +kernel
theorem dJ10_length_6 : decode cJ10_length 6 = .ok (.invokevirtual 335, 3) := by decide +kernel
theorem dJ10_length_9 : decode cJ10_length 9 = .ok (.ishr, 1) := by decide +kernel
theorem dJ10_length_10 : decode cJ10_length 10 = .ok (.ireturn, 1) := by decide +kernel
abbrev cJ10_coder : ByteArray := prog_31_method_152_code
def yJ10_coder : MethodName := ⟨RJ10, "coder", "()B"⟩
theorem dJ10_coder_0 : decode cJ10_coder 0 = .ok (.getstatic 38, 3) := by decide +kernel
theorem dJ10_coder_3 : decode cJ10_coder 3 = .ok (.ifCond .eq 10, 3) := by decide +kernel
theorem dJ10_coder_6 : decode cJ10_coder 6 = .ok (.aload_n 0, 1) := by decide +kernel
theorem dJ10_coder_7 : decode cJ10_coder 7 = .ok (.getfield 15, 3) := by decide +kernel
theorem dJ10_coder_10 : decode cJ10_coder 10 = .ok (.goto 4, 3) := by decide +kernel
theorem dJ10_coder_13 : decode cJ10_coder 13 = .ok (.iconst 1, 1) := by decide +kernel
theorem dJ10_coder_14 : decode cJ10_coder 14 = .ok (.ireturn, 1) := by decide +kernel
abbrev cJ10_charAt : ByteArray := prog_31_method_56_code
def yJ10_charAt : MethodName := ⟨RJ10, "charAt", "(I)C"⟩
theorem dJ10_charAt_0 : decode cJ10_charAt 0 = .ok (.aload_n 0, 1) := by decide +kernel
theorem dJ10_charAt_1 : decode cJ10_charAt 1 = .ok (.invokevirtual 492, 3) := by decide +kernel
theorem dJ10_charAt_4 : decode cJ10_charAt 4 = .ok (.ifCond .eq 12, 3) := by decide +kernel
theorem dJ10_charAt_7 : decode cJ10_charAt 7 = .ok (.aload_n 0, 1) := by decide +kernel
theorem dJ10_charAt_8 : decode cJ10_charAt 8 = .ok (.getfield 9, 3) := by decide +kernel
theorem dJ10_charAt_11 : decode cJ10_charAt 11 = .ok (.iload_n 1, 1) := by decide +kernel
theorem dJ10_charAt_12 : decode cJ10_charAt 12 = .ok (.invokestatic 495, 3) := by decide +kernel
theorem dJ10_charAt_15 : decode cJ10_charAt 15 = .ok (.ireturn, 1) := by decide +kernel
theorem dJ10_charAt_16 : decode cJ10_charAt 16 = .ok (.aload_n 0, 1) := by decide +kernel
theorem dJ10_charAt_17 : decode cJ10_charAt 17 = .ok (.getfield 9, 3) := by decide +kernel
theorem dJ10_charAt_20 : decode cJ10_charAt 20 = .ok (.iload_n 1, 1) := by decide +kernel
theorem dJ10_charAt_21 : decode cJ10_charAt 21 = .ok (.invokestatic 498, 3) := by decide +kernel
theorem dJ10_charAt_24 : decode cJ10_charAt 24 = .ok (.ireturn, 1) := by decide +kernel
abbrev cJ10_isLatin1 : ByteArray := prog_31_method_154_code
def yJ10_isLatin1 : MethodName := ⟨RJ10, "isLatin1", "()Z"⟩
theorem dJ10_isLatin1_0 : decode cJ10_isLatin1 0 = .ok (.getstatic 38, 3) := by decide +kernel
theorem dJ10_isLatin1_3 : decode cJ10_isLatin1 3 = .ok (.ifCond .eq 14, 3) := by decide +kernel
theorem dJ10_isLatin1_6 : decode cJ10_isLatin1 6 = .ok (.aload_n 0, 1) := by decide +kernel
theorem dJ10_isLatin1_7 : decode cJ10_isLatin1 7 = .ok (.getfield 15, 3) := by decide +kernel
theorem dJ10_isLatin1_10 : decode cJ10_isLatin1 10 = .ok (.ifCond .ne 7, 3) := by decide +kernel
theorem dJ10_isLatin1_13 : decode cJ10_isLatin1 13 = .ok (.iconst 1, 1) := by decide +kernel
theorem dJ10_isLatin1_14 : decode cJ10_isLatin1 14 = .ok (.goto 4, 3) := by decide +kernel
theorem dJ10_isLatin1_17 : decode cJ10_isLatin1 17 = .ok (.iconst 0, 1) := by decide +kernel
theorem dJ10_isLatin1_18 : decode cJ10_isLatin1 18 = .ok (.ireturn, 1) := by decide +kernel
abbrev cJ10_checkIndex : ByteArray := prog_31_method_155_code
def yJ10_checkIndex : MethodName := ⟨RJ10, "checkIndex", "(II)V"⟩
theorem dJ10_checkIndex_0 : decode cJ10_checkIndex 0 = .ok (.iload_n 0, 1) := by decide +kernel
theorem dJ10_checkIndex_1 : decode cJ10_checkIndex 1 = .ok (.iload_n 1, 1) := by decide +kernel
theorem dJ10_checkIndex_2 : decode cJ10_checkIndex 2 = .ok (.getstatic 1053, 3) := by decide +kernel
theorem dJ10_checkIndex_5 : decode cJ10_checkIndex 5 = .ok (.invokestatic 1059, 3) := by decide +kernel
theorem dJ10_checkIndex_8 : decode cJ10_checkIndex 8 = .ok (.pop, 1) := by decide +kernel
theorem dJ10_checkIndex_9 : decode cJ10_checkIndex 9 = .ok (.return_, 1) := by decide +kernel
theorem q115 : (Jvm.Cond.initialized "java/lang/String") ∈ lw_all := lw_g (lw_at lw_m1 30 rfl) rfl
theorem q1576 : (Jvm.Cond.instanceMethod ({ cls := "java/lang/String", name := "length", desc := "()I" } : Jvm.MethodName)) ∈ lw_all := lw_g (lw_at lw_m7 51 rfl) rfl
theorem q1577 : (Jvm.Cond.selects "java/lang/String" ({ cls := "java/lang/String", name := "length", desc := "()I" } : Jvm.MethodName) ({ cls := "java/lang/String", name := "length", desc := "()I" } : Jvm.MethodName)) ∈ lw_all := lw_g (lw_at lw_m7 52 rfl) rfl
theorem q1578 : (Jvm.Cond.code ({ cls := "java/lang/String", name := "length", desc := "()I" } : Jvm.MethodName) prog_31_method_54_code (1 : Nat) (Option.some Jvm.ClassFile.FieldType.int)) ∈ lw_all := lw_g (lw_at lw_m7 53 rfl) rfl
theorem q1579 : (Jvm.Cond.methodLink "java/lang/String" (335 : Nat) ({ cls := "java/lang/String", name := "coder", desc := "()B" } : Jvm.MethodName)) ∈ lw_all := lw_g (lw_at lw_m7 54 rfl) rfl
theorem q1580 : (Jvm.Cond.instanceMethod ({ cls := "java/lang/String", name := "coder", desc := "()B" } : Jvm.MethodName)) ∈ lw_all := lw_g (lw_at lw_m7 55 rfl) rfl
theorem q1581 : (Jvm.Cond.selects "java/lang/String" ({ cls := "java/lang/String", name := "coder", desc := "()B" } : Jvm.MethodName) ({ cls := "java/lang/String", name := "coder", desc := "()B" } : Jvm.MethodName)) ∈ lw_all := lw_g (lw_at lw_m7 56 rfl) rfl
theorem q1582 : (Jvm.Cond.code ({ cls := "java/lang/String", name := "coder", desc := "()B" } : Jvm.MethodName) prog_31_method_152_code (1 : Nat) (Option.some Jvm.ClassFile.FieldType.byte)) ∈ lw_all := lw_g (lw_at lw_m7 57 rfl) rfl
theorem q1583 : (Jvm.Cond.fieldLink "java/lang/String" (38 : Nat) "java/lang/String" "COMPACT_STRINGS" "Z") ∈ lw_all := lw_g (lw_at lw_m7 58 rfl) rfl
theorem q1584 : (Jvm.Cond.laysStatic "java/lang/String" "COMPACT_STRINGS" "Z") ∈ lw_tbl := lw_at lw_m7 59 rfl
theorem q1586 : (Jvm.Cond.instanceMethod ({ cls := "java/lang/String", name := "charAt", desc := "(I)C" } : Jvm.MethodName)) ∈ lw_all := lw_g (lw_at lw_m7 61 rfl) rfl
theorem q1587 : (Jvm.Cond.selects "java/lang/String" ({ cls := "java/lang/String", name := "charAt", desc := "(I)C" } : Jvm.MethodName) ({ cls := "java/lang/String", name := "charAt", desc := "(I)C" } : Jvm.MethodName)) ∈ lw_all := lw_g (lw_at lw_m7 62 rfl) rfl
theorem q1588 : (Jvm.Cond.code ({ cls := "java/lang/String", name := "charAt", desc := "(I)C" } : Jvm.MethodName) prog_31_method_56_code (2 : Nat) (Option.some Jvm.ClassFile.FieldType.char)) ∈ lw_all := lw_g (lw_at lw_m7 63 rfl) rfl
theorem q1589 : (Jvm.Cond.methodLink "java/lang/String" (492 : Nat) ({ cls := "java/lang/String", name := "isLatin1", desc := "()Z" } : Jvm.MethodName)) ∈ lw_all := lw_g (lw_at lw_m7 64 rfl) rfl
theorem q1590 : (Jvm.Cond.instanceMethod ({ cls := "java/lang/String", name := "isLatin1", desc := "()Z" } : Jvm.MethodName)) ∈ lw_all := lw_g (lw_at lw_m7 65 rfl) rfl
theorem q1591 : (Jvm.Cond.selects "java/lang/String" ({ cls := "java/lang/String", name := "isLatin1", desc := "()Z" } : Jvm.MethodName) ({ cls := "java/lang/String", name := "isLatin1", desc := "()Z" } : Jvm.MethodName)) ∈ lw_all := lw_g (lw_at lw_m7 66 rfl) rfl
theorem q1592 : (Jvm.Cond.code ({ cls := "java/lang/String", name := "isLatin1", desc := "()Z" } : Jvm.MethodName) prog_31_method_154_code (1 : Nat) (Option.some Jvm.ClassFile.FieldType.boolean)) ∈ lw_all := lw_g (lw_at lw_m7 67 rfl) rfl
theorem q1593 : (Jvm.Cond.methodLink "java/lang/String" (495 : Nat) ({ cls := "java/lang/StringLatin1", name := "charAt", desc := "([BI)C" } : Jvm.MethodName)) ∈ lw_all := lw_g (lw_at lw_m7 68 rfl) rfl
theorem q1597 : (Jvm.Cond.static ({ cls := "java/lang/String", name := "checkIndex", desc := "(II)V" } : Jvm.MethodName)) ∈ lw_all := lw_g (lw_at lw_m7 72 rfl) rfl
theorem q1598 : (Jvm.Cond.code ({ cls := "java/lang/String", name := "checkIndex", desc := "(II)V" } : Jvm.MethodName) prog_31_method_155_code (2 : Nat) (Option.none : Option Jvm.ClassFile.FieldType)) ∈ lw_all := lw_g (lw_at lw_m7 73 rfl) rfl
theorem q1599 : (Jvm.Cond.fieldLink "java/lang/String" (1053 : Nat) "jdk/internal/util/Preconditions" "SIOOBE_FORMATTER" "Ljava/util/function/BiFunction;") ∈ lw_all := lw_g (lw_at lw_m7 74 rfl) rfl
theorem q1601 : (Jvm.Cond.methodLink "java/lang/String" (1059 : Nat) ({ cls := "jdk/internal/util/Preconditions", name := "checkIndex", desc := "(IILjava/util/function/BiFunction;)I" } : Jvm.MethodName)) ∈ lw_all := lw_g (lw_at lw_m7 76 rfl) rfl
theorem q1602 : (Jvm.Cond.methodLink "java/lang/String" (498 : Nat) ({ cls := "java/lang/StringUTF16", name := "charAt", desc := "([BI)C" } : Jvm.MethodName)) ∈ lw_all := lw_g (lw_at lw_m7 77 rfl) rfl
theorem q1894 : (Jvm.Cond.castable "java/lang/String" "java/lang/Object") ∈ lw_tbl := lw_at lw_m8 129 rfl
theorem q1914 : (Jvm.Cond.fieldLink "java/lang/String" (9 : Nat) "java/lang/String" "value" "[B") ∈ lw_all := lw_g (lw_at lw_m8 149 rfl) rfl
theorem q1915 : (Jvm.Cond.fieldLink "java/lang/String" (15 : Nat) "java/lang/String" "coder" "B") ∈ lw_all := lw_g (lw_at lw_m8 150 rfl) rfl
/-! java/lang/StringLatin1 -/
def RJ11 : String := "java/lang/StringLatin1"
abbrev cJ11_charAt : ByteArray := prog_32_method_2_code
def yJ11_charAt : MethodName := ⟨RJ11, "charAt", "([BI)C"⟩
theorem dJ11_charAt_0 : decode cJ11_charAt 0 = .ok (.iload_n 1, 1) := by decide +kernel
theorem dJ11_charAt_1 : decode cJ11_charAt 1 = .ok (.aload_n 0, 1) := by decide +kernel
theorem dJ11_charAt_2 : decode cJ11_charAt 2 = .ok (.arraylength, 1) := by decide +kernel
theorem dJ11_charAt_3 : decode cJ11_charAt 3 = .ok (.invokestatic 9, 3) := by decide +kernel
theorem dJ11_charAt_6 : decode cJ11_charAt 6 = .ok (.aload_n 0, 1) := by decide +kernel
theorem dJ11_charAt_7 : decode cJ11_charAt 7 = .ok (.iload_n 1, 1) := by decide +kernel
theorem dJ11_charAt_8 : decode cJ11_charAt 8 = .ok (.baload, 1) := by decide +kernel
theorem dJ11_charAt_9 : decode cJ11_charAt 9 = .ok (.sipush 255, 3) := by decide +kernel
theorem dJ11_charAt_12 : decode cJ11_charAt 12 = .ok (.iand, 1) := by decide +kernel
theorem dJ11_charAt_13 : decode cJ11_charAt 13 = .ok (.i2c, 1) := by decide +kernel
theorem dJ11_charAt_14 : decode cJ11_charAt 14 = .ok (.ireturn, 1) := by decide +kernel
theorem q116 : (Jvm.Cond.initialized "java/lang/StringLatin1") ∈ lw_all := lw_g (lw_at lw_m1 31 rfl) rfl
theorem q1594 : (Jvm.Cond.static ({ cls := "java/lang/StringLatin1", name := "charAt", desc := "([BI)C" } : Jvm.MethodName)) ∈ lw_all := lw_g (lw_at lw_m7 69 rfl) rfl
theorem q1595 : (Jvm.Cond.code ({ cls := "java/lang/StringLatin1", name := "charAt", desc := "([BI)C" } : Jvm.MethodName) prog_32_method_2_code (2 : Nat) (Option.some Jvm.ClassFile.FieldType.char)) ∈ lw_all := lw_g (lw_at lw_m7 70 rfl) rfl
theorem q1596 : (Jvm.Cond.methodLink "java/lang/StringLatin1" (9 : Nat) ({ cls := "java/lang/String", name := "checkIndex", desc := "(II)V" } : Jvm.MethodName)) ∈ lw_all := lw_g (lw_at lw_m7 71 rfl) rfl
/-! java/lang/StringUTF16 -/
def RJ12 : String := "java/lang/StringUTF16"
abbrev cJ12_charAt : ByteArray := prog_33_method_83_code
def yJ12_charAt : MethodName := ⟨RJ12, "charAt", "([BI)C"⟩
theorem dJ12_charAt_0 : decode cJ12_charAt 0 = .ok (.iload_n 1, 1) := by decide +kernel
theorem dJ12_charAt_1 : decode cJ12_charAt 1 = .ok (.aload_n 0, 1) := by decide +kernel
theorem dJ12_charAt_2 : decode cJ12_charAt 2 = .ok (.invokestatic 67, 3) := by decide +kernel
theorem dJ12_charAt_5 : decode cJ12_charAt 5 = .ok (.aload_n 0, 1) := by decide +kernel
theorem dJ12_charAt_6 : decode cJ12_charAt 6 = .ok (.iload_n 1, 1) := by decide +kernel
theorem dJ12_charAt_7 : decode cJ12_charAt 7 = .ok (.invokestatic 71, 3) := by decide +kernel
theorem dJ12_charAt_10 : decode cJ12_charAt 10 = .ok (.ireturn, 1) := by decide +kernel
abbrev cJ12_checkIndex : ByteArray := prog_33_method_91_code
def yJ12_checkIndex : MethodName := ⟨RJ12, "checkIndex", "(I[B)V"⟩
theorem dJ12_checkIndex_0 : decode cJ12_checkIndex 0 = .ok (.iload_n 0, 1) := by decide +kernel
theorem dJ12_checkIndex_1 : decode cJ12_checkIndex 1 = .ok (.aload_n 1, 1) := by decide +kernel
theorem dJ12_checkIndex_2 : decode cJ12_checkIndex 2 = .ok (.invokestatic 48, 3) := by decide +kernel
theorem dJ12_checkIndex_5 : decode cJ12_checkIndex 5 = .ok (.invokestatic 414, 3) := by decide +kernel
theorem dJ12_checkIndex_8 : decode cJ12_checkIndex 8 = .ok (.return_, 1) := by decide +kernel
abbrev cJ12_length : ByteArray := prog_33_method_6_code
def yJ12_length : MethodName := ⟨RJ12, "length", "([B)I"⟩
theorem dJ12_length_0 : decode cJ12_length 0 = .ok (.aload_n 0, 1) := by decide +kernel
theorem dJ12_length_1 : decode cJ12_length 1 = .ok (.arraylength, 1) := by decide +kernel
theorem dJ12_length_2 : decode cJ12_length 2 = .ok (.iconst 1, 1) := by decide +kernel
theorem dJ12_length_3 : decode cJ12_length 3 = .ok (.ishr, 1) := by decide +kernel
theorem dJ12_length_4 : decode cJ12_length 4 = .ok (.ireturn, 1) := by decide +kernel
abbrev cJ12_getChar : ByteArray := prog_33_method_5_code
def yJ12_getChar : MethodName := ⟨RJ12, "getChar", "([BI)C"⟩
theorem dJ12_getChar_0 : decode cJ12_getChar 0 = .ok (.getstatic 44, 3) := by decide +kernel
theorem dJ12_getChar_3 : decode cJ12_getChar 3 = .ok (.ifCond .ne 25, 3) := by decide +kernel
theorem dJ12_getChar_6 : decode cJ12_getChar 6 = .ok (.iload_n 1, 1) := by decide +kernel
theorem dJ12_getChar_7 : decode cJ12_getChar 7 = .ok (.ifCond .lt 11, 3) := by decide +kernel
theorem dJ12_getChar_10 : decode cJ12_getChar 10 = .ok (.iload_n 1, 1) := by decide +kernel
theorem dJ12_getChar_11 : decode cJ12_getChar 11 = .ok (.aload_n 0, 1) := by decide +kernel
theorem dJ12_getChar_12 : decode cJ12_getChar 12 = .ok (.invokestatic 48, 3) := by decide +kernel
theorem dJ12_getChar_15 : decode cJ12_getChar 15 = .ok (.if_icmp .lt 13, 3) := by decide +kernel
theorem dJ12_getChar_18 : decode cJ12_getChar 18 = .ok (.new 52, 3) := by decide +kernel
theorem dJ12_getChar_21 : decode cJ12_getChar 21 = .ok (.dup, 1) := by decide +kernel
theorem dJ12_getChar_22 : decode cJ12_getChar 22 = .ok (.ldc 54, 2) := by decide +kernel
theorem dJ12_getChar_24 : decode cJ12_getChar 24 = .ok (.invokespecial 56, 3) := by decide +kernel
theorem dJ12_getChar_27 : decode cJ12_getChar 27 = .ok (.athrow, 1) := by decide +kernel
theorem dJ12_getChar_28 : decode cJ12_getChar 28 = .ok (.iload_n 1, 1) := by decide +kernel
theorem dJ12_getChar_29 : decode cJ12_getChar 29 = .ok (.iconst 1, 1) := by decide +kernel
theorem dJ12_getChar_30 : decode cJ12_getChar 30 = .ok (.ishl, 1) := by decide +kernel
theorem dJ12_getChar_31 : decode cJ12_getChar 31 = .ok (.istore_n 1, 1) := by decide +kernel
theorem dJ12_getChar_32 : decode cJ12_getChar 32 = .ok (.aload_n 0, 1) := by decide +kernel
theorem dJ12_getChar_33 : decode cJ12_getChar 33 = .ok (.iload_n 1, 1) := by decide +kernel
theorem dJ12_getChar_34 : decode cJ12_getChar 34 = .ok (.iinc 1 1, 3) := by decide +kernel
theorem dJ12_getChar_37 : decode cJ12_getChar 37 = .ok (.baload, 1) := by decide +kernel
theorem dJ12_getChar_38 : decode cJ12_getChar 38 = .ok (.sipush 255, 3) := by decide +kernel
theorem dJ12_getChar_41 : decode cJ12_getChar 41 = .ok (.iand, 1) := by decide +kernel
theorem dJ12_getChar_42 : decode cJ12_getChar 42 = .ok (.getstatic 59, 3) := by decide +kernel
theorem dJ12_getChar_45 : decode cJ12_getChar 45 = .ok (.ishl, 1) := by decide +kernel
theorem dJ12_getChar_46 : decode cJ12_getChar 46 = .ok (.aload_n 0, 1) := by decide +kernel
theorem dJ12_getChar_47 : decode cJ12_getChar 47 = .ok (.iload_n 1, 1) := by decide +kernel
theorem dJ12_getChar_48 : decode cJ12_getChar 48 = .ok (.baload, 1) := by decide +kernel
theorem dJ12_getChar_49 : decode cJ12_getChar 49 = .ok (.sipush 255, 3) := by decide +kernel
theorem dJ12_getChar_52 : decode cJ12_getChar 52 = .ok (.iand, 1) := by decide +kernel
theorem dJ12_getChar_53 : decode cJ12_getChar 53 = .ok (.getstatic 63, 3) := by decide +kernel
theorem dJ12_getChar_56 : decode cJ12_getChar 56 = .ok (.ishl, 1) := by decide +kernel
theorem dJ12_getChar_57 : decode cJ12_getChar 57 = .ok (.ior, 1) := by decide +kernel
theorem dJ12_getChar_58 : decode cJ12_getChar 58 = .ok (.i2c, 1) := by decide +kernel
theorem dJ12_getChar_59 : decode cJ12_getChar 59 = .ok (.ireturn, 1) := by decide +kernel
theorem q117 : (Jvm.Cond.initialized "java/lang/StringUTF16") ∈ lw_all := lw_g (lw_at lw_m1 32 rfl) rfl
theorem q1603 : (Jvm.Cond.static ({ cls := "java/lang/StringUTF16", name := "charAt", desc := "([BI)C" } : Jvm.MethodName)) ∈ lw_all := lw_g (lw_at lw_m7 78 rfl) rfl
theorem q1604 : (Jvm.Cond.code ({ cls := "java/lang/StringUTF16", name := "charAt", desc := "([BI)C" } : Jvm.MethodName) prog_33_method_83_code (2 : Nat) (Option.some Jvm.ClassFile.FieldType.char)) ∈ lw_all := lw_g (lw_at lw_m7 79 rfl) rfl
theorem q1605 : (Jvm.Cond.methodLink "java/lang/StringUTF16" (67 : Nat) ({ cls := "java/lang/StringUTF16", name := "checkIndex", desc := "(I[B)V" } : Jvm.MethodName)) ∈ lw_all := lw_g (lw_at lw_m7 80 rfl) rfl
theorem q1606 : (Jvm.Cond.static ({ cls := "java/lang/StringUTF16", name := "checkIndex", desc := "(I[B)V" } : Jvm.MethodName)) ∈ lw_all := lw_g (lw_at lw_m7 81 rfl) rfl
theorem q1607 : (Jvm.Cond.code ({ cls := "java/lang/StringUTF16", name := "checkIndex", desc := "(I[B)V" } : Jvm.MethodName) prog_33_method_91_code (2 : Nat) (Option.none : Option Jvm.ClassFile.FieldType)) ∈ lw_all := lw_g (lw_at lw_m7 82 rfl) rfl
theorem q1608 : (Jvm.Cond.methodLink "java/lang/StringUTF16" (48 : Nat) ({ cls := "java/lang/StringUTF16", name := "length", desc := "([B)I" } : Jvm.MethodName)) ∈ lw_all := lw_g (lw_at lw_m7 83 rfl) rfl
theorem q1609 : (Jvm.Cond.static ({ cls := "java/lang/StringUTF16", name := "length", desc := "([B)I" } : Jvm.MethodName)) ∈ lw_all := lw_g (lw_at lw_m7 84 rfl) rfl
theorem q1610 : (Jvm.Cond.code ({ cls := "java/lang/StringUTF16", name := "length", desc := "([B)I" } : Jvm.MethodName) prog_33_method_6_code (1 : Nat) (Option.some Jvm.ClassFile.FieldType.int)) ∈ lw_all := lw_g (lw_at lw_m7 85 rfl) rfl
theorem q1611 : (Jvm.Cond.methodLink "java/lang/StringUTF16" (414 : Nat) ({ cls := "java/lang/String", name := "checkIndex", desc := "(II)V" } : Jvm.MethodName)) ∈ lw_all := lw_g (lw_at lw_m7 86 rfl) rfl
theorem q1612 : (Jvm.Cond.methodLink "java/lang/StringUTF16" (71 : Nat) ({ cls := "java/lang/StringUTF16", name := "getChar", desc := "([BI)C" } : Jvm.MethodName)) ∈ lw_all := lw_g (lw_at lw_m7 87 rfl) rfl
theorem q1613 : (Jvm.Cond.static ({ cls := "java/lang/StringUTF16", name := "getChar", desc := "([BI)C" } : Jvm.MethodName)) ∈ lw_all := lw_g (lw_at lw_m7 88 rfl) rfl
theorem q1614 : (Jvm.Cond.code ({ cls := "java/lang/StringUTF16", name := "getChar", desc := "([BI)C" } : Jvm.MethodName) prog_33_method_5_code (2 : Nat) (Option.some Jvm.ClassFile.FieldType.char)) ∈ lw_all := lw_g (lw_at lw_m7 89 rfl) rfl
theorem q1615 : (Jvm.Cond.fieldLink "java/lang/StringUTF16" (44 : Nat) "java/lang/StringUTF16" "$assertionsDisabled" "Z") ∈ lw_all := lw_g (lw_at lw_m7 90 rfl) rfl
theorem q1616 : (Jvm.Cond.laysStatic "java/lang/StringUTF16" "$assertionsDisabled" "Z") ∈ lw_tbl := lw_at lw_m7 91 rfl
theorem q1617 : (Jvm.Cond.fieldLink "java/lang/StringUTF16" (59 : Nat) "java/lang/StringUTF16" "HI_BYTE_SHIFT" "I") ∈ lw_all := lw_g (lw_at lw_m7 92 rfl) rfl
theorem q1618 : (Jvm.Cond.laysStatic "java/lang/StringUTF16" "HI_BYTE_SHIFT" "I") ∈ lw_tbl := lw_at lw_m7 93 rfl
theorem q1619 : (Jvm.Cond.fieldLink "java/lang/StringUTF16" (63 : Nat) "java/lang/StringUTF16" "LO_BYTE_SHIFT" "I") ∈ lw_all := lw_g (lw_at lw_m7 94 rfl) rfl
theorem q1620 : (Jvm.Cond.laysStatic "java/lang/StringUTF16" "LO_BYTE_SHIFT" "I") ∈ lw_tbl := lw_at lw_m7 95 rfl
/-! java/lang/Integer -/
def RJ13 : String := "java/lang/Integer"
abbrev cJ13_bitCount : ByteArray := prog_28_method_49_code
def yJ13_bitCount : MethodName := ⟨RJ13, "bitCount", "(I)I"⟩
theorem dJ13_bitCount_0 : decode cJ13_bitCount 0 = .ok (.iload_n 0, 1) := by decide +kernel
theorem dJ13_bitCount_1 : decode cJ13_bitCount 1 = .ok (.iload_n 0, 1) := by decide +kernel
theorem dJ13_bitCount_2 : decode cJ13_bitCount 2 = .ok (.iconst 1, 1) := by decide +kernel
theorem dJ13_bitCount_3 : decode cJ13_bitCount 3 = .ok (.iushr, 1) := by decide +kernel
theorem dJ13_bitCount_4 : decode cJ13_bitCount 4 = .ok (.ldc_w 265, 3) := by decide +kernel
theorem dJ13_bitCount_7 : decode cJ13_bitCount 7 = .ok (.iand, 1) := by decide +kernel
theorem dJ13_bitCount_8 : decode cJ13_bitCount 8 = .ok (.isub, 1) := by decide +kernel
theorem dJ13_bitCount_9 : decode cJ13_bitCount 9 = .ok (.istore_n 0, 1) := by decide +kernel
theorem dJ13_bitCount_10 : decode cJ13_bitCount 10 = .ok (.iload_n 0, 1) := by decide +kernel
theorem dJ13_bitCount_11 : decode cJ13_bitCount 11 = .ok (.ldc_w 266, 3) := by decide +kernel
theorem dJ13_bitCount_14 : decode cJ13_bitCount 14 = .ok (.iand, 1) := by decide +kernel
theorem dJ13_bitCount_15 : decode cJ13_bitCount 15 = .ok (.iload_n 0, 1) := by decide +kernel
theorem dJ13_bitCount_16 : decode cJ13_bitCount 16 = .ok (.iconst 2, 1) := by decide +kernel
theorem dJ13_bitCount_17 : decode cJ13_bitCount 17 = .ok (.iushr, 1) := by decide +kernel
theorem dJ13_bitCount_18 : decode cJ13_bitCount 18 = .ok (.ldc_w 266, 3) := by decide +kernel
theorem dJ13_bitCount_21 : decode cJ13_bitCount 21 = .ok (.iand, 1) := by decide +kernel
theorem dJ13_bitCount_22 : decode cJ13_bitCount 22 = .ok (.iadd, 1) := by decide +kernel
theorem dJ13_bitCount_23 : decode cJ13_bitCount 23 = .ok (.istore_n 0, 1) := by decide +kernel
theorem dJ13_bitCount_24 : decode cJ13_bitCount 24 = .ok (.iload_n 0, 1) := by decide +kernel
theorem dJ13_bitCount_25 : decode cJ13_bitCount 25 = .ok (.iload_n 0, 1) := by decide +kernel
theorem dJ13_bitCount_26 : decode cJ13_bitCount 26 = .ok (.iconst 4, 1) := by decide +kernel
theorem dJ13_bitCount_27 : decode cJ13_bitCount 27 = .ok (.iushr, 1) := by decide +kernel
theorem dJ13_bitCount_28 : decode cJ13_bitCount 28 = .ok (.iadd, 1) := by decide +kernel
theorem dJ13_bitCount_29 : decode cJ13_bitCount 29 = .ok (.ldc_w 267, 3) := by decide +kernel
theorem dJ13_bitCount_32 : decode cJ13_bitCount 32 = .ok (.iand, 1) := by decide +kernel
theorem dJ13_bitCount_33 : decode cJ13_bitCount 33 = .ok (.istore_n 0, 1) := by decide +kernel
theorem dJ13_bitCount_34 : decode cJ13_bitCount 34 = .ok (.iload_n 0, 1) := by decide +kernel
theorem dJ13_bitCount_35 : decode cJ13_bitCount 35 = .ok (.iload_n 0, 1) := by decide +kernel
theorem dJ13_bitCount_36 : decode cJ13_bitCount 36 = .ok (.bipush 8, 2) := by decide +kernel
theorem dJ13_bitCount_38 : decode cJ13_bitCount 38 = .ok (.iushr, 1) := by decide +kernel
theorem dJ13_bitCount_39 : decode cJ13_bitCount 39 = .ok (.iadd, 1) := by decide +kernel
theorem dJ13_bitCount_40 : decode cJ13_bitCount 40 = .ok (.istore_n 0, 1) := by decide +kernel
theorem dJ13_bitCount_41 : decode cJ13_bitCount 41 = .ok (.iload_n 0, 1) := by decide +kernel
theorem dJ13_bitCount_42 : decode cJ13_bitCount 42 = .ok (.iload_n 0, 1) := by decide +kernel
theorem dJ13_bitCount_43 : decode cJ13_bitCount 43 = .ok (.bipush 16, 2) := by decide +kernel
theorem dJ13_bitCount_45 : decode cJ13_bitCount 45 = .ok (.iushr, 1) := by decide +kernel
theorem dJ13_bitCount_46 : decode cJ13_bitCount 46 = .ok (.iadd, 1) := by decide +kernel
theorem dJ13_bitCount_47 : decode cJ13_bitCount 47 = .ok (.istore_n 0, 1) := by decide +kernel
theorem dJ13_bitCount_48 : decode cJ13_bitCount 48 = .ok (.iload_n 0, 1) := by decide +kernel
theorem dJ13_bitCount_49 : decode cJ13_bitCount 49 = .ok (.bipush 63, 2) := by decide +kernel
theorem dJ13_bitCount_51 : decode cJ13_bitCount 51 = .ok (.iand, 1) := by decide +kernel
theorem dJ13_bitCount_52 : decode cJ13_bitCount 52 = .ok (.ireturn, 1) := by decide +kernel
theorem q118 : (Jvm.Cond.initialized "java/lang/Integer") ∈ lw_all := lw_g (lw_at lw_m1 33 rfl) rfl
theorem q1044 : (Jvm.Cond.static ({ cls := "java/lang/Integer", name := "bitCount", desc := "(I)I" } : Jvm.MethodName)) ∈ lw_all := lw_g (lw_at lw_m4 239 rfl) rfl
theorem q1045 : (Jvm.Cond.code ({ cls := "java/lang/Integer", name := "bitCount", desc := "(I)I" } : Jvm.MethodName) prog_28_method_49_code (1 : Nat) (Option.some Jvm.ClassFile.FieldType.int)) ∈ lw_all := lw_g (lw_at lw_m5 0 rfl) rfl
theorem q1046 : (Jvm.Cond.constant "java/lang/Integer" (265 : Nat) (1431655765 : Int32)) ∈ lw_all := lw_g (lw_at lw_m5 1 rfl) rfl
theorem q1047 : (Jvm.Cond.constant "java/lang/Integer" (266 : Nat) (858993459 : Int32)) ∈ lw_all := lw_g (lw_at lw_m5 2 rfl) rfl
theorem q1048 : (Jvm.Cond.constant "java/lang/Integer" (267 : Nat) (252645135 : Int32)) ∈ lw_all := lw_g (lw_at lw_m5 3 rfl) rfl
theorem q85 : (Jvm.Cond.initialized "ShellBeachLaw") ∈ lw_all := lw_g (lw_at lw_m1 0 rfl) rfl
theorem q121 : (Jvm.Cond.classLink "ShellBeachLaw" (7 : Nat) "ShellBeach") ∈ lw_all := lw_g (lw_at lw_m1 36 rfl) rfl
theorem q123 : (Jvm.Cond.methodLink "ShellBeachLaw" (9 : Nat) ({ cls := "ShellBeach", name := "<init>", desc := "()V" } : Jvm.MethodName)) ∈ lw_all := lw_g (lw_at lw_m1 38 rfl) rfl
theorem q304 : (Jvm.Cond.methodLink "ShellBeachLaw" (13 : Nat) ({ cls := "ShellBeach", name := "shell", desc := "(IIII)I" } : Jvm.MethodName)) ∈ lw_all := lw_g (lw_at lw_m1 219 rfl) rfl
theorem q425 : (Jvm.Cond.methodLink "ShellBeachLaw" (18 : Nat) ({ cls := "ShellBeach", name := "crab", desc := "(III)I" } : Jvm.MethodName)) ∈ lw_all := lw_g (lw_at lw_m2 100 rfl) rfl
theorem q618 : (Jvm.Cond.methodLink "ShellBeachLaw" (23 : Nat) ({ cls := "ShellBeach", name := "habit", desc := "(II)I" } : Jvm.MethodName)) ∈ lw_all := lw_g (lw_at lw_m3 53 rfl) rfl
theorem q631 : (Jvm.Cond.methodLink "ShellBeachLaw" (28 : Nat) ({ cls := "ShellBeach", name := "walk", desc := "(II)I" } : Jvm.MethodName)) ∈ lw_all := lw_g (lw_at lw_m3 66 rfl) rfl
theorem q635 : (Jvm.Cond.methodLink "ShellBeachLaw" (32 : Nat) ({ cls := "ShellBeach", name := "of", desc := "(II)I" } : Jvm.MethodName)) ∈ lw_all := lw_g (lw_at lw_m3 70 rfl) rfl
theorem q639 : (Jvm.Cond.methodLink "ShellBeachLaw" (36 : Nat) ({ cls := "ShellBeach", name := "about", desc := "(II)I" } : Jvm.MethodName)) ∈ lw_all := lw_g (lw_at lw_m3 74 rfl) rfl
theorem q694 : (Jvm.Cond.methodLink "ShellBeachLaw" (40 : Nat) ({ cls := "ShellBeach", name := "fit", desc := "(II)I" } : Jvm.MethodName)) ∈ lw_all := lw_g (lw_at lw_m3 129 rfl) rfl
theorem q699 : (Jvm.Cond.methodLink "ShellBeachLaw" (44 : Nat) ({ cls := "ShellBeach", name := "end", desc := "(II)I" } : Jvm.MethodName)) ∈ lw_all := lw_g (lw_at lw_m3 134 rfl) rfl
theorem q708 : (Jvm.Cond.methodLink "ShellBeachLaw" (48 : Nat) ({ cls := "ShellBeach", name := "eat", desc := "(I)I" } : Jvm.MethodName)) ∈ lw_all := lw_g (lw_at lw_m3 143 rfl) rfl
theorem q716 : (Jvm.Cond.methodLink "ShellBeachLaw" (55 : Nat) ({ cls := "ShellBeach", name := "feed", desc := "(JI)I" } : Jvm.MethodName)) ∈ lw_all := lw_g (lw_at lw_m3 151 rfl) rfl
theorem q720 : (Jvm.Cond.methodLink "ShellBeachLaw" (60 : Nat) ({ cls := "ShellBeach", name := "text", desc := "()I" } : Jvm.MethodName)) ∈ lw_all := lw_g (lw_at lw_m3 155 rfl) rfl
theorem q902 : (Jvm.Cond.methodLink "ShellBeachLaw" (65 : Nat) ({ cls := "ShellBeach", name := "holds", desc := "(IIIIIII)I" } : Jvm.MethodName)) ∈ lw_all := lw_g (lw_at lw_m4 97 rfl) rfl
theorem q953 : (Jvm.Cond.methodLink "ShellBeachLaw" (70 : Nat) ({ cls := "ShellBeach", name := "set", desc := "(II)I" } : Jvm.MethodName)) ∈ lw_all := lw_g (lw_at lw_m4 148 rfl) rfl
theorem q957 : (Jvm.Cond.methodLink "ShellBeachLaw" (74 : Nat) ({ cls := "ShellBeach", name := "tick", desc := "(I)I" } : Jvm.MethodName)) ∈ lw_all := lw_g (lw_at lw_m4 152 rfl) rfl
theorem q1003 : (Jvm.Cond.methodLink "ShellBeachLaw" (78 : Nat) ({ cls := "ShellBeach", name := "row", desc := "(II)I" } : Jvm.MethodName)) ∈ lw_all := lw_g (lw_at lw_m4 198 rfl) rfl
theorem q1007 : (Jvm.Cond.methodLink "ShellBeachLaw" (82 : Nat) ({ cls := "ShellBeach", name := "exchanges", desc := "(I)I" } : Jvm.MethodName)) ∈ lw_all := lw_g (lw_at lw_m4 202 rfl) rfl
theorem q1011 : (Jvm.Cond.methodLink "ShellBeachLaw" (86 : Nat) ({ cls := "ShellBeach", name := "points", desc := "()I" } : Jvm.MethodName)) ∈ lw_all := lw_g (lw_at lw_m4 206 rfl) rfl
theorem q1015 : (Jvm.Cond.methodLink "ShellBeachLaw" (90 : Nat) ({ cls := "ShellBeach", name := "chain", desc := "(II)I" } : Jvm.MethodName)) ∈ lw_all := lw_g (lw_at lw_m4 210 rfl) rfl
theorem q1023 : (Jvm.Cond.methodLink "ShellBeachLaw" (94 : Nat) ({ cls := "ShellBeach", name := "value", desc := "(I)I" } : Jvm.MethodName)) ∈ lw_all := lw_g (lw_at lw_m4 218 rfl) rfl
theorem q1031 : (Jvm.Cond.methodLink "ShellBeachLaw" (98 : Nat) ({ cls := "ShellBeach", name := "first", desc := "()I" } : Jvm.MethodName)) ∈ lw_all := lw_g (lw_at lw_m4 226 rfl) rfl
theorem q1035 : (Jvm.Cond.methodLink "ShellBeachLaw" (102 : Nat) ({ cls := "ShellBeach", name := "best", desc := "(II)I" } : Jvm.MethodName)) ∈ lw_all := lw_g (lw_at lw_m4 230 rfl) rfl
theorem q1066 : (Jvm.Cond.methodLink "ShellBeachLaw" (106 : Nat) ({ cls := "ShellBeach", name := "calm", desc := "(I)I" } : Jvm.MethodName)) ∈ lw_all := lw_g (lw_at lw_m5 21 rfl) rfl
theorem q1070 : (Jvm.Cond.methodLink "ShellBeachLaw" (110 : Nat) ({ cls := "ShellBeach", name := "pairs", desc := "()I" } : Jvm.MethodName)) ∈ lw_all := lw_g (lw_at lw_m5 25 rfl) rfl
theorem q1074 : (Jvm.Cond.methodLink "ShellBeachLaw" (114 : Nat) ({ cls := "ShellBeach", name := "film", desc := "(IIIIIII)I" } : Jvm.MethodName)) ∈ lw_all := lw_g (lw_at lw_m5 29 rfl) rfl
theorem q1106 : (Jvm.Cond.methodLink "ShellBeachLaw" (118 : Nat) ({ cls := "ShellBeach", name := "reads", desc := "(II)I" } : Jvm.MethodName)) ∈ lw_all := lw_g (lw_at lw_m5 61 rfl) rfl
theorem q1123 : (Jvm.Cond.methodLink "ShellBeachLaw" (122 : Nat) ({ cls := "ShellBeach", name := "sure", desc := "()I" } : Jvm.MethodName)) ∈ lw_all := lw_g (lw_at lw_m5 78 rfl) rfl
theorem q1127 : (Jvm.Cond.methodLink "ShellBeachLaw" (126 : Nat) ({ cls := "ShellBeach", name := "mend", desc := "(IIII)I" } : Jvm.MethodName)) ∈ lw_all := lw_g (lw_at lw_m5 82 rfl) rfl
theorem q1212 : (Jvm.Cond.methodLink "ShellBeachLaw" (130 : Nat) ({ cls := "ShellBeach", name := "act", desc := "(III)I" } : Jvm.MethodName)) ∈ lw_all := lw_g (lw_at lw_m5 167 rfl) rfl
theorem q1287 : (Jvm.Cond.methodLink "ShellBeachLaw" (134 : Nat) ({ cls := "ShellBeach", name := "trace", desc := "(I)I" } : Jvm.MethodName)) ∈ lw_all := lw_g (lw_at lw_m6 2 rfl) rfl
theorem q1291 : (Jvm.Cond.methodLink "ShellBeachLaw" (138 : Nat) ({ cls := "ShellBeach", name := "as", desc := "(II)I" } : Jvm.MethodName)) ∈ lw_all := lw_g (lw_at lw_m6 6 rfl) rfl
theorem q1324 : (Jvm.Cond.methodLink "ShellBeachLaw" (142 : Nat) ({ cls := "ShellBeach", name := "image", desc := "()I" } : Jvm.MethodName)) ∈ lw_all := lw_g (lw_at lw_m6 39 rfl) rfl
theorem q1328 : (Jvm.Cond.methodLink "ShellBeachLaw" (146 : Nat) ({ cls := "ShellBeach", name := "undo", desc := "()I" } : Jvm.MethodName)) ∈ lw_all := lw_g (lw_at lw_m6 43 rfl) rfl
theorem q1332 : (Jvm.Cond.methodLink "ShellBeachLaw" (150 : Nat) ({ cls := "ShellBeach", name := "count", desc := "(I)I" } : Jvm.MethodName)) ∈ lw_all := lw_g (lw_at lw_m6 47 rfl) rfl
theorem q1336 : (Jvm.Cond.classLink "ShellBeachLaw" (10 : Nat) "ShellBeachModel") ∈ lw_all := lw_g (lw_at lw_m6 51 rfl) rfl
theorem q1338 : (Jvm.Cond.methodLink "ShellBeachLaw" (12 : Nat) ({ cls := "ShellBeachModel", name := "<init>", desc := "()V" } : Jvm.MethodName)) ∈ lw_all := lw_g (lw_at lw_m6 53 rfl) rfl
theorem q1460 : (Jvm.Cond.methodLink "ShellBeachLaw" (17 : Nat) ({ cls := "ShellBeachModel", name := "shell", desc := "(IIII)I" } : Jvm.MethodName)) ∈ lw_all := lw_g (lw_at lw_m6 175 rfl) rfl
theorem q1470 : (Jvm.Cond.methodLink "ShellBeachLaw" (22 : Nat) ({ cls := "ShellBeachModel", name := "crab", desc := "(III)I" } : Jvm.MethodName)) ∈ lw_all := lw_g (lw_at lw_m6 185 rfl) rfl
theorem q1482 : (Jvm.Cond.methodLink "ShellBeachLaw" (27 : Nat) ({ cls := "ShellBeachModel", name := "habit", desc := "(II)I" } : Jvm.MethodName)) ∈ lw_all := lw_g (lw_at lw_m6 197 rfl) rfl
theorem q1494 : (Jvm.Cond.methodLink "ShellBeachLaw" (31 : Nat) ({ cls := "ShellBeachModel", name := "walk", desc := "(II)I" } : Jvm.MethodName)) ∈ lw_all := lw_g (lw_at lw_m6 209 rfl) rfl
theorem q1498 : (Jvm.Cond.methodLink "ShellBeachLaw" (35 : Nat) ({ cls := "ShellBeachModel", name := "of", desc := "(II)I" } : Jvm.MethodName)) ∈ lw_all := lw_g (lw_at lw_m6 213 rfl) rfl
theorem q1502 : (Jvm.Cond.methodLink "ShellBeachLaw" (39 : Nat) ({ cls := "ShellBeachModel", name := "about", desc := "(II)I" } : Jvm.MethodName)) ∈ lw_all := lw_g (lw_at lw_m6 217 rfl) rfl
theorem q1533 : (Jvm.Cond.methodLink "ShellBeachLaw" (43 : Nat) ({ cls := "ShellBeachModel", name := "fit", desc := "(II)I" } : Jvm.MethodName)) ∈ lw_all := lw_g (lw_at lw_m7 8 rfl) rfl
theorem q1537 : (Jvm.Cond.methodLink "ShellBeachLaw" (47 : Nat) ({ cls := "ShellBeachModel", name := "end", desc := "(II)I" } : Jvm.MethodName)) ∈ lw_all := lw_g (lw_at lw_m7 12 rfl) rfl
theorem q1541 : (Jvm.Cond.methodLink "ShellBeachLaw" (52 : Nat) ({ cls := "ShellBeachModel", name := "eat", desc := "(I)I" } : Jvm.MethodName)) ∈ lw_all := lw_g (lw_at lw_m7 16 rfl) rfl
theorem q1549 : (Jvm.Cond.methodLink "ShellBeachLaw" (59 : Nat) ({ cls := "ShellBeachModel", name := "feed", desc := "(JI)I" } : Jvm.MethodName)) ∈ lw_all := lw_g (lw_at lw_m7 24 rfl) rfl
theorem q1554 : (Jvm.Cond.methodLink "ShellBeachLaw" (64 : Nat) ({ cls := "ShellBeachModel", name := "text", desc := "()I" } : Jvm.MethodName)) ∈ lw_all := lw_g (lw_at lw_m7 29 rfl) rfl
theorem q1652 : (Jvm.Cond.methodLink "ShellBeachLaw" (69 : Nat) ({ cls := "ShellBeachModel", name := "holds", desc := "(IIIIIII)I" } : Jvm.MethodName)) ∈ lw_all := lw_g (lw_at lw_m7 127 rfl) rfl
theorem q1671 : (Jvm.Cond.methodLink "ShellBeachLaw" (73 : Nat) ({ cls := "ShellBeachModel", name := "set", desc := "(II)I" } : Jvm.MethodName)) ∈ lw_all := lw_g (lw_at lw_m7 146 rfl) rfl
theorem q1675 : (Jvm.Cond.methodLink "ShellBeachLaw" (77 : Nat) ({ cls := "ShellBeachModel", name := "tick", desc := "(I)I" } : Jvm.MethodName)) ∈ lw_all := lw_g (lw_at lw_m7 150 rfl) rfl
theorem q1711 : (Jvm.Cond.methodLink "ShellBeachLaw" (81 : Nat) ({ cls := "ShellBeachModel", name := "row", desc := "(II)I" } : Jvm.MethodName)) ∈ lw_all := lw_g (lw_at lw_m7 186 rfl) rfl
theorem q1715 : (Jvm.Cond.methodLink "ShellBeachLaw" (85 : Nat) ({ cls := "ShellBeachModel", name := "exchanges", desc := "(I)I" } : Jvm.MethodName)) ∈ lw_all := lw_g (lw_at lw_m7 190 rfl) rfl
theorem q1719 : (Jvm.Cond.methodLink "ShellBeachLaw" (89 : Nat) ({ cls := "ShellBeachModel", name := "points", desc := "()I" } : Jvm.MethodName)) ∈ lw_all := lw_g (lw_at lw_m7 194 rfl) rfl
theorem q1723 : (Jvm.Cond.methodLink "ShellBeachLaw" (93 : Nat) ({ cls := "ShellBeachModel", name := "chain", desc := "(II)I" } : Jvm.MethodName)) ∈ lw_all := lw_g (lw_at lw_m7 198 rfl) rfl
theorem q1731 : (Jvm.Cond.methodLink "ShellBeachLaw" (97 : Nat) ({ cls := "ShellBeachModel", name := "value", desc := "(I)I" } : Jvm.MethodName)) ∈ lw_all := lw_g (lw_at lw_m7 206 rfl) rfl
theorem q1739 : (Jvm.Cond.methodLink "ShellBeachLaw" (101 : Nat) ({ cls := "ShellBeachModel", name := "first", desc := "()I" } : Jvm.MethodName)) ∈ lw_all := lw_g (lw_at lw_m7 214 rfl) rfl
theorem q1743 : (Jvm.Cond.methodLink "ShellBeachLaw" (105 : Nat) ({ cls := "ShellBeachModel", name := "best", desc := "(II)I" } : Jvm.MethodName)) ∈ lw_all := lw_g (lw_at lw_m7 218 rfl) rfl
theorem q1767 : (Jvm.Cond.methodLink "ShellBeachLaw" (109 : Nat) ({ cls := "ShellBeachModel", name := "calm", desc := "(I)I" } : Jvm.MethodName)) ∈ lw_all := lw_g (lw_at lw_m8 2 rfl) rfl
theorem q1771 : (Jvm.Cond.methodLink "ShellBeachLaw" (113 : Nat) ({ cls := "ShellBeachModel", name := "pairs", desc := "()I" } : Jvm.MethodName)) ∈ lw_all := lw_g (lw_at lw_m8 6 rfl) rfl
theorem q1775 : (Jvm.Cond.methodLink "ShellBeachLaw" (117 : Nat) ({ cls := "ShellBeachModel", name := "film", desc := "(IIIIIII)I" } : Jvm.MethodName)) ∈ lw_all := lw_g (lw_at lw_m8 10 rfl) rfl
theorem q1779 : (Jvm.Cond.methodLink "ShellBeachLaw" (121 : Nat) ({ cls := "ShellBeachModel", name := "reads", desc := "(II)I" } : Jvm.MethodName)) ∈ lw_all := lw_g (lw_at lw_m8 14 rfl) rfl
theorem q1787 : (Jvm.Cond.methodLink "ShellBeachLaw" (125 : Nat) ({ cls := "ShellBeachModel", name := "sure", desc := "()I" } : Jvm.MethodName)) ∈ lw_all := lw_g (lw_at lw_m8 22 rfl) rfl
theorem q1791 : (Jvm.Cond.methodLink "ShellBeachLaw" (129 : Nat) ({ cls := "ShellBeachModel", name := "mend", desc := "(IIII)I" } : Jvm.MethodName)) ∈ lw_all := lw_g (lw_at lw_m8 26 rfl) rfl
theorem q1804 : (Jvm.Cond.methodLink "ShellBeachLaw" (133 : Nat) ({ cls := "ShellBeachModel", name := "act", desc := "(III)I" } : Jvm.MethodName)) ∈ lw_all := lw_g (lw_at lw_m8 39 rfl) rfl
theorem q1843 : (Jvm.Cond.methodLink "ShellBeachLaw" (137 : Nat) ({ cls := "ShellBeachModel", name := "trace", desc := "(I)I" } : Jvm.MethodName)) ∈ lw_all := lw_g (lw_at lw_m8 78 rfl) rfl
theorem q1847 : (Jvm.Cond.methodLink "ShellBeachLaw" (141 : Nat) ({ cls := "ShellBeachModel", name := "as", desc := "(II)I" } : Jvm.MethodName)) ∈ lw_all := lw_g (lw_at lw_m8 82 rfl) rfl
theorem q1851 : (Jvm.Cond.methodLink "ShellBeachLaw" (145 : Nat) ({ cls := "ShellBeachModel", name := "image", desc := "()I" } : Jvm.MethodName)) ∈ lw_all := lw_g (lw_at lw_m8 86 rfl) rfl
theorem q1855 : (Jvm.Cond.methodLink "ShellBeachLaw" (149 : Nat) ({ cls := "ShellBeachModel", name := "undo", desc := "()I" } : Jvm.MethodName)) ∈ lw_all := lw_g (lw_at lw_m8 90 rfl) rfl
theorem q1859 : (Jvm.Cond.methodLink "ShellBeachLaw" (153 : Nat) ({ cls := "ShellBeachModel", name := "count", desc := "(I)I" } : Jvm.MethodName)) ∈ lw_all := lw_g (lw_at lw_m8 94 rfl) rfl
theorem q1867 : (Jvm.Cond.constantLong "ShellBeachLaw" (53 : Nat) (4294967295 : Int64)) ∈ lw_all := lw_g (lw_at lw_m8 102 rfl) rfl
theorem q925 : (Jvm.Cond.interfaceMethod "ShellBeach$Test" "ShellBeach$Test" "holds" "(LShellBeach$Case;)Z") ∈ lw_tbl := lw_at lw_m4 120 rfl
theorem q926 : (Jvm.Cond.declares ({ cls := "ShellBeach$Test", name := "holds", desc := "(LShellBeach$Case;)Z" } : Jvm.MethodName)) ∈ lw_tbl := lw_at lw_m4 121 rfl
theorem q1905 : (Jvm.Cond.castable "[B" "java/lang/Object") ∈ lw_tbl := lw_at lw_m8 140 rfl
theorem q1907 : (Jvm.Cond.castable "[C" "java/lang/Object") ∈ lw_tbl := lw_at lw_m8 142 rfl
theorem q1143 : (Jvm.Cond.sameMethod "[I" "java/lang/Object" "clone" "()Ljava/lang/Object;") ∈ lw_all := lw_g (lw_at lw_m5 98 rfl) rfl
theorem q1146 : (Jvm.Cond.selects "[I" ({ cls := "[I", name := "clone", desc := "()Ljava/lang/Object;" } : Jvm.MethodName) ({ cls := "java/lang/Object", name := "clone", desc := "()Ljava/lang/Object;" } : Jvm.MethodName)) ∈ lw_all := lw_g (lw_at lw_m5 101 rfl) rfl
theorem q1147 : (Jvm.Cond.castable "[I" "java/lang/Cloneable") ∈ lw_tbl := lw_at lw_m5 102 rfl
theorem q1904 : (Jvm.Cond.castable "[I" "java/lang/Object") ∈ lw_tbl := lw_at lw_m8 139 rfl
theorem q1908 : (Jvm.Cond.castable "[LShellBeach$Crab;" "java/lang/Object") ∈ lw_tbl := lw_at lw_m8 143 rfl
theorem q1912 : (Jvm.Cond.castable "[LShellBeach$Habit;" "java/lang/Object") ∈ lw_tbl := lw_at lw_m8 147 rfl
theorem q1909 : (Jvm.Cond.castable "[LShellBeach$Shell;" "java/lang/Object") ∈ lw_tbl := lw_at lw_m8 144 rfl
theorem q1911 : (Jvm.Cond.castable "[LShellBeach$Way;" "java/lang/Object") ∈ lw_tbl := lw_at lw_m8 146 rfl
theorem q1901 : (Jvm.Cond.sameMethod "[Ljava/lang/Object;" "java/lang/Object" "getClass" "()Ljava/lang/Class;") ∈ lw_all := lw_g (lw_at lw_m8 136 rfl) rfl
theorem q1902 : (Jvm.Cond.selects "[Ljava/lang/Object;" ({ cls := "java/lang/Object", name := "getClass", desc := "()Ljava/lang/Class;" } : Jvm.MethodName) ({ cls := "java/lang/Object", name := "getClass", desc := "()Ljava/lang/Class;" } : Jvm.MethodName)) ∈ lw_all := lw_g (lw_at lw_m8 137 rfl) rfl
theorem q1910 : (Jvm.Cond.castable "[Ljava/lang/Object;" "java/lang/Object") ∈ lw_tbl := lw_at lw_m8 145 rfl
theorem q1913 : (Jvm.Cond.castable "[Z" "java/lang/Object") ∈ lw_tbl := lw_at lw_m8 148 rfl
theorem q1906 : (Jvm.Cond.castable "[[C" "java/lang/Object") ∈ lw_tbl := lw_at lw_m8 141 rfl
theorem q97 : (Jvm.Cond.initialized "java/lang/System") ∈ lw_all := lw_g (lw_at lw_m1 12 rfl) rfl
theorem q421 : (Jvm.Cond.static ({ cls := "java/lang/System", name := "arraycopy", desc := "(Ljava/lang/Object;ILjava/lang/Object;II)V" } : Jvm.MethodName)) ∈ lw_all := lw_g (lw_at lw_m2 96 rfl) rfl
theorem q422 : (Jvm.Cond.native ({ cls := "java/lang/System", name := "arraycopy", desc := "(Ljava/lang/Object;ILjava/lang/Object;II)V" } : Jvm.MethodName)) ∈ lw_all := lw_g (lw_at lw_m2 97 rfl) rfl
theorem q177 : (Jvm.Cond.arrayClass Jvm.ClassFile.FieldType.int) ∈ lw_all := lw_g (lw_at lw_m1 92 rfl) rfl
theorem q178 : (Jvm.Cond.arrayClass Jvm.ClassFile.FieldType.byte) ∈ lw_all := lw_g (lw_at lw_m1 93 rfl) rfl
theorem q186 : (Jvm.Cond.arrayOver (Jvm.ClassFile.FieldType.array Jvm.ClassFile.FieldType.char)) ∈ lw_tbl := lw_at lw_m1 101 rfl
theorem q203 : (Jvm.Cond.arrayClass Jvm.ClassFile.FieldType.char) ∈ lw_all := lw_g (lw_at lw_m1 118 rfl) rfl
theorem q205 : (Jvm.Cond.arrayOver (Jvm.ClassFile.FieldType.object "ShellBeach$Crab")) ∈ lw_tbl := lw_at lw_m1 120 rfl
theorem q207 : (Jvm.Cond.arrayOver (Jvm.ClassFile.FieldType.object "ShellBeach$Shell")) ∈ lw_tbl := lw_at lw_m1 122 rfl
theorem q415 : (Jvm.Cond.arrayOver (Jvm.ClassFile.FieldType.object "java/lang/Object")) ∈ lw_tbl := lw_at lw_m2 90 rfl
theorem q457 : (Jvm.Cond.arrayOver (Jvm.ClassFile.FieldType.object "ShellBeach$Way")) ∈ lw_tbl := lw_at lw_m2 132 rfl
theorem q1150 : (Jvm.Cond.arrayOver (Jvm.ClassFile.FieldType.object "ShellBeach$Habit")) ∈ lw_tbl := lw_at lw_m5 105 rfl
theorem q1459 : (Jvm.Cond.arrayClass Jvm.ClassFile.FieldType.boolean) ∈ lw_all := lw_g (lw_at lw_m6 174 rfl) rfl
