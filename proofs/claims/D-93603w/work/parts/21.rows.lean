set_option maxRecDepth 100000
section GXR
variable {I : State → Prop} {X : gx_X} {mi : gx_M} {n dc ds : Nat} {P' : Heap → Prop} {oc : Outcome} {P : Heap → Prop} {cs ss pc : Nat} {lv : List (Option Value)} {rest : List Value}
theorem gx_iadd (hX : gx_O I X mi n dc ds P' oc) {x y : Int32} (hd : decode mi.2.2.1 pc = .ok (.iadd, 1)) (k : gx_G X P cs ss lv (pc + 1) (.int (x + y) :: rest)) : gx_G X P cs ss lv pc (.int y :: .int x :: rest) := fun H locs ls hP hS hl => lv_iadd hX.1 hX.2.1 hd (k H locs ls hP hS hl)
theorem gx_isub (hX : gx_O I X mi n dc ds P' oc) {x y : Int32} (hd : decode mi.2.2.1 pc = .ok (.isub, 1)) (k : gx_G X P cs ss lv (pc + 1) (.int (x - y) :: rest)) : gx_G X P cs ss lv pc (.int y :: .int x :: rest) := fun H locs ls hP hS hl => lv_isub hX.1 hX.2.1 hd (k H locs ls hP hS hl)
theorem gx_imul (hX : gx_O I X mi n dc ds P' oc) {x y : Int32} (hd : decode mi.2.2.1 pc = .ok (.imul, 1)) (k : gx_G X P cs ss lv (pc + 1) (.int (x * y) :: rest)) : gx_G X P cs ss lv pc (.int y :: .int x :: rest) := fun H locs ls hP hS hl => lv_imul hX.1 hX.2.1 hd (k H locs ls hP hS hl)
theorem gx_iand (hX : gx_O I X mi n dc ds P' oc) {x y : Int32} (hd : decode mi.2.2.1 pc = .ok (.iand, 1)) (k : gx_G X P cs ss lv (pc + 1) (.int (x &&& y) :: rest)) : gx_G X P cs ss lv pc (.int y :: .int x :: rest) := fun H locs ls hP hS hl => lv_iand hX.1 hX.2.1 hd (k H locs ls hP hS hl)
theorem gx_ior (hX : gx_O I X mi n dc ds P' oc) {x y : Int32} (hd : decode mi.2.2.1 pc = .ok (.ior, 1)) (k : gx_G X P cs ss lv (pc + 1) (.int (x ||| y) :: rest)) : gx_G X P cs ss lv pc (.int y :: .int x :: rest) := fun H locs ls hP hS hl => lv_ior hX.1 hX.2.1 hd (k H locs ls hP hS hl)
theorem gx_ixor (hX : gx_O I X mi n dc ds P' oc) {x y : Int32} (hd : decode mi.2.2.1 pc = .ok (.ixor, 1)) (k : gx_G X P cs ss lv (pc + 1) (.int (x ^^^ y) :: rest)) : gx_G X P cs ss lv pc (.int y :: .int x :: rest) := fun H locs ls hP hS hl => lv_ixor hX.1 hX.2.1 hd (k H locs ls hP hS hl)
theorem gx_ishl (hX : gx_O I X mi n dc ds P' oc) {x y : Int32} (hd : decode mi.2.2.1 pc = .ok (.ishl, 1)) (k : gx_G X P cs ss lv (pc + 1) (.int (x <<< (y &&& 31)) :: rest)) : gx_G X P cs ss lv pc (.int y :: .int x :: rest) := fun H locs ls hP hS hl => lv_ishl hX.1 hX.2.1 hd (k H locs ls hP hS hl)
theorem gx_ishr (hX : gx_O I X mi n dc ds P' oc) {x y : Int32} (hd : decode mi.2.2.1 pc = .ok (.ishr, 1)) (k : gx_G X P cs ss lv (pc + 1) (.int (x >>> (y &&& 31)) :: rest)) : gx_G X P cs ss lv pc (.int y :: .int x :: rest) := fun H locs ls hP hS hl => lv_ishr hX.1 hX.2.1 hd (k H locs ls hP hS hl)
theorem gx_idiv (hX : gx_O I X mi n dc ds P' oc) {x y : Int32} (hd : decode mi.2.2.1 pc = .ok (.idiv, 1)) (hne : ¬ y = 0) (k : gx_G X P cs ss lv (pc + 1) (.int (x / y) :: rest)) : gx_G X P cs ss lv pc (.int y :: .int x :: rest) := fun H locs ls hP hS hl => lv_idiv hX.1 hX.2.1 hd hne (k H locs ls hP hS hl)
theorem gx_irem (hX : gx_O I X mi n dc ds P' oc) {x y : Int32} (hd : decode mi.2.2.1 pc = .ok (.irem, 1)) (hne : ¬ y = 0) (k : gx_G X P cs ss lv (pc + 1) (.int (x - x / y * y) :: rest)) : gx_G X P cs ss lv pc (.int y :: .int x :: rest) := fun H locs ls hP hS hl => lv_irem hX.1 hX.2.1 hd hne (k H locs ls hP hS hl)
theorem gx_ineg (hX : gx_O I X mi n dc ds P' oc) {x : Int32} (hd : decode mi.2.2.1 pc = .ok (.ineg, 1)) (k : gx_G X P cs ss lv (pc + 1) (.int (-x) :: rest)) : gx_G X P cs ss lv pc (.int x :: rest) := fun H locs ls hP hS hl => lv_ineg hX.1 hX.2.1 hd (k H locs ls hP hS hl)
theorem gx_iushr (hX : gx_O I X mi n dc ds P' oc) {x y : Int32} (hd : decode mi.2.2.1 pc = .ok (.iushr, 1)) (k : gx_G X P cs ss lv (pc + 1) (.int ((x.toUInt32 >>> (y.toUInt32 &&& Int32.toUInt32 31)).toInt32) :: rest)) : gx_G X P cs ss lv pc (.int y :: .int x :: rest) := fun H locs ls hP hS hl => lv_iushr hX.1 hX.2.1 hd rfl (k H locs ls hP hS hl)
theorem gx_land (hX : gx_O I X mi n dc ds P' oc) {x y : Int64} (hd : decode mi.2.2.1 pc = .ok (.land, 1)) (k : gx_G X P cs ss lv (pc + 1) (.long (x &&& y) :: rest)) : gx_G X P cs ss lv pc (.long y :: .long x :: rest) := fun H locs ls hP hS hl => lv_land hX.1 hX.2.1 hd (k H locs ls hP hS hl)
theorem gx_lor (hX : gx_O I X mi n dc ds P' oc) {x y : Int64} (hd : decode mi.2.2.1 pc = .ok (.lor, 1)) (k : gx_G X P cs ss lv (pc + 1) (.long (x ||| y) :: rest)) : gx_G X P cs ss lv pc (.long y :: .long x :: rest) := fun H locs ls hP hS hl => lv_lor hX.1 hX.2.1 hd (k H locs ls hP hS hl)
theorem gx_lshl (hX : gx_O I X mi n dc ds P' oc) {x : Int64} {y : Int32} (hd : decode mi.2.2.1 pc = .ok (.lshl, 1)) (k : gx_G X P cs ss lv (pc + 1) (.long (x <<< (y.toInt64 &&& 63)) :: rest)) : gx_G X P cs ss lv pc (.int y :: .long x :: rest) := fun H locs ls hP hS hl => lv_lshl hX.1 hX.2.1 hd rfl (k H locs ls hP hS hl)
theorem gx_lshr (hX : gx_O I X mi n dc ds P' oc) {x : Int64} {y : Int32} (hd : decode mi.2.2.1 pc = .ok (.lshr, 1)) (k : gx_G X P cs ss lv (pc + 1) (.long (x >>> (y.toInt64 &&& 63)) :: rest)) : gx_G X P cs ss lv pc (.int y :: .long x :: rest) := fun H locs ls hP hS hl => lv_lshr hX.1 hX.2.1 hd rfl (k H locs ls hP hS hl)
theorem gx_i2l (hX : gx_O I X mi n dc ds P' oc) {x : Int32} (hd : decode mi.2.2.1 pc = .ok (.i2l, 1)) (k : gx_G X P cs ss lv (pc + 1) (.long x.toInt64 :: rest)) : gx_G X P cs ss lv pc (.int x :: rest) := fun H locs ls hP hS hl => lv_i2l hX.1 hX.2.1 hd rfl (k H locs ls hP hS hl)
theorem gx_l2i (hX : gx_O I X mi n dc ds P' oc) {x : Int64} (hd : decode mi.2.2.1 pc = .ok (.l2i, 1)) (k : gx_G X P cs ss lv (pc + 1) (.int x.toInt32 :: rest)) : gx_G X P cs ss lv pc (.long x :: rest) := fun H locs ls hP hS hl => lv_l2i hX.1 hX.2.1 hd rfl (k H locs ls hP hS hl)
theorem gx_i2b (hX : gx_O I X mi n dc ds P' oc) {x : Int32} (hd : decode mi.2.2.1 pc = .ok (.i2b, 1)) (k : gx_G X P cs ss lv (pc + 1) (.int x.toInt8.toInt32 :: rest)) : gx_G X P cs ss lv pc (.int x :: rest) := fun H locs ls hP hS hl => lv_i2b hX.1 hX.2.1 hd rfl (k H locs ls hP hS hl)
theorem gx_i2c (hX : gx_O I X mi n dc ds P' oc) {x : Int32} (hd : decode mi.2.2.1 pc = .ok (.i2c, 1)) (k : gx_G X P cs ss lv (pc + 1) (.int (x.toUInt32 % 65536).toInt32 :: rest)) : gx_G X P cs ss lv pc (.int x :: rest) := fun H locs ls hP hS hl => lv_i2c hX.1 hX.2.1 hd rfl (k H locs ls hP hS hl)
theorem gx_iconst (hX : gx_O I X mi n dc ds P' oc) {a : Int} {v : Int32} (hd : decode mi.2.2.1 pc = .ok (.iconst a, 1)) (hv : Int32.ofInt a = v) (k : gx_G X P cs ss lv (pc + 1) (.int v :: rest)) : gx_G X P cs ss lv pc (rest) := fun H locs ls hP hS hl => lv_iconst hX.1 hX.2.1 hd hv (k H locs ls hP hS hl)
theorem gx_bipush (hX : gx_O I X mi n dc ds P' oc) {a : Int} {v : Int32} (hd : decode mi.2.2.1 pc = .ok (.bipush a, 2)) (hv : (Int8.ofInt a).toInt32 = v) (k : gx_G X P cs ss lv (pc + 2) (.int v :: rest)) : gx_G X P cs ss lv pc (rest) := fun H locs ls hP hS hl => lv_bipush hX.1 hX.2.1 hd hv (k H locs ls hP hS hl)
theorem gx_sipush (hX : gx_O I X mi n dc ds P' oc) {a : Int} {v : Int32} (hd : decode mi.2.2.1 pc = .ok (.sipush a, 3)) (hv : (Int16.ofInt a).toInt32 = v) (k : gx_G X P cs ss lv (pc + 3) (.int v :: rest)) : gx_G X P cs ss lv pc (rest) := fun H locs ls hP hS hl => lv_sipush hX.1 hX.2.1 hd hv (k H locs ls hP hS hl)
theorem gx_ldc (hX : gx_O I X mi n dc ds P' oc) {index : Nat} {v : Int32} (hd : decode mi.2.2.1 pc = .ok (.ldc index, 2)) (hq : Cond.constant mi.1 index v ∈ lw_all) (k : gx_G X P cs ss lv (pc + 2) (.int v :: rest)) : gx_G X P cs ss lv pc (rest) := fun H locs ls hP hS hl => lv_ldc hX.1 hX.2.1 hX.2.2.2.2.1 (hX.2.2.2.2.2.1 _ hq) hd (k H locs ls hP hS hl)
theorem gx_ldcw (hX : gx_O I X mi n dc ds P' oc) {index : Nat} {v : Int32} (hd : decode mi.2.2.1 pc = .ok (.ldc_w index, 3)) (hq : Cond.constant mi.1 index v ∈ lw_all) (k : gx_G X P cs ss lv (pc + 3) (.int v :: rest)) : gx_G X P cs ss lv pc (rest) := fun H locs ls hP hS hl => lv_ldcw hX.1 hX.2.1 hX.2.2.2.2.1 (hX.2.2.2.2.2.1 _ hq) hd (k H locs ls hP hS hl)
theorem gx_ldc2 (hX : gx_O I X mi n dc ds P' oc) {index : Nat} {v : Int64} (hd : decode mi.2.2.1 pc = .ok (.ldc2_w index, 3)) (hq : Cond.constantLong mi.1 index v ∈ lw_all) (k : gx_G X P cs ss lv (pc + 3) (.long v :: rest)) : gx_G X P cs ss lv pc (rest) := fun H locs ls hP hS hl => lv_ldc2 hX.1 hX.2.1 hX.2.2.2.2.1 (hX.2.2.2.2.2.1 _ hq) hd (k H locs ls hP hS hl)
theorem gx_iload_n (hX : gx_O I X mi n dc ds P' oc) {k9 : Fin 4} {x : Int32} (hd : decode mi.2.2.1 pc = .ok (.iload_n k9, 1)) (hv : lv[(k9 : Nat)]? = some (some (.int x))) (k : gx_G X P cs ss lv (pc + 1) (.int x :: rest)) : gx_G X P cs ss lv pc (rest) := fun H locs ls hP hS hl => lv_iload_n hX.1 hX.2.1 hd rfl (hl.2.2 _ _ hv) (k H locs ls hP hS hl)
theorem gx_iload (hX : gx_O I X mi n dc ds P' oc) {i : Nat} {x : Int32} (hd : decode mi.2.2.1 pc = .ok (.iload i, 2)) (hv : lv[i]? = some (some (.int x))) (k : gx_G X P cs ss lv (pc + 2) (.int x :: rest)) : gx_G X P cs ss lv pc (rest) := fun H locs ls hP hS hl => lv_iload hX.1 hX.2.1 hd (hl.2.2 _ _ hv) (k H locs ls hP hS hl)
theorem gx_lload_n (hX : gx_O I X mi n dc ds P' oc) {k9 : Fin 4} {x : Int64} (hd : decode mi.2.2.1 pc = .ok (.lload_n k9, 1)) (hv : lv[(k9 : Nat)]? = some (some (.long x))) (k : gx_G X P cs ss lv (pc + 1) (.long x :: rest)) : gx_G X P cs ss lv pc (rest) := fun H locs ls hP hS hl => lv_lload_n hX.1 hX.2.1 hd rfl (hl.2.2 _ _ hv) (k H locs ls hP hS hl)
theorem gx_aload_n (hX : gx_O I X mi n dc ds P' oc) {k9 : Fin 4} {x : Option Nat} (hd : decode mi.2.2.1 pc = .ok (.aload_n k9, 1)) (hv : lv[(k9 : Nat)]? = some (some (va_rf x))) (k : gx_G X P cs ss lv (pc + 1) (va_rf x :: rest)) : gx_G X P cs ss lv pc (rest) := fun H locs ls hP hS hl => by cases x with | none => exact lv_aload_nN hX.1 hX.2.1 hd rfl (hl.2.2 _ _ hv) (k H locs ls hP hS hl) | some a => exact lv_aload_n hX.1 hX.2.1 hd rfl (hl.2.2 _ _ hv) (k H locs ls hP hS hl)
theorem gx_aload (hX : gx_O I X mi n dc ds P' oc) {i : Nat} {x : Option Nat} (hd : decode mi.2.2.1 pc = .ok (.aload i, 2)) (hv : lv[i]? = some (some (va_rf x))) (k : gx_G X P cs ss lv (pc + 2) (va_rf x :: rest)) : gx_G X P cs ss lv pc (rest) := fun H locs ls hP hS hl => by cases x with | none => exact lv_aloadN hX.1 hX.2.1 hd (hl.2.2 _ _ hv) (k H locs ls hP hS hl) | some a => exact lv_aload hX.1 hX.2.1 hd (hl.2.2 _ _ hv) (k H locs ls hP hS hl)
theorem gx_null (hX : gx_O I X mi n dc ds P' oc)  (hd : decode mi.2.2.1 pc = .ok (.aconst_null, 1)) (k : gx_G X P cs ss lv (pc + 1) (va_rf none :: rest)) : gx_G X P cs ss lv pc (rest) := fun H locs ls hP hS hl => lv_null hX.1 hX.2.1 hd (k H locs ls hP hS hl)
theorem gx_goto (hX : gx_O I X mi n dc ds P' oc) {off : Int} {tgt : Nat} (hd : decode mi.2.2.1 pc = .ok (.goto off, 3)) (ht : (pc : Int) + off = (tgt : Int)) (k : gx_G X P cs ss lv tgt (rest)) : gx_G X P cs ss lv pc (rest) := fun H locs ls hP hS hl => lv_goto hX.1 hX.2.1 hd ht (k H locs ls hP hS hl)
theorem gx_dup (hX : gx_O I X mi n dc ds P' oc) {v : Value} (hd : decode mi.2.2.1 pc = .ok (.dup, 1)) (hv : v.category = 1) (k : gx_G X P cs ss lv (pc + 1) (v :: v :: rest)) : gx_G X P cs ss lv pc (v :: rest) := fun H locs ls hP hS hl => lv_dup hX.1 hX.2.1 hd hv (k H locs ls hP hS hl)
theorem gx_pop (hX : gx_O I X mi n dc ds P' oc) {v : Value} (hd : decode mi.2.2.1 pc = .ok (.pop, 1)) (hv : v.category = 1) (k : gx_G X P cs ss lv (pc + 1) (rest)) : gx_G X P cs ss lv pc (v :: rest) := fun H locs ls hP hS hl => lv_pop hX.1 hX.2.1 hd hv (k H locs ls hP hS hl)
theorem gx_dup_x1 (hX : gx_O I X mi n dc ds P' oc) {v u : Value} (hd : decode mi.2.2.1 pc = .ok (.dup_x1, 1)) (hv : v.category = 1) (hu : u.category = 1) (k : gx_G X P cs ss lv (pc + 1) (v :: u :: v :: rest)) : gx_G X P cs ss lv pc (v :: u :: rest) := fun H locs ls hP hS hl => lv_dup_x1 hX.1 hX.2.1 hd hv hu (k H locs ls hP hS hl)
theorem gx_dup2 (hX : gx_O I X mi n dc ds P' oc) {v u : Value} (hd : decode mi.2.2.1 pc = .ok (.dup2, 1)) (hv : v.category = 1) (hu : u.category = 1) (k : gx_G X P cs ss lv (pc + 1) (v :: u :: v :: u :: rest)) : gx_G X P cs ss lv pc (v :: u :: rest) := fun H locs ls hP hS hl => lv_dup2_11 hX.1 hX.2.1 hd hv hu (k H locs ls hP hS hl)
theorem gx_icmp_eq (hX : gx_O I X mi n dc ds P' oc) {x y : Int32} {off : Int} {tgt : Nat} {ρ : Type} {a b : Option ρ} {r : ρ} (hd : decode mi.2.2.1 pc = .ok (.if_icmp .eq off, 3)) (ht : (pc : Int) + off = (tgt : Int)) (h : (if x = y then a else b) = some r) (kt : a = some r → gx_G X P cs ss lv tgt rest) (kf : b = some r → gx_G X P cs ss lv (pc + 3) rest) : gx_G X P cs ss lv pc (.int y :: .int x :: rest) := fun H locs ls hP hS hl => lv_icmp_eq hX.1 hX.2.1 hd ht (fun c => kt (by rw [if_pos c] at h; exact h) H locs ls hP hS hl) (fun c => kf (by rw [if_neg c] at h; exact h) H locs ls hP hS hl)
theorem gx_if_eq (hX : gx_O I X mi n dc ds P' oc) {x : Int32} {off : Int} {tgt : Nat} {ρ : Type} {a b : Option ρ} {r : ρ} (hd : decode mi.2.2.1 pc = .ok (.ifCond .eq off, 3)) (ht : (pc : Int) + off = (tgt : Int)) (h : (if x = 0 then a else b) = some r) (kt : a = some r → gx_G X P cs ss lv tgt rest) (kf : b = some r → gx_G X P cs ss lv (pc + 3) rest) : gx_G X P cs ss lv pc (.int x :: rest) := fun H locs ls hP hS hl => lv_if_eq hX.1 hX.2.1 hd ht (fun c => kt (by rw [if_pos c] at h; exact h) H locs ls hP hS hl) (fun c => kf (by rw [if_neg c] at h; exact h) H locs ls hP hS hl)
theorem gx_icmp_ne (hX : gx_O I X mi n dc ds P' oc) {x y : Int32} {off : Int} {tgt : Nat} {ρ : Type} {a b : Option ρ} {r : ρ} (hd : decode mi.2.2.1 pc = .ok (.if_icmp .ne off, 3)) (ht : (pc : Int) + off = (tgt : Int)) (h : (if x = y then a else b) = some r) (kf : a = some r → gx_G X P cs ss lv (pc + 3) rest) (kt : b = some r → gx_G X P cs ss lv tgt rest) : gx_G X P cs ss lv pc (.int y :: .int x :: rest) := fun H locs ls hP hS hl => lv_icmp_ne hX.1 hX.2.1 hd ht (fun c => kt (by rw [if_neg c] at h; exact h) H locs ls hP hS hl) (fun c => kf (by rw [if_pos c] at h; exact h) H locs ls hP hS hl)
theorem gx_if_ne (hX : gx_O I X mi n dc ds P' oc) {x : Int32} {off : Int} {tgt : Nat} {ρ : Type} {a b : Option ρ} {r : ρ} (hd : decode mi.2.2.1 pc = .ok (.ifCond .ne off, 3)) (ht : (pc : Int) + off = (tgt : Int)) (h : (if x = 0 then a else b) = some r) (kf : a = some r → gx_G X P cs ss lv (pc + 3) rest) (kt : b = some r → gx_G X P cs ss lv tgt rest) : gx_G X P cs ss lv pc (.int x :: rest) := fun H locs ls hP hS hl => lv_if_ne hX.1 hX.2.1 hd ht (fun c => kt (by rw [if_neg c] at h; exact h) H locs ls hP hS hl) (fun c => kf (by rw [if_pos c] at h; exact h) H locs ls hP hS hl)
theorem gx_icmp_lt (hX : gx_O I X mi n dc ds P' oc) {x y : Int32} {off : Int} {tgt : Nat} {ρ : Type} {a b : Option ρ} {r : ρ} (hd : decode mi.2.2.1 pc = .ok (.if_icmp .lt off, 3)) (ht : (pc : Int) + off = (tgt : Int)) (h : (if x < y then a else b) = some r) (kt : a = some r → gx_G X P cs ss lv tgt rest) (kf : b = some r → gx_G X P cs ss lv (pc + 3) rest) : gx_G X P cs ss lv pc (.int y :: .int x :: rest) := fun H locs ls hP hS hl => lv_icmp_lt hX.1 hX.2.1 hd ht (fun c => kt (by rw [if_pos c] at h; exact h) H locs ls hP hS hl) (fun c => kf (by rw [if_neg c] at h; exact h) H locs ls hP hS hl)
theorem gx_if_lt (hX : gx_O I X mi n dc ds P' oc) {x : Int32} {off : Int} {tgt : Nat} {ρ : Type} {a b : Option ρ} {r : ρ} (hd : decode mi.2.2.1 pc = .ok (.ifCond .lt off, 3)) (ht : (pc : Int) + off = (tgt : Int)) (h : (if x < 0 then a else b) = some r) (kt : a = some r → gx_G X P cs ss lv tgt rest) (kf : b = some r → gx_G X P cs ss lv (pc + 3) rest) : gx_G X P cs ss lv pc (.int x :: rest) := fun H locs ls hP hS hl => lv_if_lt hX.1 hX.2.1 hd ht (fun c => kt (by rw [if_pos c] at h; exact h) H locs ls hP hS hl) (fun c => kf (by rw [if_neg c] at h; exact h) H locs ls hP hS hl)
theorem gx_icmp_ge (hX : gx_O I X mi n dc ds P' oc) {x y : Int32} {off : Int} {tgt : Nat} {ρ : Type} {a b : Option ρ} {r : ρ} (hd : decode mi.2.2.1 pc = .ok (.if_icmp .ge off, 3)) (ht : (pc : Int) + off = (tgt : Int)) (h : (if y ≤ x then a else b) = some r) (kt : a = some r → gx_G X P cs ss lv tgt rest) (kf : b = some r → gx_G X P cs ss lv (pc + 3) rest) : gx_G X P cs ss lv pc (.int y :: .int x :: rest) := fun H locs ls hP hS hl => lv_icmp_ge hX.1 hX.2.1 hd ht (fun c => kt (by rw [if_pos c] at h; exact h) H locs ls hP hS hl) (fun c => kf (by rw [if_neg c] at h; exact h) H locs ls hP hS hl)
theorem gx_if_ge (hX : gx_O I X mi n dc ds P' oc) {x : Int32} {off : Int} {tgt : Nat} {ρ : Type} {a b : Option ρ} {r : ρ} (hd : decode mi.2.2.1 pc = .ok (.ifCond .ge off, 3)) (ht : (pc : Int) + off = (tgt : Int)) (h : (if 0 ≤ x then a else b) = some r) (kt : a = some r → gx_G X P cs ss lv tgt rest) (kf : b = some r → gx_G X P cs ss lv (pc + 3) rest) : gx_G X P cs ss lv pc (.int x :: rest) := fun H locs ls hP hS hl => lv_if_ge hX.1 hX.2.1 hd ht (fun c => kt (by rw [if_pos c] at h; exact h) H locs ls hP hS hl) (fun c => kf (by rw [if_neg c] at h; exact h) H locs ls hP hS hl)
theorem gx_icmp_gt (hX : gx_O I X mi n dc ds P' oc) {x y : Int32} {off : Int} {tgt : Nat} {ρ : Type} {a b : Option ρ} {r : ρ} (hd : decode mi.2.2.1 pc = .ok (.if_icmp .gt off, 3)) (ht : (pc : Int) + off = (tgt : Int)) (h : (if y < x then a else b) = some r) (kt : a = some r → gx_G X P cs ss lv tgt rest) (kf : b = some r → gx_G X P cs ss lv (pc + 3) rest) : gx_G X P cs ss lv pc (.int y :: .int x :: rest) := fun H locs ls hP hS hl => lv_icmp_gt hX.1 hX.2.1 hd ht (fun c => kt (by rw [if_pos c] at h; exact h) H locs ls hP hS hl) (fun c => kf (by rw [if_neg c] at h; exact h) H locs ls hP hS hl)
theorem gx_if_gt (hX : gx_O I X mi n dc ds P' oc) {x : Int32} {off : Int} {tgt : Nat} {ρ : Type} {a b : Option ρ} {r : ρ} (hd : decode mi.2.2.1 pc = .ok (.ifCond .gt off, 3)) (ht : (pc : Int) + off = (tgt : Int)) (h : (if 0 < x then a else b) = some r) (kt : a = some r → gx_G X P cs ss lv tgt rest) (kf : b = some r → gx_G X P cs ss lv (pc + 3) rest) : gx_G X P cs ss lv pc (.int x :: rest) := fun H locs ls hP hS hl => lv_if_gt hX.1 hX.2.1 hd ht (fun c => kt (by rw [if_pos c] at h; exact h) H locs ls hP hS hl) (fun c => kf (by rw [if_neg c] at h; exact h) H locs ls hP hS hl)
theorem gx_icmp_le (hX : gx_O I X mi n dc ds P' oc) {x y : Int32} {off : Int} {tgt : Nat} {ρ : Type} {a b : Option ρ} {r : ρ} (hd : decode mi.2.2.1 pc = .ok (.if_icmp .le off, 3)) (ht : (pc : Int) + off = (tgt : Int)) (h : (if x ≤ y then a else b) = some r) (kt : a = some r → gx_G X P cs ss lv tgt rest) (kf : b = some r → gx_G X P cs ss lv (pc + 3) rest) : gx_G X P cs ss lv pc (.int y :: .int x :: rest) := fun H locs ls hP hS hl => lv_icmp_le hX.1 hX.2.1 hd ht (fun c => kt (by rw [if_pos c] at h; exact h) H locs ls hP hS hl) (fun c => kf (by rw [if_neg c] at h; exact h) H locs ls hP hS hl)
theorem gx_if_le (hX : gx_O I X mi n dc ds P' oc) {x : Int32} {off : Int} {tgt : Nat} {ρ : Type} {a b : Option ρ} {r : ρ} (hd : decode mi.2.2.1 pc = .ok (.ifCond .le off, 3)) (ht : (pc : Int) + off = (tgt : Int)) (h : (if x ≤ 0 then a else b) = some r) (kt : a = some r → gx_G X P cs ss lv tgt rest) (kf : b = some r → gx_G X P cs ss lv (pc + 3) rest) : gx_G X P cs ss lv pc (.int x :: rest) := fun H locs ls hP hS hl => lv_if_le hX.1 hX.2.1 hd ht (fun c => kt (by rw [if_pos c] at h; exact h) H locs ls hP hS hl) (fun c => kf (by rw [if_neg c] at h; exact h) H locs ls hP hS hl)
theorem gx_acmp_eq (hX : gx_O I X mi n dc ds P' oc) {x y : Option Nat} {off : Int} {tgt : Nat} {ρ : Type} {a b : Option ρ} {r : ρ} (hd : decode mi.2.2.1 pc = .ok (.if_acmp .eq off, 3)) (ht : (pc : Int) + off = (tgt : Int)) (h : (if x = y then a else b) = some r) (kt : a = some r → gx_G X P cs ss lv tgt rest) (kf : b = some r → gx_G X P cs ss lv (pc + 3) rest) : gx_G X P cs ss lv pc (va_rf y :: va_rf x :: rest) := fun H locs ls hP hS hl => lv_acmp_eq hX.1 hX.2.1 hd ht (fun c => kt (by rw [if_pos c] at h; exact h) H locs ls hP hS hl) (fun c => kf (by rw [if_neg c] at h; exact h) H locs ls hP hS hl)
theorem gx_acmp_ne (hX : gx_O I X mi n dc ds P' oc) {x y : Option Nat} {off : Int} {tgt : Nat} {ρ : Type} {a b : Option ρ} {r : ρ} (hd : decode mi.2.2.1 pc = .ok (.if_acmp .ne off, 3)) (ht : (pc : Int) + off = (tgt : Int)) (h : (if x = y then a else b) = some r) (kf : a = some r → gx_G X P cs ss lv (pc + 3) rest) (kt : b = some r → gx_G X P cs ss lv tgt rest) : gx_G X P cs ss lv pc (va_rf y :: va_rf x :: rest) := fun H locs ls hP hS hl => lv_acmp_ne hX.1 hX.2.1 hd ht (fun c => kt (by rw [if_neg c] at h; exact h) H locs ls hP hS hl) (fun c => kf (by rw [if_pos c] at h; exact h) H locs ls hP hS hl)
theorem gx_ifnull (hX : gx_O I X mi n dc ds P' oc) {x : Option Nat} {off : Int} {tgt : Nat} {ρ : Type} {a b : Option ρ} {r : ρ} (hd : decode mi.2.2.1 pc = .ok (.ifnull off, 3)) (ht : (pc : Int) + off = (tgt : Int)) (h : (if x = none then a else b) = some r) (kt : a = some r → gx_G X P cs ss lv tgt rest) (kf : b = some r → gx_G X P cs ss lv (pc + 3) rest) : gx_G X P cs ss lv pc (va_rf x :: rest) := fun H locs ls hP hS hl => by
  cases x with
  | none => exact lv_ifnullN hX.1 hX.2.1 hd ht (kt (by rw [if_pos rfl] at h; exact h) H locs ls hP hS hl)
  | some q => exact lv_ifnull hX.1 hX.2.1 hd (kf (by rw [if_neg (by simp)] at h; exact h) H locs ls hP hS hl)
theorem gx_ifnonnull (hX : gx_O I X mi n dc ds P' oc) {x : Option Nat} {off : Int} {tgt : Nat} {ρ : Type} {a b : Option ρ} {r : ρ} (hd : decode mi.2.2.1 pc = .ok (.ifnonnull off, 3)) (ht : (pc : Int) + off = (tgt : Int)) (h : (if x = none then a else b) = some r) (kf : a = some r → gx_G X P cs ss lv (pc + 3) rest) (kt : b = some r → gx_G X P cs ss lv tgt rest) : gx_G X P cs ss lv pc (va_rf x :: rest) := fun H locs ls hP hS hl => by
  cases x with
  | none => exact lv_ifnonnullN hX.1 hX.2.1 hd (kf (by rw [if_pos rfl] at h; exact h) H locs ls hP hS hl)
  | some q => exact lv_ifnonnull hX.1 hX.2.1 hd ht (kt (by rw [if_neg (by simp)] at h; exact h) H locs ls hP hS hl)
/-- a switch's place -/
def gx_to (dflt lo hi : Int) (offs : Array Int) (i : Int) : Int := if i < lo ∨ hi < i then dflt else (offs[(i - lo).toNat]?).getD dflt
theorem gx_tsw (hX : gx_O I X mi n dc ds P' oc) {x : Int32} {dflt lo hi : Int} {offs : Array Int} {len : Nat} {off : Int} {tgt : Nat} (hd : decode mi.2.2.1 pc = .ok (.tableswitch dflt lo hi offs, len)) (hz : (hi - lo).toNat < offs.size) (ho : gx_to dflt lo hi offs x.toInt = off) (ht : (pc : Int) + off = (tgt : Int)) (k : gx_G X P cs ss lv tgt rest) : gx_G X P cs ss lv pc (.int x :: rest) := fun H locs ls hP hS hl => by
  unfold gx_to at ho
  by_cases hc : x.toInt < lo ∨ hi < x.toInt
  · rw [if_pos hc] at ho
    subst ho
    exact lv_tableOut hX.1 hX.2.1 hd hc ht (k H locs ls hP hS hl)
  · rw [if_neg hc] at ho
    have hlt : (x.toInt - lo).toNat < offs.size := by omega
    have he : offs[(x.toInt - lo).toNat]? = some off := by
      rw [Array.getElem?_eq_getElem hlt] at ho ⊢
      exact congrArg some ho
    exact lv_tableIn hX.1 hX.2.1 hd (fun q => hc (Or.inl q)) (fun q => hc (Or.inr q)) he ht (k H locs ls hP hS hl)
theorem gx_lsw (hX : gx_O I X mi n dc ds P' oc) {x : Int32} {dflt : Int} {ps : Array (Int × Int)} {len : Nat} {off : Int} {tgt : Nat} (hd : decode mi.2.2.1 pc = .ok (.lookupswitch dflt ps, len)) (hp : (ps.toList.zip (ps.toList.drop 1)).all (fun (a, next) => a.1 < next.1) = true) (ho : Op.lookupswitch.offset ps.toList dflt x.toInt = off) (ht : (pc : Int) + off = (tgt : Int)) (k : gx_G X P cs ss lv tgt rest) : gx_G X P cs ss lv pc (.int x :: rest) := fun H locs ls hP hS hl => lv_lookup hX.1 hX.2.1 hd hp ho ht (k H locs ls hP hS hl)
theorem gx_nei {x : Int32} {v : Int32} (h : ¬ x = v) : x.toInt ≠ v.toInt := fun q => h (Int32.toInt_inj.mp q)
/-- stores -/
theorem gx_c1i {x : Int32} : ∀ w : Value, some (some (Value.int x)) = some (some w) → w.category = 1 := fun w h => by cases h; rfl
theorem gx_c1r {x : Option Nat} : ∀ w : Value, some (some (va_rf x)) = some (some w) → w.category = 1 := fun w h => by cases h; cases x <;> rfl
theorem gx_c1a {x : Nat} : ∀ w : Value, some (some (Value.ref x)) = some (some w) → w.category = 1 := fun w h => by cases h; rfl
theorem gx_c1n : ∀ w : Value, some (none : Option Value) = some (some w) → w.category = 1 := fun w h => by cases h
theorem gx_cat (x : Option Nat) : (va_rf x).category = 1 := by cases x <;> rfl
theorem gx_istore_n (hX : gx_O I X mi n dc ds P' oc) {k9 : Fin 4} {x : Int32} (hd : decode mi.2.2.1 pc = .ok (.istore_n k9, 1)) (hi : (k9 : Nat) < lv.length) (hp : ∀ w, lv[(k9 : Nat) - 1]? = some (some w) → w.category = 1) {lv' : List (Option Value)} (hs : lv.set (k9 : Nat) (some (.int x)) = lv') (k : gx_G X P cs ss lv' (pc + 1) rest) : gx_G X P cs ss lv pc (.int x :: rest) := fun H locs ls hP hS hl => by
  subst hs
  obtain ⟨ls', e', h'⟩ := gx_store (v := .int x) hl hi rfl hp
  intro T hT Y
  obtain ⟨t, a, b⟩ := k H locs ls' hP hS h' T hT Y
  refine ⟨t, ?_, b⟩
  have hexec := hX.1
  have hb := hX.2.1
  jvm_step Y.here [Y.here.top, ↓top_set Y.here.top, hexec, hb, hd, e']
  exact a
theorem gx_istore (hX : gx_O I X mi n dc ds P' oc) {i : Nat} {x : Int32} (hd : decode mi.2.2.1 pc = .ok (.istore i, 2)) (hi : i < lv.length) (hp : ∀ w, lv[i - 1]? = some (some w) → w.category = 1) {lv' : List (Option Value)} (hs : lv.set i (some (.int x)) = lv') (k : gx_G X P cs ss lv' (pc + 2) rest) : gx_G X P cs ss lv pc (.int x :: rest) := fun H locs ls hP hS hl => by
  subst hs
  obtain ⟨ls', e', h'⟩ := gx_store (v := .int x) hl hi rfl hp
  intro T hT Y
  obtain ⟨t, a, b⟩ := k H locs ls' hP hS h' T hT Y
  refine ⟨t, ?_, b⟩
  have hexec := hX.1
  have hb := hX.2.1
  jvm_step Y.here [Y.here.top, ↓top_set Y.here.top, hexec, hb, hd, e']
  exact a
theorem gx_astore_n (hX : gx_O I X mi n dc ds P' oc) {k9 : Fin 4} {x : Option Nat} (hd : decode mi.2.2.1 pc = .ok (.astore_n k9, 1)) (hi : (k9 : Nat) < lv.length) (hp : ∀ w, lv[(k9 : Nat) - 1]? = some (some w) → w.category = 1) {lv' : List (Option Value)} (hs : lv.set (k9 : Nat) (some (va_rf x)) = lv') (k : gx_G X P cs ss lv' (pc + 1) rest) : gx_G X P cs ss lv pc (va_rf x :: rest) := fun H locs ls hP hS hl => by
  subst hs
  obtain ⟨ls', e', h'⟩ := gx_store (v := va_rf x) hl hi (gx_cat x) hp
  intro T hT Y
  obtain ⟨t, a, b⟩ := k H locs ls' hP hS h' T hT Y
  refine ⟨t, ?_, b⟩
  have hexec := hX.1
  have hb := hX.2.1
  cases x with
  | none =>
    have e1 : storeLocals ls (k9 : Nat) Value.null = some ls' := e'
    show Steps _ _ _ (T.setTop (F0 _ pc ls (Value.null :: rest))) _
    jvm_step Y.here [Y.here.top, ↓top_set Y.here.top, hexec, hb, hd, e1, Value.isRef]
    exact a
  | some q =>
    have e1 : storeLocals ls (k9 : Nat) (Value.ref q) = some ls' := e'
    show Steps _ _ _ (T.setTop (F0 _ pc ls (Value.ref q :: rest))) _
    jvm_step Y.here [Y.here.top, ↓top_set Y.here.top, hexec, hb, hd, e1, Value.isRef]
    exact a
theorem gx_astore (hX : gx_O I X mi n dc ds P' oc) {i : Nat} {x : Option Nat} (hd : decode mi.2.2.1 pc = .ok (.astore i, 2)) (hi : i < lv.length) (hp : ∀ w, lv[i - 1]? = some (some w) → w.category = 1) {lv' : List (Option Value)} (hs : lv.set i (some (va_rf x)) = lv') (k : gx_G X P cs ss lv' (pc + 2) rest) : gx_G X P cs ss lv pc (va_rf x :: rest) := fun H locs ls hP hS hl => by
  subst hs
  obtain ⟨ls', e', h'⟩ := gx_store (v := va_rf x) hl hi (gx_cat x) hp
  intro T hT Y
  obtain ⟨t, a, b⟩ := k H locs ls' hP hS h' T hT Y
  refine ⟨t, ?_, b⟩
  have hexec := hX.1
  have hb := hX.2.1
  cases x with
  | none =>
    have e1 : storeLocals ls i Value.null = some ls' := e'
    show Steps _ _ _ (T.setTop (F0 _ pc ls (Value.null :: rest))) _
    jvm_step Y.here [Y.here.top, ↓top_set Y.here.top, hexec, hb, hd, e1, Value.isRef]
    exact a
  | some q =>
    have e1 : storeLocals ls i (Value.ref q) = some ls' := e'
    show Steps _ _ _ (T.setTop (F0 _ pc ls (Value.ref q :: rest))) _
    jvm_step Y.here [Y.here.top, ↓top_set Y.here.top, hexec, hb, hd, e1, Value.isRef]
    exact a
theorem gx_iinc (hX : gx_O I X mi n dc ds P' oc) {i : Nat} {a : Int} {x v : Int32} (hd : decode mi.2.2.1 pc = .ok (.iinc i a, 3)) (hv : lv[i]? = some (some (.int x))) (ha : Int32.ofInt a = v) (hp : ∀ w, lv[i - 1]? = some (some w) → w.category = 1) {lv' : List (Option Value)} (hs : lv.set i (some (.int (x + v))) = lv') (k : gx_G X P cs ss lv' (pc + 3) rest) : gx_G X P cs ss lv pc rest := fun H locs ls hP hS hl => by
  subst hs
  subst ha
  have hi : i < lv.length := (List.getElem?_eq_some_iff.mp hv).1
  have hg := hl.2.2 _ _ hv
  obtain ⟨ls', e', h'⟩ := gx_store (v := .int (x + Int32.ofInt a)) hl hi rfl hp
  intro T hT Y
  obtain ⟨t, a1, b⟩ := k H locs ls' hP hS h' T hT Y
  refine ⟨t, ?_, b⟩
  have hexec := hX.1
  have hb := hX.2.1
  jvm_step Y.here [Y.here.top, ↓top_set Y.here.top, hexec, hb, hd, hg, e']
  exact a1
theorem gx_sub (hX : gx_O I X mi n dc ds P' oc) {lv' : List (Option Value)} {st : List Value} (hl' : gx_le lv' lv) (k : gx_G X P cs ss lv' pc st) : gx_G X P cs ss lv pc st := fun H locs ls hP hS hl => k H locs ls hP hS (hl.less (gx_le.spec hl').1 (gx_le.spec hl').2)
/-- the ends -/
theorem gx_iret (hX : gx_O I X mi n dc ds P' oc) {v : Int32} (hr : mi.2.2.2.2 = some .int) (hd : decode mi.2.2.1 pc = .ok (.ireturn, 1)) (ho : oc = .returned (some (.int v))) (hc : cs = dc ∧ ss = ds) (hp : ∀ H, P H → P' H) : gx_G X P cs ss lv pc [.int v] := fun H locs ls hP hS hl => by
  obtain ⟨rfl, rfl⟩ := hc
  exact gx_Wm (Q := MQ _ (gx_Qc P' oc (gx_A X)) (gx_args X) (gx_s X) _ _ (gx_A X)) (W.iret hX.1 hX.2.1 (hX.2.2.1.trans hr) (fun t ht hW => ⟨ho.symm, by rw [ht]; exact hp H hP, hS.F ht⟩) hS.2.2 hd hX.2.2.2.2.2.2.1) (fun t h => hX.2.2.2.2.2.2.2.2.1 t (gx_EofM h))
theorem gx_zret (hX : gx_O I X mi n dc ds P' oc) {v : Int32} {ty : FieldType} (hr : mi.2.2.2.2 = some ty) (hn : narrow ty (.int v) = .int v) (hd : decode mi.2.2.1 pc = .ok (.ireturn, 1)) (ho : oc = .returned (some (.int v))) (hc : cs = dc ∧ ss = ds) (hp : ∀ H, P H → P' H) : gx_G X P cs ss lv pc [.int v] := fun H locs ls hP hS hl => by
  obtain ⟨rfl, rfl⟩ := hc
  exact gx_Wm (Q := MQ _ (gx_Qc P' oc (gx_A X)) (gx_args X) (gx_s X) _ _ (gx_A X)) (W.zret hX.1 hX.2.1 (hX.2.2.1.trans hr) hn (fun t ht hW => ⟨ho.symm, by rw [ht]; exact hp H hP, hS.F ht⟩) hS.2.2 hd hX.2.2.2.2.2.2.1) (fun t h => hX.2.2.2.2.2.2.2.2.1 t (gx_EofM h))
theorem gx_vret (hX : gx_O I X mi n dc ds P' oc) (hr : mi.2.2.2.2 = none) (hd : decode mi.2.2.1 pc = .ok (.return_, 1)) (ho : oc = .returned none) (hc : cs = dc ∧ ss = ds) (hp : ∀ H, P H → P' H) : gx_G X P cs ss lv pc [] := fun H locs ls hP hS hl => by
  obtain ⟨rfl, rfl⟩ := hc
  exact gx_Wm (Q := MQ _ (gx_Qc P' oc (gx_A X)) (gx_args X) (gx_s X) _ _ (gx_A X)) (W.vret hX.1 hX.2.1 (hX.2.2.1.trans hr) (fun t ht hW => ⟨ho.symm, by rw [ht]; exact hp H hP, hS.F ht⟩) hS.2.2 hd hX.2.2.2.2.2.2.1) (fun t h => hX.2.2.2.2.2.2.2.2.1 t (gx_EofM h))
theorem gx_aret (hX : gx_O I X mi n dc ds P' oc) {x : Option Nat} {rt : FieldType} (hr : mi.2.2.2.2 = some rt) (hrt : (∃ n, rt = .object n) ∨ ∃ t, rt = .array t) (hd : decode mi.2.2.1 pc = .ok (.areturn, 1)) (ho : oc = .returned (some (va_rf x))) (hc : cs = dc ∧ ss = ds) (hp : ∀ H, P H → P' H) : gx_G X P cs ss lv pc [va_rf x] := fun H locs ls hP hS hl => by
  obtain ⟨rfl, rfl⟩ := hc
  exact gx_Wm (Q := MQ _ (gx_Qc P' oc (gx_A X)) (gx_args X) (gx_s X) _ _ (gx_A X)) (W.aret hX.1 hX.2.1 (hX.2.2.1.trans hr) hrt (by cases x with | none => exact Or.inl rfl | some a => exact Or.inr ⟨a, rfl⟩) (fun t ht hW => ⟨ho.symm, by rw [ht]; exact hp H hP, hS.F ht⟩) hS.2.2 hd hX.2.2.2.2.2.2.1) (fun t h => hX.2.2.2.2.2.2.2.2.1 t (gx_EofM h))
end GXR
