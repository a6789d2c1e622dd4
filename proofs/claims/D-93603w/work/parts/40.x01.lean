set_option maxRecDepth 100000
abbrev iJ0_init : gx_M := (RJ0, "<init>", cJ0_init, 1, none)
theorem dsJ0_init : gx_ds yJ0_init 0 := by decide +kernel
def fJ0_init (x0 : Nat) (σ : xk_C)  : Option (Unit) := some (())
set_option maxHeartbeats 4000000 in
theorem tJ0_init (w : gw_W) (A : Nat → Prop) (l : Launch) (x0 : Nat) (σ : xk_C)  {r : Unit} (h : fJ0_init x0 σ = some r) : gx_T (gw_I w A) A l yJ0_init iJ0_init 2 [va_rf (some x0)] (xk_P A w σ) 0 0 (xk_P A w σ) (.returned none) := by
  refine gx_T.of (gw_I.inv w A) (by decide) ⟨rfl, rfl⟩ (gx_kR gx_k0) (Nat.le_of_ble_eq_true rfl) (fun X hl hAx hX => ?_)
  subst hl
  subst hAx
  show gx_G X (xk_P (gx_A X) w (σ)) 0 0 [some (va_rf (some x0))] 0 []
  unfold fJ0_init at h
  refine gx_aload_n hX dJ0_init_0 rfl ?_
  refine gx_obj (b := x0) hX ⟨q140, q127, q128⟩ (by decide) (gx_w8 gx_k0 (Nat.le_of_ble_eq_true rfl)) dJ0_init_1 rfl ?_
  cases h
  exact gx_vret hX rfl dJ0_init_4 rfl ⟨rfl, rfl⟩ (fun _ h => h)
abbrev iJ1_init : gx_M := (RJ1, "<init>", cJ1_init, 1, none)
theorem dsJ1_init : gx_ds yJ1_init 0 := by decide +kernel
def fJ1_init (x0 : Nat) (σ : xk_C)  : Option (xk_C × Unit) := (fJ0_init (x0) (σ)).bind fun r1 => (xk_pi (σ) 101 (some x0) (0)).bind fun σ2 => some (σ2, ())
set_option maxHeartbeats 4000000 in
theorem eJ1_init {x0 : Nat} {σ : xk_C}  : ∀ p, fJ1_init x0 σ = some p → xk_n p.1 = xk_n σ ∧ xk_s p.1 = xk_s σ := fun r => show xk_er r σ (fJ1_init x0 σ) from by
  unfold fJ1_init
  exact (xk_er_rd (fun _ => (xk_er_op xk_e_pi (fun _ => xk_er_ret))))
theorem mJ1_init {x0 : Nat} {σ : xk_C}  : ∀ p, fJ1_init x0 σ = some p → xk_n σ ≤ xk_n p.1 ∧ xk_s σ ≤ xk_s p.1 := fun p h => xk_le_of (eJ1_init p h)
set_option maxHeartbeats 4000000 in
theorem tJ1_init (w : gw_W) (A : Nat → Prop) (l : Launch) (x0 : Nat) (σ : xk_C)  {r : xk_C × Unit} (h : fJ1_init x0 σ = some r) : gx_T (gw_I w A) A l yJ1_init iJ1_init 3 [va_rf (some x0)] (xk_P A w σ) 0 0 (xk_P A w r.1) (.returned none) := by
  refine gx_T.of (gw_I.inv w A) (by decide) ⟨rfl, rfl⟩ (gx_kR gx_k0) (Nat.le_of_ble_eq_true rfl) (fun X hl hAx hX => ?_)
  subst hl
  subst hAx
  show gx_G X (xk_P (gx_A X) w (σ)) 0 0 [some (va_rf (some x0))] 0 []
  unfold fJ1_init at h
  refine gx_aload_n hX dJ1_init_0 rfl ?_
  obtain ⟨r1, hr1, h⟩ := gx_bs h
  refine gx_cI (As := []) (rest := []) (b := x0) (C2 := RJ0) (nm2 := "<init>") hX (tJ0_init w (gx_A X) (gx_l X) (x0) (σ)  hr1) (lw_meth q139) ⟨q87, q137, q138⟩ ⟨rfl, dsJ0_init⟩ (by decide) (Nat.le_of_ble_eq_true rfl) rfl (gx_w8 gx_k0 (Nat.le_of_ble_eq_true rfl)) dJ1_init_1 ⟨Nat.le_refl _, Nat.le_refl _⟩ rfl ?_
  refine gx_aload_n hX dJ1_init_4 rfl ?_
  refine gx_iconst (v := 0) hX dJ1_init_5 (by decide) ?_
  refine xk_puti hX 101 xk_ty101 rfl q145 (fun _ h => h) rfl rfl dJ1_init_6 h (fun σ2 hτ h => ?_)
  cases h
  exact gx_vret hX rfl dJ1_init_9 rfl ⟨rfl, rfl⟩ (fun _ h => h)
abbrev iJ13_bitCount : gx_M := (RJ13, "bitCount", cJ13_bitCount, 1, some .int)
theorem dsJ13_bitCount : gx_ds yJ13_bitCount 1 := by decide +kernel
def fJ13_bitCount (x0 : Int32) : Option (Int32) := (some ((x0) - ((((x0 : Int32).toUInt32 >>> ((1 : Int32).toUInt32 &&& Int32.toUInt32 31)).toInt32) &&& ((1431655765))))).bind fun v1 => (some (((v1) &&& ((858993459))) + ((((v1 : Int32).toUInt32 >>> ((2 : Int32).toUInt32 &&& Int32.toUInt32 31)).toInt32) &&& ((858993459))))).bind fun v2 => (some (((v2) + (((v2 : Int32).toUInt32 >>> ((4 : Int32).toUInt32 &&& Int32.toUInt32 31)).toInt32)) &&& ((252645135)))).bind fun v3 => (some ((v3) + (((v3 : Int32).toUInt32 >>> ((nI 8 : Int32).toUInt32 &&& Int32.toUInt32 31)).toInt32))).bind fun v4 => (some ((v4) + (((v4 : Int32).toUInt32 >>> ((nI 16 : Int32).toUInt32 &&& Int32.toUInt32 31)).toInt32))).bind fun v5 => some ((v5) &&& (nI 63))
set_option maxHeartbeats 4000000 in
theorem tJ13_bitCount (w : gw_W) (A : Nat → Prop) (l : Launch) (P : Heap → Prop) (x0 : Int32) {r : Int32} (h : fJ13_bitCount x0 = some r) : gx_T (gw_I w A) A l yJ13_bitCount iJ13_bitCount 1 [.int (x0)] (P) 0 0 (P) (.returned (some (.int r))) := by
  refine gx_T.of (gw_I.inv w A) (by decide) ⟨rfl, rfl⟩ (gx_kI gx_k0) (Nat.le_of_ble_eq_true rfl) (fun X hl hAx hX => ?_)
  subst hl
  subst hAx
  show gx_G X (P) 0 0 [some (.int (x0))] 0 []
  unfold fJ13_bitCount at h
  refine gx_iload_n hX dJ13_bitCount_0 rfl ?_
  refine gx_iload_n hX dJ13_bitCount_1 rfl ?_
  refine gx_iconst (v := 1) hX dJ13_bitCount_2 (by decide) ?_
  refine gx_iushr hX dJ13_bitCount_3 ?_
  refine gx_ldcw (v := (1431655765)) hX dJ13_bitCount_4 q1046 ?_
  refine gx_iand hX dJ13_bitCount_7 ?_
  refine gx_isub hX dJ13_bitCount_8 ?_
  obtain ⟨v1, hvv1, h⟩ := gx_bs h
  rw [Option.some.inj hvv1]
  refine gx_istore_n hX dJ13_bitCount_9 (Nat.le_of_ble_eq_true rfl) gx_c1i (lv' := [some (.int (v1))]) rfl ?_
  refine gx_iload_n hX dJ13_bitCount_10 rfl ?_
  refine gx_ldcw (v := (858993459)) hX dJ13_bitCount_11 q1047 ?_
  refine gx_iand hX dJ13_bitCount_14 ?_
  refine gx_iload_n hX dJ13_bitCount_15 rfl ?_
  refine gx_iconst (v := 2) hX dJ13_bitCount_16 (by decide) ?_
  refine gx_iushr hX dJ13_bitCount_17 ?_
  refine gx_ldcw (v := (858993459)) hX dJ13_bitCount_18 q1047 ?_
  refine gx_iand hX dJ13_bitCount_21 ?_
  refine gx_iadd hX dJ13_bitCount_22 ?_
  obtain ⟨v2, hvv2, h⟩ := gx_bs h
  rw [Option.some.inj hvv2]
  refine gx_istore_n hX dJ13_bitCount_23 (Nat.le_of_ble_eq_true rfl) gx_c1i (lv' := [some (.int (v2))]) rfl ?_
  refine gx_iload_n hX dJ13_bitCount_24 rfl ?_
  refine gx_iload_n hX dJ13_bitCount_25 rfl ?_
  refine gx_iconst (v := 4) hX dJ13_bitCount_26 (by decide) ?_
  refine gx_iushr hX dJ13_bitCount_27 ?_
  refine gx_iadd hX dJ13_bitCount_28 ?_
  refine gx_ldcw (v := (252645135)) hX dJ13_bitCount_29 q1048 ?_
  refine gx_iand hX dJ13_bitCount_32 ?_
  obtain ⟨v3, hvv3, h⟩ := gx_bs h
  rw [Option.some.inj hvv3]
  refine gx_istore_n hX dJ13_bitCount_33 (Nat.le_of_ble_eq_true rfl) gx_c1i (lv' := [some (.int (v3))]) rfl ?_
  refine gx_iload_n hX dJ13_bitCount_34 rfl ?_
  refine gx_iload_n hX dJ13_bitCount_35 rfl ?_
  refine gx_bipush (v := nI 8) hX dJ13_bitCount_36 (by decide) ?_
  refine gx_iushr hX dJ13_bitCount_38 ?_
  refine gx_iadd hX dJ13_bitCount_39 ?_
  obtain ⟨v4, hvv4, h⟩ := gx_bs h
  rw [Option.some.inj hvv4]
  refine gx_istore_n hX dJ13_bitCount_40 (Nat.le_of_ble_eq_true rfl) gx_c1i (lv' := [some (.int (v4))]) rfl ?_
  refine gx_iload_n hX dJ13_bitCount_41 rfl ?_
  refine gx_iload_n hX dJ13_bitCount_42 rfl ?_
  refine gx_bipush (v := nI 16) hX dJ13_bitCount_43 (by decide) ?_
  refine gx_iushr hX dJ13_bitCount_45 ?_
  refine gx_iadd hX dJ13_bitCount_46 ?_
  obtain ⟨v5, hvv5, h⟩ := gx_bs h
  rw [Option.some.inj hvv5]
  refine gx_istore_n hX dJ13_bitCount_47 (Nat.le_of_ble_eq_true rfl) gx_c1i (lv' := [some (.int (v5))]) rfl ?_
  refine gx_iload_n hX dJ13_bitCount_48 rfl ?_
  refine gx_bipush (v := nI 63) hX dJ13_bitCount_49 (by decide) ?_
  refine gx_iand hX dJ13_bitCount_51 ?_
  cases h
  exact gx_iret hX rfl dJ13_bitCount_52 rfl ⟨rfl, rfl⟩ (fun _ h => h)
abbrev iJ2_init : gx_M := (RJ2, "<init>", cJ2_init, 1, none)
theorem dsJ2_init : gx_ds yJ2_init 0 := by decide +kernel
def fJ2_init (x0 : Nat) (σ : xk_C)  : Option (xk_C × Unit) := (fJ1_init (x0) (σ)).bind fun r1 => (xk_pr (r1.1) 102 (some x0) (some (xk_d (r1.1)))).bind fun σ2 => some (σ2, ())
set_option maxHeartbeats 4000000 in
theorem eJ2_init {x0 : Nat} {σ : xk_C}  : ∀ p, fJ2_init x0 σ = some p → xk_n p.1 = xk_n σ ∧ xk_s p.1 = xk_s σ := fun r => show xk_er r σ (fJ2_init x0 σ) from by
  unfold fJ2_init
  exact (xk_er_ca (eJ1_init) (fun _ => (xk_er_op xk_e_pr (fun _ => xk_er_ret))))
theorem mJ2_init {x0 : Nat} {σ : xk_C}  : ∀ p, fJ2_init x0 σ = some p → xk_n σ ≤ xk_n p.1 ∧ xk_s σ ≤ xk_s p.1 := fun p h => xk_le_of (eJ2_init p h)
set_option maxHeartbeats 4000000 in
theorem tJ2_init (w : gw_W) (A : Nat → Prop) (l : Launch) (x0 : Nat) (σ : xk_C)  {r : xk_C × Unit} (h : fJ2_init x0 σ = some r) : gx_T (gw_I w A) A l yJ2_init iJ2_init 4 [va_rf (some x0)] (xk_P A w σ) 0 0 (xk_P A w r.1) (.returned none) := by
  refine gx_T.of (gw_I.inv w A) (by decide) ⟨rfl, rfl⟩ (gx_kR gx_k0) (Nat.le_of_ble_eq_true rfl) (fun X hl hAx hX => ?_)
  subst hl
  subst hAx
  show gx_G X (xk_P (gx_A X) w (σ)) 0 0 [some (va_rf (some x0))] 0 []
  unfold fJ2_init at h
  refine gx_aload_n hX dJ2_init_0 rfl ?_
  obtain ⟨r1, hr1, h⟩ := gx_bs h
  refine gx_cI (As := []) (rest := []) (b := x0) (C2 := RJ1) (nm2 := "<init>") hX (tJ1_init w (gx_A X) (gx_l X) (x0) (σ)  hr1) (lw_meth q136) ⟨q88, q134, q135⟩ ⟨rfl, dsJ1_init⟩ (by decide) (Nat.le_of_ble_eq_true rfl) rfl (gx_w8 gx_k0 (Nat.le_of_ble_eq_true rfl)) dJ2_init_1 ⟨Nat.le_refl _, Nat.le_refl _⟩ rfl ?_
  refine gx_aload_n hX dJ2_init_4 rfl ?_
  refine xk_gsd hX q141 dJ2_init_5 ?_
  refine xk_putr hX 102 xk_ty102 (Or.inr ⟨_, rfl⟩) q143 (fun _ h => h) rfl rfl dJ2_init_8 h (fun σ2 hτ h => ?_)
  cases h
  exact gx_vret hX rfl dJ2_init_11 rfl ⟨rfl, rfl⟩ (fun _ h => h)
abbrev iJ2_size : gx_M := (RJ2, "size", cJ2_size, 1, some .int)
theorem dsJ2_size : gx_ds yJ2_size 0 := by decide +kernel
def fJ2_size (x0 : Nat) (σ : xk_C)  : Option (Int32) := (xk_gi (σ) 103 (some x0)).bind fun v1 => some (v1)
set_option maxHeartbeats 4000000 in
theorem tJ2_size (w : gw_W) (A : Nat → Prop) (l : Launch) (x0 : Nat) (σ : xk_C)  {r : Int32} (h : fJ2_size x0 σ = some r) : gx_T (gw_I w A) A l yJ2_size iJ2_size 1 [va_rf (some x0)] (xk_P A w σ) 0 0 (xk_P A w σ) (.returned (some (.int r))) := by
  refine gx_T.of (gw_I.inv w A) (by decide) ⟨rfl, rfl⟩ (gx_kR gx_k0) (Nat.le_of_ble_eq_true rfl) (fun X hl hAx hX => ?_)
  subst hl
  subst hAx
  show gx_G X (xk_P (gx_A X) w (σ)) 0 0 [some (va_rf (some x0))] 0 []
  unfold fJ2_size at h
  refine gx_aload_n hX dJ2_size_0 rfl ?_
  refine xk_geti hX 103 q144 (fun _ h => h) rfl dJ2_size_1 h (fun v1 h => ?_)
  cases h
  exact gx_iret hX rfl dJ2_size_4 rfl ⟨rfl, rfl⟩ (fun _ h => h)
abbrev iJ5_copyOf_2 : gx_M := (RJ5, "copyOf", cJ5_copyOf_2, 4, some (.array (.object "java/lang/Object")))
theorem dsJ5_copyOf_2 : gx_ds yJ5_copyOf_2 3 := by decide +kernel
def fJ5_copyOf_2_B24   (σ : xk_C) (x0 : Option Nat) (x1 : Int32) (y0 : Option Nat) : Option (xk_C × Option Nat) := (xk_al (σ) 4 (x0)).bind fun v2 => (some (if (x1) < (v2) then (x1) else (v2))).bind fun v3 => (xk_cpq (σ) 4 (x0) (0) (y0) (0) (v3)).bind fun σ4 => some (σ4, y0)
set_option maxHeartbeats 4000000 in
theorem lJ5_copyOf_2_B24 {r : xk_C × Option Nat}   {σ : xk_C} {x0 : Option Nat} {x1 : Int32} {y0 : Option Nat} : xk_lr r σ (fJ5_copyOf_2_B24  σ x0 x1 y0) := by
  unfold fJ5_copyOf_2_B24
  exact (xk_lr_rd (fun _ => (xk_lr_rd (fun _ => (xk_lr_op xk_m_cpq (fun _ => xk_lr_ret))))))
set_option maxHeartbeats 4000000 in
theorem tJ5_copyOf_2_B24 {w : gw_W} {X : gx_X} {n0 s0 : Nat} {r : xk_C × Option Nat} (hX : gx_O (gw_I w (gx_A X)) X iJ5_copyOf_2 2 (xk_n r.1 - n0) (xk_s r.1 - s0) (xk_P (gx_A X) w r.1) (.returned (some (va_rf r.2))))  {σ : xk_C} {x0 : Option Nat} {x1 : Int32} {y0 : Option Nat} (hm : n0 ≤ xk_n σ ∧ s0 ≤ xk_s σ) (h : fJ5_copyOf_2_B24 σ x0 x1 y0 = some r) : gx_G X (xk_P (gx_A X) w (σ)) (xk_n (σ) - n0) (xk_s (σ) - s0) [some (va_rf (x0)), some (.int (x1)), none, none] 24 [va_rf (y0)] := by
  have hu := lJ5_copyOf_2_B24 (r := r)  h
  unfold fJ5_copyOf_2_B24 at h
  refine gx_astore_n hX dJ5_copyOf_2_24 (Nat.le_of_ble_eq_true rfl) gx_c1n (lv' := [some (va_rf (x0)), some (.int (x1)), none, some (va_rf (y0))]) rfl ?_
  refine gx_aload_n hX dJ5_copyOf_2_25 rfl ?_
  refine gx_iconst (v := 0) hX dJ5_copyOf_2_26 (by decide) ?_
  refine gx_aload_n hX dJ5_copyOf_2_27 rfl ?_
  refine gx_iconst (v := 0) hX dJ5_copyOf_2_28 (by decide) ?_
  refine gx_aload_n hX dJ5_copyOf_2_29 rfl ?_
  refine xk_alen hX 4 (by decide) dJ5_copyOf_2_30 h (fun v2 h => ?_)
  refine gx_iload_n hX dJ5_copyOf_2_31 rfl ?_
  obtain ⟨v3, hvv3, h⟩ := gx_bs h
  refine gx_mmin hX ⟨q417, q418, q95, q419⟩ (by decide) (gx_w8 (gx_kI (gx_kR (gx_kI (gx_kR gx_k0)))) (Nat.le_of_ble_eq_true rfl)) rfl dJ5_copyOf_2_32 (xk_hf0 hu) ?_
  rw [Option.some.inj hvv3]
  refine xk_copyq hX 4 ⟨by decide, by decide⟩ ⟨q420, q422, q421, q97⟩ (by decide) (gx_w8 gx_k0 (Nat.le_of_ble_eq_true rfl)) rfl dJ5_copyOf_2_35 h (fun σ4 hτ h => xk_Gt hτ ?_)
  have hm := xk_hme hm hτ
  have hu := xk_hue hu hτ
  refine gx_aload_n hX dJ5_copyOf_2_38 rfl ?_
  cases h
  exact gx_aret hX rfl (Or.inr ⟨_, rfl⟩) dJ5_copyOf_2_39 rfl ⟨rfl, rfl⟩ (fun _ h => h)
def fJ5_copyOf_2 (σ : xk_C) (x0 : Option Nat) (x1 : Int32) (x2 : Option Nat) : Option (xk_C × Option Nat) := if x2 = some (xk_mi (σ)) then (xk_na (σ) 4 (x1)).bind fun σ1 => fJ5_copyOf_2_B24 (σ1) (x0) (x1) (some (xk_n (σ))) else none
set_option maxHeartbeats 4000000 in
theorem mJ5_copyOf_2 {σ : xk_C} {x0 : Option Nat} {x1 : Int32} {x2 : Option Nat} : ∀ p, fJ5_copyOf_2 σ x0 x1 x2 = some p → xk_n σ ≤ xk_n p.1 ∧ xk_s σ ≤ xk_s p.1 := fun r => show xk_lr r σ (fJ5_copyOf_2 σ x0 x1 x2) from by
  unfold fJ5_copyOf_2
  exact (xk_lr_ite (xk_lr_op xk_m_na (fun _ => (lJ5_copyOf_2_B24 ))) xk_lr_none)
set_option maxHeartbeats 4000000 in
theorem tJ5_copyOf_2 (w : gw_W) (A : Nat → Prop) (l : Launch) (σ : xk_C) (x0 : Option Nat) (x1 : Int32) (x2 : Option Nat) {r : xk_C × Option Nat} (h : fJ5_copyOf_2 σ x0 x1 x2 = some r) : gx_T (gw_I w A) A l yJ5_copyOf_2 iJ5_copyOf_2 2 [va_rf (x0), .int (x1), va_rf (x2)] (xk_P A w σ) (xk_n r.1 - xk_n σ) (xk_s r.1 - xk_s σ) (xk_P A w r.1) (.returned (some (va_rf r.2))) := by
  refine gx_T.of (gw_I.inv w A) (by decide) ⟨rfl, rfl⟩ (gx_kR (gx_kI (gx_kR gx_k0))) (Nat.le_of_ble_eq_true rfl) (fun X hl hAx hX => ?_)
  subst hl
  subst hAx
  show gx_G X (xk_P (gx_A X) w (σ)) 0 0 [some (va_rf (x0)), some (.int (x1)), some (va_rf (x2)), none] 0 []
  have hu := mJ5_copyOf_2 _ h
  unfold fJ5_copyOf_2 at h
  refine xk_G0 (a := xk_n σ) (b := xk_s σ) ?_
  have hm : xk_n σ ≤ xk_n σ ∧ xk_s σ ≤ xk_s σ := ⟨Nat.le_refl _, Nat.le_refl _⟩
  refine gx_aload_n hX dJ5_copyOf_2_0 rfl ?_
  refine xk_ldm hX q414 dJ5_copyOf_2_1 ?_
  refine gx_acmp_ne (tgt := 13) hX dJ5_copyOf_2_3 (by decide) h (fun h => ?_) (fun h => ?_)
  · refine gx_iload_n hX dJ5_copyOf_2_6 rfl ?_
    refine xk_anew hX 4 ⟨by decide, by decide⟩ q416 dJ5_copyOf_2_7 h (fun σ1 hτ h => ?_)
    have hu := xk_use (C := σ1) h (lJ5_copyOf_2_B24 )
    refine ⟨xk_hfm hm hτ hu, xk_Gm hm hτ ?_⟩
    have hm := xk_hmm hm hτ
    refine gx_goto (tgt := 24) hX dJ5_copyOf_2_10 (by decide) ?_
    refine gx_sub hX (lv' := [some (va_rf (x0)), some (.int (x1)), none, none]) ⟨Or.inr rfl, ⟨Or.inr rfl, ⟨Or.inl rfl, ⟨Or.inr rfl, trivial⟩⟩⟩⟩ ?_
    exact tJ5_copyOf_2_B24 hX  hm h
  · refine gx_aload_n hX dJ5_copyOf_2_13 rfl ?_
    cases h
abbrev iJ5_copyOf : gx_M := (RJ5, "copyOf", cJ5_copyOf, 2, some (.array (.object "java/lang/Object")))
theorem dsJ5_copyOf : gx_ds yJ5_copyOf 2 := by decide +kernel
def fJ5_copyOf (σ : xk_C) (x0 : Option Nat) (x1 : Int32) : Option (xk_C × Option Nat) := (xk_is (σ) 34 (x0)).bind fun v1 => (fJ5_copyOf_2 (σ) (x0) (x1) (some (xk_mi (σ)))).bind fun r2 => some (r2.1, r2.2)
set_option maxHeartbeats 4000000 in
theorem mJ5_copyOf {σ : xk_C} {x0 : Option Nat} {x1 : Int32} : ∀ p, fJ5_copyOf σ x0 x1 = some p → xk_n σ ≤ xk_n p.1 ∧ xk_s σ ≤ xk_s p.1 := fun r => show xk_lr r σ (fJ5_copyOf σ x0 x1) from by
  unfold fJ5_copyOf
  exact (xk_lr_rd (fun _ => (xk_lr_ca (mJ5_copyOf_2) (fun _ => xk_lr_ret))))
set_option maxHeartbeats 4000000 in
theorem tJ5_copyOf (w : gw_W) (A : Nat → Prop) (l : Launch) (σ : xk_C) (x0 : Option Nat) (x1 : Int32) {r : xk_C × Option Nat} (h : fJ5_copyOf σ x0 x1 = some r) : gx_T (gw_I w A) A l yJ5_copyOf iJ5_copyOf 3 [va_rf (x0), .int (x1)] (xk_P A w σ) (xk_n r.1 - xk_n σ) (xk_s r.1 - xk_s σ) (xk_P A w r.1) (.returned (some (va_rf r.2))) := by
  refine gx_T.of (gw_I.inv w A) (by decide) ⟨rfl, rfl⟩ (gx_kR (gx_kI gx_k0)) (Nat.le_of_ble_eq_true rfl) (fun X hl hAx hX => ?_)
  subst hl
  subst hAx
  show gx_G X (xk_P (gx_A X) w (σ)) 0 0 [some (va_rf (x0)), some (.int (x1))] 0 []
  have hu := mJ5_copyOf _ h
  unfold fJ5_copyOf at h
  refine xk_G0 (a := xk_n σ) (b := xk_s σ) ?_
  have hm : xk_n σ ≤ xk_n σ ∧ xk_s σ ≤ xk_s σ := ⟨Nat.le_refl _, Nat.le_refl _⟩
  refine gx_aload_n hX dJ5_copyOf_0 rfl ?_
  refine gx_iload_n hX dJ5_copyOf_1 rfl ?_
  refine gx_aload_n hX dJ5_copyOf_2 rfl ?_
  refine xk_gcl hX ⟨q386, q387, q410, q1902⟩ q1903 (by decide) (gx_w8 (gx_kI (gx_kR gx_k0)) (Nat.le_of_ble_eq_true rfl)) rfl dJ5_copyOf_3 h (fun v1 h => ?_)
  obtain ⟨r2, hr2, h⟩ := gx_bs h
  have hl := (mJ5_copyOf_2) _ hr2
  have hu := xk_use (C := r2.1) h xk_lr_ret
  refine gx_cS (As := [va_rf (x0), .int (x1), va_rf (some (xk_mi (σ)))]) (rest := []) hX (tJ5_copyOf_2 w (gx_A X) (gx_l X) (σ) (x0) (x1) (some (xk_mi (σ))) hr2) (lw_S q411 q412 q96 q413) dsJ5_copyOf_2 (by decide) (Nat.le_of_ble_eq_true rfl) rfl (gx_w8 gx_k0 (Nat.le_of_ble_eq_true rfl)) dJ5_copyOf_6 (xk_hfc hm hl hu) rfl (xk_Gc hm hl ?_)
  have hm := xk_hmc hm hl
  cases h
  exact gx_aret hX rfl (Or.inr ⟨_, rfl⟩) dJ5_copyOf_9 rfl ⟨rfl, rfl⟩ (fun _ h => h)
abbrev iJ3_hugeLength : gx_M := (RJ3, "hugeLength", cJ3_hugeLength, 3, some .int)
theorem dsJ3_hugeLength : gx_ds yJ3_hugeLength 2 := by decide +kernel
def fJ3_hugeLength (σ : xk_C) (x0 : Int32) (x1 : Int32) : Option (xk_C × Int32) := if 0 ≤ ((x0) + (x1)) then if ((2147483639)) < (x0) + (x1) then some (σ, (x0) + (x1)) else some (σ, (2147483639)) else none
set_option maxHeartbeats 4000000 in
theorem mJ3_hugeLength {σ : xk_C} {x0 : Int32} {x1 : Int32} : ∀ p, fJ3_hugeLength σ x0 x1 = some p → xk_n σ ≤ xk_n p.1 ∧ xk_s σ ≤ xk_s p.1 := fun r => show xk_lr r σ (fJ3_hugeLength σ x0 x1) from by
  unfold fJ3_hugeLength
  exact (xk_lr_ite (xk_lr_ite xk_lr_ret xk_lr_ret) xk_lr_none)
set_option maxHeartbeats 4000000 in
theorem tJ3_hugeLength (w : gw_W) (A : Nat → Prop) (l : Launch) (σ : xk_C) (x0 : Int32) (x1 : Int32) {r : xk_C × Int32} (h : fJ3_hugeLength σ x0 x1 = some r) : gx_T (gw_I w A) A l yJ3_hugeLength iJ3_hugeLength 1 [.int (x0), .int (x1)] (xk_P A w σ) (xk_n r.1 - xk_n σ) (xk_s r.1 - xk_s σ) (xk_P A w r.1) (.returned (some (.int r.2))) := by
  refine gx_T.of (gw_I.inv w A) (by decide) ⟨rfl, rfl⟩ (gx_kI (gx_kI gx_k0)) (Nat.le_of_ble_eq_true rfl) (fun X hl hAx hX => ?_)
  subst hl
  subst hAx
  show gx_G X (xk_P (gx_A X) w (σ)) 0 0 [some (.int (x0)), some (.int (x1)), none] 0 []
  have hu := mJ3_hugeLength _ h
  unfold fJ3_hugeLength at h
  refine xk_G0 (a := xk_n σ) (b := xk_s σ) ?_
  have hm : xk_n σ ≤ xk_n σ ∧ xk_s σ ≤ xk_s σ := ⟨Nat.le_refl _, Nat.le_refl _⟩
  refine gx_iload_n hX dJ3_hugeLength_0 rfl ?_
  refine gx_iload_n hX dJ3_hugeLength_1 rfl ?_
  refine gx_iadd hX dJ3_hugeLength_2 ?_
  refine gx_istore_n hX dJ3_hugeLength_3 (Nat.le_of_ble_eq_true rfl) gx_c1i (lv' := [some (.int (x0)), some (.int (x1)), some (.int ((x0) + (x1)))]) rfl ?_
  refine gx_iload_n hX dJ3_hugeLength_4 rfl ?_
  refine gx_if_ge (tgt := 49) hX dJ3_hugeLength_5 (by decide) h (fun h => ?_) (fun h => ?_)
  · refine gx_iload_n hX dJ3_hugeLength_49 rfl ?_
    refine gx_ldc (v := (2147483639)) hX dJ3_hugeLength_50 q379 ?_
    refine gx_icmp_gt (tgt := 58) hX dJ3_hugeLength_52 (by decide) h (fun h => ?_) (fun h => ?_)
    · refine gx_iload_n hX dJ3_hugeLength_58 rfl ?_
      cases h
      exact gx_iret hX rfl dJ3_hugeLength_59 rfl ⟨rfl, rfl⟩ (fun _ h => h)
    · refine gx_ldc (v := (2147483639)) hX dJ3_hugeLength_55 q379 ?_
      cases h
      exact gx_iret hX rfl dJ3_hugeLength_57 rfl ⟨rfl, rfl⟩ (fun _ h => h)
  · cases h
abbrev iJ3_newLength : gx_M := (RJ3, "newLength", cJ3_newLength, 4, some .int)
theorem dsJ3_newLength : gx_ds yJ3_newLength 3 := by decide +kernel
def fJ3_newLength_B21   (σ : xk_C) (x0 : Int32) (x1 : Int32) : Option (xk_C × Int32) := (fJ3_hugeLength (σ) (x0) (x1)).bind fun r2 => some (r2.1, r2.2)
set_option maxHeartbeats 4000000 in
theorem lJ3_newLength_B21 {r : xk_C × Int32}   {σ : xk_C} {x0 : Int32} {x1 : Int32} : xk_lr r σ (fJ3_newLength_B21  σ x0 x1) := by
  unfold fJ3_newLength_B21
  exact (xk_lr_ca (mJ3_hugeLength) (fun _ => xk_lr_ret))
set_option maxHeartbeats 4000000 in
theorem tJ3_newLength_B21 {w : gw_W} {X : gx_X} {n0 s0 : Nat} {r : xk_C × Int32} (hX : gx_O (gw_I w (gx_A X)) X iJ3_newLength 2 (xk_n r.1 - n0) (xk_s r.1 - s0) (xk_P (gx_A X) w r.1) (.returned (some (.int r.2))))  {σ : xk_C} {x0 : Int32} {x1 : Int32} (hm : n0 ≤ xk_n σ ∧ s0 ≤ xk_s σ) (h : fJ3_newLength_B21 σ x0 x1 = some r) : gx_G X (xk_P (gx_A X) w (σ)) (xk_n (σ) - n0) (xk_s (σ) - s0) [some (.int (x0)), some (.int (x1)), none, none] 21 [] := by
  have hu := lJ3_newLength_B21 (r := r)  h
  unfold fJ3_newLength_B21 at h
  refine gx_iload_n hX dJ3_newLength_21 rfl ?_
  refine gx_iload_n hX dJ3_newLength_22 rfl ?_
  obtain ⟨r2, hr2, h⟩ := gx_bs h
  have hl := (mJ3_hugeLength) _ hr2
  have hu := xk_use (C := r2.1) h xk_lr_ret
  refine gx_cS (As := [.int (x0), .int (x1)]) (rest := []) hX (tJ3_hugeLength w (gx_A X) (gx_l X) (σ) (x0) (x1) hr2) (lw_S q380 q381 q94 q382) dsJ3_hugeLength (by decide) (Nat.le_of_ble_eq_true rfl) rfl (gx_w8 gx_k0 (Nat.le_of_ble_eq_true rfl)) dJ3_newLength_23 (xk_hfc hm hl hu) rfl (xk_Gc hm hl ?_)
  have hm := xk_hmc hm hl
  cases h
  exact gx_iret hX rfl dJ3_newLength_26 rfl ⟨rfl, rfl⟩ (fun _ h => h)
def fJ3_newLength (σ : xk_C) (x0 : Int32) (x1 : Int32) (x2 : Int32) : Option (xk_C × Int32) := (some (if (x1) < (x2) then (x2) else (x1))).bind fun v1 => if ((x0) + (v1)) ≤ 0 then fJ3_newLength_B21 (σ) (x0) (x1) else if ((2147483639)) < (x0) + (v1) then fJ3_newLength_B21 (σ) (x0) (x1) else some (σ, (x0) + (v1))
set_option maxHeartbeats 4000000 in
theorem mJ3_newLength {σ : xk_C} {x0 : Int32} {x1 : Int32} {x2 : Int32} : ∀ p, fJ3_newLength σ x0 x1 x2 = some p → xk_n σ ≤ xk_n p.1 ∧ xk_s σ ≤ xk_s p.1 := fun r => show xk_lr r σ (fJ3_newLength σ x0 x1 x2) from by
  unfold fJ3_newLength
  exact (xk_lr_rd (fun _ => (xk_lr_ite (lJ3_newLength_B21 ) (xk_lr_ite (lJ3_newLength_B21 ) xk_lr_ret))))
set_option maxHeartbeats 4000000 in
theorem tJ3_newLength (w : gw_W) (A : Nat → Prop) (l : Launch) (σ : xk_C) (x0 : Int32) (x1 : Int32) (x2 : Int32) {r : xk_C × Int32} (h : fJ3_newLength σ x0 x1 x2 = some r) : gx_T (gw_I w A) A l yJ3_newLength iJ3_newLength 2 [.int (x0), .int (x1), .int (x2)] (xk_P A w σ) (xk_n r.1 - xk_n σ) (xk_s r.1 - xk_s σ) (xk_P A w r.1) (.returned (some (.int r.2))) := by
  refine gx_T.of (gw_I.inv w A) (by decide) ⟨rfl, rfl⟩ (gx_kI (gx_kI (gx_kI gx_k0))) (Nat.le_of_ble_eq_true rfl) (fun X hl hAx hX => ?_)
  subst hl
  subst hAx
  show gx_G X (xk_P (gx_A X) w (σ)) 0 0 [some (.int (x0)), some (.int (x1)), some (.int (x2)), none] 0 []
  have hu := mJ3_newLength _ h
  unfold fJ3_newLength at h
  refine xk_G0 (a := xk_n σ) (b := xk_s σ) ?_
  have hm : xk_n σ ≤ xk_n σ ∧ xk_s σ ≤ xk_s σ := ⟨Nat.le_refl _, Nat.le_refl _⟩
  refine gx_iload_n hX dJ3_newLength_0 rfl ?_
  refine gx_iload_n hX dJ3_newLength_1 rfl ?_
  refine gx_iload_n hX dJ3_newLength_2 rfl ?_
  obtain ⟨v1, hvv1, h⟩ := gx_bs h
  refine gx_mmax hX ⟨q376, q377, q95, q378⟩ (by decide) (gx_w8 (gx_kI gx_k0) (Nat.le_of_ble_eq_true rfl)) rfl dJ3_newLength_3 (xk_hf0 hu) ?_
  rw [Option.some.inj hvv1]
  refine gx_iadd hX dJ3_newLength_6 ?_
  refine gx_istore_n hX dJ3_newLength_7 (Nat.le_of_ble_eq_true rfl) gx_c1i (lv' := [some (.int (x0)), some (.int (x1)), some (.int (x2)), some (.int ((x0) + (v1)))]) rfl ?_
  refine gx_iconst (v := 0) hX dJ3_newLength_8 (by decide) ?_
  refine gx_iload_n hX dJ3_newLength_9 rfl ?_
  refine gx_icmp_ge (tgt := 21) hX dJ3_newLength_10 (by decide) h (fun h => ?_) (fun h => ?_)
  · refine gx_sub hX (lv' := [some (.int (x0)), some (.int (x1)), none, none]) ⟨Or.inr rfl, ⟨Or.inr rfl, ⟨Or.inl rfl, ⟨Or.inl rfl, trivial⟩⟩⟩⟩ ?_
    exact tJ3_newLength_B21 hX  hm h
  · refine gx_iload_n hX dJ3_newLength_13 rfl ?_
    refine gx_ldc (v := (2147483639)) hX dJ3_newLength_14 q379 ?_
    refine gx_icmp_gt (tgt := 21) hX dJ3_newLength_16 (by decide) h (fun h => ?_) (fun h => ?_)
    · refine gx_sub hX (lv' := [some (.int (x0)), some (.int (x1)), none, none]) ⟨Or.inr rfl, ⟨Or.inr rfl, ⟨Or.inl rfl, ⟨Or.inl rfl, trivial⟩⟩⟩⟩ ?_
      exact tJ3_newLength_B21 hX  hm h
    · refine gx_iload_n hX dJ3_newLength_19 rfl ?_
      cases h
      exact gx_iret hX rfl dJ3_newLength_20 rfl ⟨rfl, rfl⟩ (fun _ h => h)
abbrev iJ2_grow_2 : gx_M := (RJ2, "grow", cJ2_grow_2, 4, some (.array (.object "java/lang/Object")))
theorem dsJ2_grow_2 : gx_ds yJ2_grow_2 1 := by decide +kernel
def fJ2_grow_2_B20 (x0 : Nat)   (σ : xk_C) (x1 : Int32) (x2 : Int32) : Option (xk_C × Option Nat) := (fJ3_newLength (σ) (x2) ((x1) - (x2)) ((x2) >>> ((1) &&& 31))).bind fun r3 => (xk_gr (r3.1) 102 (some x0)).bind fun v4 => (fJ5_copyOf (r3.1) (v4) (r3.2)).bind fun r5 => (xk_pr (r5.1) 102 (some x0) (r5.2)).bind fun σ6 => some (σ6, r5.2)
set_option maxHeartbeats 4000000 in
theorem lJ2_grow_2_B20 {r : xk_C × Option Nat} {x0 : Nat}   {σ : xk_C} {x1 : Int32} {x2 : Int32} : xk_lr r σ (fJ2_grow_2_B20 x0 σ x1 x2) := by
  unfold fJ2_grow_2_B20
  exact (xk_lr_ca (mJ3_newLength) (fun _ => (xk_lr_rd (fun _ => (xk_lr_ca (mJ5_copyOf) (fun _ => (xk_lr_op xk_m_pr (fun _ => xk_lr_ret))))))))
set_option maxHeartbeats 4000000 in
theorem tJ2_grow_2_B20 {w : gw_W} {X : gx_X} {x0 : Nat} {n0 s0 : Nat} {r : xk_C × Option Nat} (hX : gx_O (gw_I w (gx_A X)) X iJ2_grow_2 4 (xk_n r.1 - n0) (xk_s r.1 - s0) (xk_P (gx_A X) w r.1) (.returned (some (va_rf r.2))))  {σ : xk_C} {x1 : Int32} {x2 : Int32} (hm : n0 ≤ xk_n σ ∧ s0 ≤ xk_s σ) (h : fJ2_grow_2_B20 x0 σ x1 x2 = some r) : gx_G X (xk_P (gx_A X) w (σ)) (xk_n (σ) - n0) (xk_s (σ) - s0) [some (va_rf (some x0)), some (.int (x1)), some (.int (x2)), none] 20 [] := by
  have hu := lJ2_grow_2_B20 (r := r)  h
  unfold fJ2_grow_2_B20 at h
  refine gx_iload_n hX dJ2_grow_2_20 rfl ?_
  refine gx_iload_n hX dJ2_grow_2_21 rfl ?_
  refine gx_iload_n hX dJ2_grow_2_22 rfl ?_
  refine gx_isub hX dJ2_grow_2_23 ?_
  refine gx_iload_n hX dJ2_grow_2_24 rfl ?_
  refine gx_iconst (v := 1) hX dJ2_grow_2_25 (by decide) ?_
  refine gx_ishr hX dJ2_grow_2_26 ?_
  obtain ⟨r3, hr3, h⟩ := gx_bs h
  have hl := (mJ3_newLength) _ hr3
  have hu := xk_use (C := r3.1) h (xk_lr_rd (fun _ => (xk_lr_ca (mJ5_copyOf) (fun _ => (xk_lr_op xk_m_pr (fun _ => xk_lr_ret))))))
  refine gx_cS (As := [.int (x2), .int ((x1) - (x2)), .int ((x2) >>> ((1) &&& 31))]) (rest := []) hX (tJ3_newLength w (gx_A X) (gx_l X) (σ) (x2) ((x1) - (x2)) ((x2) >>> ((1) &&& 31)) hr3) (lw_S q373 q374 q94 q375) dsJ3_newLength (by decide) (Nat.le_of_ble_eq_true rfl) rfl (gx_w8 gx_k0 (Nat.le_of_ble_eq_true rfl)) dJ2_grow_2_27 (xk_hfc hm hl hu) rfl (xk_Gc hm hl ?_)
  have hm := xk_hmc hm hl
  refine gx_istore_n hX dJ2_grow_2_30 (Nat.le_of_ble_eq_true rfl) gx_c1i (lv' := [some (va_rf (some x0)), some (.int (x1)), some (.int (x2)), some (.int (r3.2))]) rfl ?_
  refine gx_aload_n hX dJ2_grow_2_31 rfl ?_
  refine gx_aload_n hX dJ2_grow_2_32 rfl ?_
  refine xk_getr hX 102 q143 (fun _ h => h) rfl dJ2_grow_2_33 h (fun v4 h => ?_)
  refine gx_iload_n hX dJ2_grow_2_36 rfl ?_
  obtain ⟨r5, hr5, h⟩ := gx_bs h
  have hl := (mJ5_copyOf) _ hr5
  have hu := xk_use (C := r5.1) h (xk_lr_op xk_m_pr (fun _ => xk_lr_ret))
  refine gx_cS (As := [va_rf (v4), .int (r3.2)]) (rest := [va_rf (some x0)]) hX (tJ5_copyOf w (gx_A X) (gx_l X) (r3.1) (v4) (r3.2) hr5) (lw_S q383 q384 q96 q385) dsJ5_copyOf (by decide) (Nat.le_of_ble_eq_true rfl) rfl (gx_w8 (gx_kR gx_k0) (Nat.le_of_ble_eq_true rfl)) dJ2_grow_2_37 (xk_hfc hm hl hu) rfl (xk_Gc hm hl ?_)
  have hm := xk_hmc hm hl
  refine gx_dup_x1 hX dJ2_grow_2_40 (gx_cat _) (gx_cat _) ?_
  refine xk_putr hX 102 xk_ty102 (Or.inr ⟨_, rfl⟩) q143 (fun _ h => h) rfl rfl dJ2_grow_2_41 h (fun σ6 hτ h => xk_Gt hτ ?_)
  have hm := xk_hme hm hτ
  have hu := xk_hue hu hτ
  cases h
  exact gx_aret hX rfl (Or.inr ⟨_, rfl⟩) dJ2_grow_2_44 rfl ⟨rfl, rfl⟩ (fun _ h => h)
def fJ2_grow_2 (x0 : Nat) (σ : xk_C) (x1 : Int32) : Option (xk_C × Option Nat) := (xk_gr (σ) 102 (some x0)).bind fun v1 => (xk_al (σ) 4 (v1)).bind fun v2 => if 0 < (v2) then fJ2_grow_2_B20 x0 (σ) (x1) (v2) else (xk_gr (σ) 102 (some x0)).bind fun v7 => if v7 = some (xk_d (σ)) then (some (if (nI 10) < (x1) then (x1) else (nI 10))).bind fun v8 => (xk_na (σ) 4 (v8)).bind fun σ9 => (xk_pr (σ9) 102 (some x0) (some (xk_n (σ)))).bind fun σ10 => some (σ10, some (xk_n (σ))) else fJ2_grow_2_B20 x0 (σ) (x1) (v2)
set_option maxHeartbeats 4000000 in
theorem mJ2_grow_2 {x0 : Nat} {σ : xk_C} {x1 : Int32} : ∀ p, fJ2_grow_2 x0 σ x1 = some p → xk_n σ ≤ xk_n p.1 ∧ xk_s σ ≤ xk_s p.1 := fun r => show xk_lr r σ (fJ2_grow_2 x0 σ x1) from by
  unfold fJ2_grow_2
  exact (xk_lr_rd (fun _ => (xk_lr_rd (fun _ => (xk_lr_ite (lJ2_grow_2_B20 ) (xk_lr_rd (fun _ => (xk_lr_ite (xk_lr_rd (fun _ => (xk_lr_op xk_m_na (fun _ => (xk_lr_op xk_m_pr (fun _ => xk_lr_ret)))))) (lJ2_grow_2_B20 )))))))))
set_option maxHeartbeats 4000000 in
theorem tJ2_grow_2 (w : gw_W) (A : Nat → Prop) (l : Launch) (x0 : Nat) (σ : xk_C) (x1 : Int32) {r : xk_C × Option Nat} (h : fJ2_grow_2 x0 σ x1 = some r) : gx_T (gw_I w A) A l yJ2_grow_2 iJ2_grow_2 4 [va_rf (some x0), .int (x1)] (xk_P A w σ) (xk_n r.1 - xk_n σ) (xk_s r.1 - xk_s σ) (xk_P A w r.1) (.returned (some (va_rf r.2))) := by
  refine gx_T.of (gw_I.inv w A) (by decide) ⟨rfl, rfl⟩ (gx_kR (gx_kI gx_k0)) (Nat.le_of_ble_eq_true rfl) (fun X hl hAx hX => ?_)
  subst hl
  subst hAx
  show gx_G X (xk_P (gx_A X) w (σ)) 0 0 [some (va_rf (some x0)), some (.int (x1)), none, none] 0 []
  have hu := mJ2_grow_2 _ h
  unfold fJ2_grow_2 at h
  refine xk_G0 (a := xk_n σ) (b := xk_s σ) ?_
  have hm : xk_n σ ≤ xk_n σ ∧ xk_s σ ≤ xk_s σ := ⟨Nat.le_refl _, Nat.le_refl _⟩
  refine gx_aload_n hX dJ2_grow_2_0 rfl ?_
  refine xk_getr hX 102 q143 (fun _ h => h) rfl dJ2_grow_2_1 h (fun v1 h => ?_)
  refine xk_alen hX 4 (by decide) dJ2_grow_2_4 h (fun v2 h => ?_)
  refine gx_istore_n hX dJ2_grow_2_5 (Nat.le_of_ble_eq_true rfl) gx_c1i (lv' := [some (va_rf (some x0)), some (.int (x1)), some (.int (v2)), none]) rfl ?_
  refine gx_iload_n hX dJ2_grow_2_6 rfl ?_
  refine gx_if_gt (tgt := 20) hX dJ2_grow_2_7 (by decide) h (fun h => ?_) (fun h => ?_)
  · exact tJ2_grow_2_B20 hX  hm h
  · refine gx_aload_n hX dJ2_grow_2_10 rfl ?_
    refine xk_getr hX 102 q143 (fun _ h => h) rfl dJ2_grow_2_11 h (fun v7 h => ?_)
    refine xk_gsd hX q141 dJ2_grow_2_14 ?_
    refine gx_acmp_eq (tgt := 45) hX dJ2_grow_2_17 (by decide) h (fun h => ?_) (fun h => ?_)
    · refine gx_aload_n hX dJ2_grow_2_45 rfl ?_
      refine gx_bipush (v := nI 10) hX dJ2_grow_2_46 (by decide) ?_
      refine gx_iload_n hX dJ2_grow_2_48 rfl ?_
      obtain ⟨v8, hvv8, h⟩ := gx_bs h
      refine gx_mmax hX ⟨q423, q377, q95, q378⟩ (by decide) (gx_w8 (gx_kR gx_k0) (Nat.le_of_ble_eq_true rfl)) rfl dJ2_grow_2_49 (xk_hf0 hu) ?_
      rw [Option.some.inj hvv8]
      refine xk_anew hX 4 ⟨by decide, by decide⟩ q424 dJ2_grow_2_52 h (fun σ9 hτ h => ?_)
      have hu := xk_use (C := σ9) h (xk_lr_op xk_m_pr (fun _ => xk_lr_ret))
      refine ⟨xk_hfm hm hτ hu, xk_Gm hm hτ ?_⟩
      have hm := xk_hmm hm hτ
      refine gx_dup_x1 hX dJ2_grow_2_55 (gx_cat _) (gx_cat _) ?_
      refine xk_putr hX 102 xk_ty102 (Or.inr ⟨_, rfl⟩) q143 (fun _ h => h) rfl rfl dJ2_grow_2_56 h (fun σ10 hτ h => xk_Gt hτ ?_)
      have hm := xk_hme hm hτ
      have hu := xk_hue hu hτ
      cases h
      exact gx_aret hX rfl (Or.inr ⟨_, rfl⟩) dJ2_grow_2_59 rfl ⟨rfl, rfl⟩ (fun _ h => h)
    · exact tJ2_grow_2_B20 hX  hm h
abbrev iJ2_grow : gx_M := (RJ2, "grow", cJ2_grow, 1, some (.array (.object "java/lang/Object")))
theorem dsJ2_grow : gx_ds yJ2_grow 0 := by decide +kernel
def fJ2_grow (x0 : Nat) (σ : xk_C)  : Option (xk_C × Option Nat) := (xk_gi (σ) 103 (some x0)).bind fun v1 => (xk_is (σ) 21 (some x0)).bind fun b3 => (fJ2_grow_2 (b3) (σ) ((v1) + (1))).bind fun r2 => some (r2.1, r2.2)
set_option maxHeartbeats 4000000 in
theorem mJ2_grow {x0 : Nat} {σ : xk_C}  : ∀ p, fJ2_grow x0 σ = some p → xk_n σ ≤ xk_n p.1 ∧ xk_s σ ≤ xk_s p.1 := fun r => show xk_lr r σ (fJ2_grow x0 σ) from by
  unfold fJ2_grow
  exact (xk_lr_rd (fun _ => (xk_lr_rd (fun _ => (xk_lr_ca (mJ2_grow_2) (fun _ => xk_lr_ret))))))
set_option maxHeartbeats 4000000 in
theorem tJ2_grow (w : gw_W) (A : Nat → Prop) (l : Launch) (x0 : Nat) (σ : xk_C)  {r : xk_C × Option Nat} (h : fJ2_grow x0 σ = some r) : gx_T (gw_I w A) A l yJ2_grow iJ2_grow 5 [va_rf (some x0)] (xk_P A w σ) (xk_n r.1 - xk_n σ) (xk_s r.1 - xk_s σ) (xk_P A w r.1) (.returned (some (va_rf r.2))) := by
  refine gx_T.of (gw_I.inv w A) (by decide) ⟨rfl, rfl⟩ (gx_kR gx_k0) (Nat.le_of_ble_eq_true rfl) (fun X hl hAx hX => ?_)
  subst hl
  subst hAx
  show gx_G X (xk_P (gx_A X) w (σ)) 0 0 [some (va_rf (some x0))] 0 []
  have hu := mJ2_grow _ h
  unfold fJ2_grow at h
  refine xk_G0 (a := xk_n σ) (b := xk_s σ) ?_
  have hm : xk_n σ ≤ xk_n σ ∧ xk_s σ ≤ xk_s σ := ⟨Nat.le_refl _, Nat.le_refl _⟩
  refine gx_aload_n hX dJ2_grow_0 rfl ?_
  refine gx_aload_n hX dJ2_grow_1 rfl ?_
  refine xk_geti hX 103 q144 (fun _ h => h) rfl dJ2_grow_2 h (fun v1 h => ?_)
  refine gx_iconst (v := 1) hX dJ2_grow_5 (by decide) ?_
  refine gx_iadd hX dJ2_grow_6 ?_
  obtain ⟨b3, hb, h⟩ := gx_bs h
  obtain ⟨eb, hkb⟩ := xk_isS hb
  obtain ⟨r2, hr2, h⟩ := gx_bs h
  have hl := (mJ2_grow_2) _ hr2
  have hu := xk_use (C := r2.1) h xk_lr_ret
  refine gx_cV (As := [.int ((v1) + (1))]) (rest := []) (b := b3) hX (tJ2_grow_2 w (gx_A X) (gx_l X) (b3) (σ) ((v1) + (1)) hr2) (lw_V q369 q371 qs2 q89 q372) ⟨rfl, dsJ2_grow_2⟩ (by decide) (Nat.le_of_ble_eq_true rfl) (xk_rc hX (ci := 20) (by decide) (by decide) hkb) (by rw [eb]; rfl) (gx_w8 gx_k0 (Nat.le_of_ble_eq_true rfl)) dJ2_grow_7 (xk_hfc hm hl hu) rfl (xk_Gc hm hl ?_)
  have hm := xk_hmc hm hl
  cases h
  exact gx_aret hX rfl (Or.inr ⟨_, rfl⟩) dJ2_grow_10 rfl ⟨rfl, rfl⟩ (fun _ h => h)
abbrev iJ2_add_2 : gx_M := (RJ2, "add", cJ2_add_2, 4, none)
theorem dsJ2_add_2 : gx_ds yJ2_add_2 3 := by decide +kernel
def fJ2_add_2_B11 (x0 : Nat)   (σ : xk_C) (x1 : Option Nat) (x2 : Option Nat) (x3 : Int32) : Option (xk_C × Unit) := (xk_sa (σ) 4 (x2) (x3) (x1)).bind fun σ2 => (xk_pi (σ2) 103 (some x0) ((x3) + (1))).bind fun σ3 => some (σ3, ())
set_option maxHeartbeats 4000000 in
theorem lJ2_add_2_B11 {r : xk_C × Unit} {x0 : Nat}   {σ : xk_C} {x1 : Option Nat} {x2 : Option Nat} {x3 : Int32} : xk_lr r σ (fJ2_add_2_B11 x0 σ x1 x2 x3) := by
  unfold fJ2_add_2_B11
  exact (xk_lr_op xk_m_sa (fun _ => (xk_lr_op xk_m_pi (fun _ => xk_lr_ret))))
set_option maxHeartbeats 4000000 in
theorem tJ2_add_2_B11 {w : gw_W} {X : gx_X} {x0 : Nat} {n0 s0 : Nat} {r : xk_C × Unit} (hX : gx_O (gw_I w (gx_A X)) X iJ2_add_2 6 (xk_n r.1 - n0) (xk_s r.1 - s0) (xk_P (gx_A X) w r.1) (.returned none))  {σ : xk_C} {x1 : Option Nat} {x2 : Option Nat} {x3 : Int32} (hm : n0 ≤ xk_n σ ∧ s0 ≤ xk_s σ) (h : fJ2_add_2_B11 x0 σ x1 x2 x3 = some r) : gx_G X (xk_P (gx_A X) w (σ)) (xk_n (σ) - n0) (xk_s (σ) - s0) [some (va_rf (some x0)), some (va_rf (x1)), some (va_rf (x2)), some (.int (x3))] 11 [] := by
  have hu := lJ2_add_2_B11 (r := r)  h
  unfold fJ2_add_2_B11 at h
  refine gx_aload_n hX dJ2_add_2_11 rfl ?_
  refine gx_iload_n hX dJ2_add_2_12 rfl ?_
  refine gx_aload_n hX dJ2_add_2_13 rfl ?_
  refine xk_aastore hX 4 ⟨by decide, by decide⟩ dJ2_add_2_14 h (fun σ2 hτ h => xk_Gt hτ ?_)
  have hm := xk_hme hm hτ
  have hu := xk_hue hu hτ
  refine gx_aload_n hX dJ2_add_2_15 rfl ?_
  refine gx_iload_n hX dJ2_add_2_16 rfl ?_
  refine gx_iconst (v := 1) hX dJ2_add_2_17 (by decide) ?_
  refine gx_iadd hX dJ2_add_2_18 ?_
  refine xk_puti hX 103 xk_ty103 rfl q144 (fun _ h => h) rfl rfl dJ2_add_2_19 h (fun σ3 hτ h => xk_Gt hτ ?_)
  have hm := xk_hme hm hτ
  have hu := xk_hue hu hτ
  cases h
  exact gx_vret hX rfl dJ2_add_2_22 rfl ⟨rfl, rfl⟩ (fun _ h => h)
def fJ2_add_2 (x0 : Nat) (σ : xk_C) (x1 : Option Nat) (x2 : Option Nat) (x3 : Int32) : Option (xk_C × Unit) := (xk_al (σ) 4 (x2)).bind fun v1 => if x3 = v1 then (xk_is (σ) 21 (some x0)).bind fun b5 => (fJ2_grow (b5) (σ)).bind fun r4 => fJ2_add_2_B11 x0 (r4.1) (x1) (r4.2) (x3) else fJ2_add_2_B11 x0 (σ) (x1) (x2) (x3)
set_option maxHeartbeats 4000000 in
theorem mJ2_add_2 {x0 : Nat} {σ : xk_C} {x1 : Option Nat} {x2 : Option Nat} {x3 : Int32} : ∀ p, fJ2_add_2 x0 σ x1 x2 x3 = some p → xk_n σ ≤ xk_n p.1 ∧ xk_s σ ≤ xk_s p.1 := fun r => show xk_lr r σ (fJ2_add_2 x0 σ x1 x2 x3) from by
  unfold fJ2_add_2
  exact (xk_lr_rd (fun _ => (xk_lr_ite (xk_lr_rd (fun _ => (xk_lr_ca (mJ2_grow) (fun _ => (lJ2_add_2_B11 ))))) (lJ2_add_2_B11 ))))
set_option maxHeartbeats 4000000 in
theorem tJ2_add_2 (w : gw_W) (A : Nat → Prop) (l : Launch) (x0 : Nat) (σ : xk_C) (x1 : Option Nat) (x2 : Option Nat) (x3 : Int32) {r : xk_C × Unit} (h : fJ2_add_2 x0 σ x1 x2 x3 = some r) : gx_T (gw_I w A) A l yJ2_add_2 iJ2_add_2 6 [va_rf (some x0), va_rf (x1), va_rf (x2), .int (x3)] (xk_P A w σ) (xk_n r.1 - xk_n σ) (xk_s r.1 - xk_s σ) (xk_P A w r.1) (.returned none) := by
  refine gx_T.of (gw_I.inv w A) (by decide) ⟨rfl, rfl⟩ (gx_kR (gx_kR (gx_kR (gx_kI gx_k0)))) (Nat.le_of_ble_eq_true rfl) (fun X hl hAx hX => ?_)
  subst hl
  subst hAx
  show gx_G X (xk_P (gx_A X) w (σ)) 0 0 [some (va_rf (some x0)), some (va_rf (x1)), some (va_rf (x2)), some (.int (x3))] 0 []
  have hu := mJ2_add_2 _ h
  unfold fJ2_add_2 at h
  refine xk_G0 (a := xk_n σ) (b := xk_s σ) ?_
  have hm : xk_n σ ≤ xk_n σ ∧ xk_s σ ≤ xk_s σ := ⟨Nat.le_refl _, Nat.le_refl _⟩
  refine gx_iload_n hX dJ2_add_2_0 rfl ?_
  refine gx_aload_n hX dJ2_add_2_1 rfl ?_
  refine xk_alen hX 4 (by decide) dJ2_add_2_2 h (fun v1 h => ?_)
  refine gx_icmp_ne (tgt := 11) hX dJ2_add_2_3 (by decide) h (fun h => ?_) (fun h => ?_)
  · refine gx_aload_n hX dJ2_add_2_6 rfl ?_
    obtain ⟨b5, hb, h⟩ := gx_bs h
    obtain ⟨eb, hkb⟩ := xk_isS hb
    obtain ⟨r4, hr4, h⟩ := gx_bs h
    have hl := (mJ2_grow) _ hr4
    have hu := xk_use (C := r4.1) h (lJ2_add_2_B11 )
    refine gx_cV (As := []) (rest := []) (b := b5) hX (tJ2_grow w (gx_A X) (gx_l X) (b5) (σ)  hr4) (lw_V q365 q367 qs1 q89 q368) ⟨rfl, dsJ2_grow⟩ (by decide) (Nat.le_of_ble_eq_true rfl) (xk_rc hX (ci := 20) (by decide) (by decide) hkb) (by rw [eb]; rfl) (gx_w8 gx_k0 (Nat.le_of_ble_eq_true rfl)) dJ2_add_2_7 (xk_hfc hm hl hu) rfl (xk_Gc hm hl ?_)
    have hm := xk_hmc hm hl
    refine gx_astore_n hX dJ2_add_2_10 (Nat.le_of_ble_eq_true rfl) gx_c1r (lv' := [some (va_rf (some x0)), some (va_rf (x1)), some (va_rf (r4.2)), some (.int (x3))]) rfl ?_
    exact tJ2_add_2_B11 hX  hm h
  · exact tJ2_add_2_B11 hX  hm h
abbrev iJ2_add : gx_M := (RJ2, "add", cJ2_add, 2, some .boolean)
theorem dsJ2_add : gx_ds yJ2_add 1 := by decide +kernel
def fJ2_add (x0 : Nat) (σ : xk_C) (x1 : Option Nat) : Option (xk_C × Int32) := (xk_gi (σ) 101 (some x0)).bind fun v1 => (xk_pi (σ) 101 (some x0) ((v1) + (1))).bind fun σ2 => (xk_gr (σ2) 102 (some x0)).bind fun v3 => (xk_gi (σ2) 103 (some x0)).bind fun v4 => (xk_is (σ2) 21 (some x0)).bind fun b6 => (fJ2_add_2 (b6) (σ2) (x1) (v3) (v4)).bind fun r5 => some (r5.1, 1)
set_option maxHeartbeats 4000000 in
theorem mJ2_add {x0 : Nat} {σ : xk_C} {x1 : Option Nat} : ∀ p, fJ2_add x0 σ x1 = some p → xk_n σ ≤ xk_n p.1 ∧ xk_s σ ≤ xk_s p.1 := fun r => show xk_lr r σ (fJ2_add x0 σ x1) from by
  unfold fJ2_add
  exact (xk_lr_rd (fun _ => (xk_lr_op xk_m_pi (fun _ => (xk_lr_rd (fun _ => (xk_lr_rd (fun _ => (xk_lr_rd (fun _ => (xk_lr_ca (mJ2_add_2) (fun _ => xk_lr_ret))))))))))))
set_option maxHeartbeats 4000000 in
theorem tJ2_add (w : gw_W) (A : Nat → Prop) (l : Launch) (x0 : Nat) (σ : xk_C) (x1 : Option Nat) {r : xk_C × Int32} (h : fJ2_add x0 σ x1 = some r) : gx_T (gw_I w A) A l yJ2_add iJ2_add 7 [va_rf (some x0), va_rf (x1)] (xk_P A w σ) (xk_n r.1 - xk_n σ) (xk_s r.1 - xk_s σ) (xk_P A w r.1) (.returned (some (.int r.2))) := by
  refine gx_T.of (gw_I.inv w A) (by decide) ⟨rfl, rfl⟩ (gx_kR (gx_kR gx_k0)) (Nat.le_of_ble_eq_true rfl) (fun X hl hAx hX => ?_)
  subst hl
  subst hAx
  show gx_G X (xk_P (gx_A X) w (σ)) 0 0 [some (va_rf (some x0)), some (va_rf (x1))] 0 []
  have hu := mJ2_add _ h
  unfold fJ2_add at h
  refine xk_G0 (a := xk_n σ) (b := xk_s σ) ?_
  have hm : xk_n σ ≤ xk_n σ ∧ xk_s σ ≤ xk_s σ := ⟨Nat.le_refl _, Nat.le_refl _⟩
  refine gx_aload_n hX dJ2_add_0 rfl ?_
  refine gx_dup hX dJ2_add_1 (gx_cat _) ?_
  refine xk_geti hX 101 q146 (u_same (hX.2.2.2.2.2.1 _ q147)) rfl dJ2_add_2 h (fun v1 h => ?_)
  refine gx_iconst (v := 1) hX dJ2_add_5 (by decide) ?_
  refine gx_iadd hX dJ2_add_6 ?_
  refine xk_puti hX 101 xk_ty101 rfl q146 (u_same (hX.2.2.2.2.2.1 _ q147)) rfl rfl dJ2_add_7 h (fun σ2 hτ h => xk_Gt hτ ?_)
  have hm := xk_hme hm hτ
  have hu := xk_hue hu hτ
  refine gx_aload_n hX dJ2_add_10 rfl ?_
  refine gx_aload_n hX dJ2_add_11 rfl ?_
  refine gx_aload_n hX dJ2_add_12 rfl ?_
  refine xk_getr hX 102 q143 (fun _ h => h) rfl dJ2_add_13 h (fun v3 h => ?_)
  refine gx_aload_n hX dJ2_add_16 rfl ?_
  refine xk_geti hX 103 q144 (fun _ h => h) rfl dJ2_add_17 h (fun v4 h => ?_)
  obtain ⟨b6, hb, h⟩ := gx_bs h
  obtain ⟨eb, hkb⟩ := xk_isS hb
  obtain ⟨r5, hr5, h⟩ := gx_bs h
  have hl := (mJ2_add_2) _ hr5
  have hu := xk_use (C := r5.1) h xk_lr_ret
  refine gx_cV (As := [va_rf (x1), va_rf (v3), .int (v4)]) (rest := []) (b := b6) hX (tJ2_add_2 w (gx_A X) (gx_l X) (b6) (σ2) (x1) (v3) (v4) hr5) (lw_V q361 q363 qs0 q89 q364) ⟨rfl, dsJ2_add_2⟩ (by decide) (Nat.le_of_ble_eq_true rfl) (xk_rc hX (ci := 20) (by decide) (by decide) hkb) (by rw [eb]; rfl) (gx_w8 gx_k0 (Nat.le_of_ble_eq_true rfl)) dJ2_add_20 (xk_hfc hm hl hu) rfl (xk_Gc hm hl ?_)
  have hm := xk_hmc hm hl
  refine gx_iconst (v := 1) hX dJ2_add_23 (by decide) ?_
  cases h
  exact gx_zret hX rfl rfl dJ2_add_24 rfl ⟨rfl, rfl⟩ (fun _ h => h)
abbrev iJ2_elementData : gx_M := (RJ2, "elementData", cJ2_elementData, 2, some (.object "java/lang/Object"))
theorem dsJ2_elementData : gx_ds yJ2_elementData 1 := by decide +kernel
def fJ2_elementData (x0 : Nat) (σ : xk_C) (x1 : Int32) : Option (Option Nat) := (xk_gr (σ) 102 (some x0)).bind fun v1 => (xk_lq (σ) 4 (v1) (x1)).bind fun v2 => some (v2)
set_option maxHeartbeats 4000000 in
theorem tJ2_elementData (w : gw_W) (A : Nat → Prop) (l : Launch) (x0 : Nat) (σ : xk_C) (x1 : Int32) {r : Option Nat} (h : fJ2_elementData x0 σ x1 = some r) : gx_T (gw_I w A) A l yJ2_elementData iJ2_elementData 1 [va_rf (some x0), .int (x1)] (xk_P A w σ) 0 0 (xk_P A w σ) (.returned (some (va_rf r))) := by
  refine gx_T.of (gw_I.inv w A) (by decide) ⟨rfl, rfl⟩ (gx_kR (gx_kI gx_k0)) (Nat.le_of_ble_eq_true rfl) (fun X hl hAx hX => ?_)
  subst hl
  subst hAx
  show gx_G X (xk_P (gx_A X) w (σ)) 0 0 [some (va_rf (some x0)), some (.int (x1))] 0 []
  unfold fJ2_elementData at h
  refine gx_aload_n hX dJ2_elementData_0 rfl ?_
  refine xk_getr hX 102 q143 (fun _ h => h) rfl dJ2_elementData_1 h (fun v1 h => ?_)
  refine gx_iload_n hX dJ2_elementData_4 rfl ?_
  refine xk_aaload hX 4 ⟨by decide, by decide, rfl⟩ dJ2_elementData_5 h (fun v2 h => ?_)
  cases h
  exact gx_aret hX rfl (Or.inl ⟨_, rfl⟩) dJ2_elementData_6 rfl ⟨rfl, rfl⟩ (fun _ h => h)
abbrev iJ7_checkIndex : gx_M := (RJ7, "checkIndex", cJ7_checkIndex, 3, some .int)
theorem dsJ7_checkIndex : gx_ds yJ7_checkIndex 3 := by decide +kernel
def fJ7_checkIndex_B9   (x0 : Int32) (x1 : Int32) (x2 : Option Nat) : Option (Int32) := none
set_option maxHeartbeats 4000000 in
theorem tJ7_checkIndex_B9 {w : gw_W} {X : gx_X} {P : Heap → Prop} {r : Int32} (hX : gx_O (gw_I w (gx_A X)) X iJ7_checkIndex 2 0 0 (P) (.returned (some (.int r))))  {x0 : Int32} {x1 : Int32} {x2 : Option Nat} (h : fJ7_checkIndex_B9 x0 x1 x2 = some r) : gx_G X (P) 0 0 [some (.int (x0)), some (.int (x1)), some (va_rf (x2))] 9 [] := by
  unfold fJ7_checkIndex_B9 at h
  refine gx_aload_n hX dJ7_checkIndex_9 rfl ?_
  refine gx_iload_n hX dJ7_checkIndex_10 rfl ?_
  refine gx_iload_n hX dJ7_checkIndex_11 rfl ?_
  cases h
def fJ7_checkIndex (x0 : Int32) (x1 : Int32) (x2 : Option Nat) : Option (Int32) := if (x0) < 0 then fJ7_checkIndex_B9 (x0) (x1) (x2) else if (x0) < x1 then some (x0) else fJ7_checkIndex_B9 (x0) (x1) (x2)
set_option maxHeartbeats 4000000 in
theorem tJ7_checkIndex (w : gw_W) (A : Nat → Prop) (l : Launch) (P : Heap → Prop) (x0 : Int32) (x1 : Int32) (x2 : Option Nat) {r : Int32} (h : fJ7_checkIndex x0 x1 x2 = some r) : gx_T (gw_I w A) A l yJ7_checkIndex iJ7_checkIndex 2 [.int (x0), .int (x1), va_rf (x2)] (P) 0 0 (P) (.returned (some (.int r))) := by
  refine gx_T.of (gw_I.inv w A) (by decide) ⟨rfl, rfl⟩ (gx_kI (gx_kI (gx_kR gx_k0))) (Nat.le_of_ble_eq_true rfl) (fun X hl hAx hX => ?_)
  subst hl
  subst hAx
  show gx_G X (P) 0 0 [some (.int (x0)), some (.int (x1)), some (va_rf (x2))] 0 []
  unfold fJ7_checkIndex at h
  refine gx_iload_n hX dJ7_checkIndex_0 rfl ?_
  refine gx_if_lt (tgt := 9) hX dJ7_checkIndex_1 (by decide) h (fun h => ?_) (fun h => ?_)
  · exact tJ7_checkIndex_B9 hX  h
  · refine gx_iload_n hX dJ7_checkIndex_4 rfl ?_
    refine gx_iload_n hX dJ7_checkIndex_5 rfl ?_
    refine gx_icmp_lt (tgt := 16) hX dJ7_checkIndex_6 (by decide) h (fun h => ?_) (fun h => ?_)
    · refine gx_iload_n hX dJ7_checkIndex_16 rfl ?_
      cases h
      exact gx_iret hX rfl dJ7_checkIndex_17 rfl ⟨rfl, rfl⟩ (fun _ h => h)
    · exact tJ7_checkIndex_B9 hX  h
abbrev iJ6_checkIndex : gx_M := (RJ6, "checkIndex", cJ6_checkIndex, 2, some .int)
theorem dsJ6_checkIndex : gx_ds yJ6_checkIndex 2 := by decide +kernel
def fJ6_checkIndex (x0 : Int32) (x1 : Int32) : Option (Int32) := (fJ7_checkIndex  (x0) (x1) (none)).bind fun r1 => some (r1)
set_option maxHeartbeats 4000000 in
theorem tJ6_checkIndex (w : gw_W) (A : Nat → Prop) (l : Launch) (P : Heap → Prop) (x0 : Int32) (x1 : Int32) {r : Int32} (h : fJ6_checkIndex x0 x1 = some r) : gx_T (gw_I w A) A l yJ6_checkIndex iJ6_checkIndex 3 [.int (x0), .int (x1)] (P) 0 0 (P) (.returned (some (.int r))) := by
  refine gx_T.of (gw_I.inv w A) (by decide) ⟨rfl, rfl⟩ (gx_kI (gx_kI gx_k0)) (Nat.le_of_ble_eq_true rfl) (fun X hl hAx hX => ?_)
  subst hl
  subst hAx
  show gx_G X (P) 0 0 [some (.int (x0)), some (.int (x1))] 0 []
  unfold fJ6_checkIndex at h
  refine gx_iload_n hX dJ6_checkIndex_0 rfl ?_
  refine gx_iload_n hX dJ6_checkIndex_1 rfl ?_
  refine gx_null hX dJ6_checkIndex_2 ?_
  obtain ⟨r1, hr1, h⟩ := gx_bs h
  refine gx_cS (As := [.int (x0), .int (x1), va_rf (none)]) (rest := []) hX (tJ7_checkIndex w (gx_A X) (gx_l X) (P) (x0) (x1) (none) hr1) (lw_S q440 q441 q99 q442) dsJ7_checkIndex (by decide) (Nat.le_of_ble_eq_true rfl) rfl (gx_w8 gx_k0 (Nat.le_of_ble_eq_true rfl)) dJ6_checkIndex_3 ⟨Nat.le_refl _, Nat.le_refl _⟩ rfl ?_
  cases h
  exact gx_iret hX rfl dJ6_checkIndex_6 rfl ⟨rfl, rfl⟩ (fun _ h => h)
abbrev iJ2_get : gx_M := (RJ2, "get", cJ2_get, 2, some (.object "java/lang/Object"))
theorem dsJ2_get : gx_ds yJ2_get 1 := by decide +kernel
def fJ2_get (x0 : Nat) (σ : xk_C) (x1 : Int32) : Option (Option Nat) := (xk_gi (σ) 103 (some x0)).bind fun v1 => (fJ6_checkIndex  (x1) (v1)).bind fun r2 => (xk_is (σ) 21 (some x0)).bind fun b4 => (fJ2_elementData (b4) (σ) (x1)).bind fun r3 => some (r3)
set_option maxHeartbeats 4000000 in
theorem tJ2_get (w : gw_W) (A : Nat → Prop) (l : Launch) (x0 : Nat) (σ : xk_C) (x1 : Int32) {r : Option Nat} (h : fJ2_get x0 σ x1 = some r) : gx_T (gw_I w A) A l yJ2_get iJ2_get 4 [va_rf (some x0), .int (x1)] (xk_P A w σ) 0 0 (xk_P A w σ) (.returned (some (va_rf r))) := by
  refine gx_T.of (gw_I.inv w A) (by decide) ⟨rfl, rfl⟩ (gx_kR (gx_kI gx_k0)) (Nat.le_of_ble_eq_true rfl) (fun X hl hAx hX => ?_)
  subst hl
  subst hAx
  show gx_G X (xk_P (gx_A X) w (σ)) 0 0 [some (va_rf (some x0)), some (.int (x1))] 0 []
  unfold fJ2_get at h
  refine gx_iload_n hX dJ2_get_0 rfl ?_
  refine gx_aload_n hX dJ2_get_1 rfl ?_
  refine xk_geti hX 103 q144 (fun _ h => h) rfl dJ2_get_2 h (fun v1 h => ?_)
  obtain ⟨r2, hr2, h⟩ := gx_bs h
  refine gx_cS (As := [.int (x1), .int (v1)]) (rest := []) hX (tJ6_checkIndex w (gx_A X) (gx_l X) (xk_P (gx_A X) w (σ)) (x1) (v1) hr2) (lw_S q437 q438 q98 q439) dsJ6_checkIndex (by decide) (Nat.le_of_ble_eq_true rfl) rfl (gx_w8 gx_k0 (Nat.le_of_ble_eq_true rfl)) dJ2_get_5 ⟨Nat.le_refl _, Nat.le_refl _⟩ rfl ?_
  refine gx_pop hX dJ2_get_8 rfl ?_
  refine gx_aload_n hX dJ2_get_9 rfl ?_
  refine gx_iload_n hX dJ2_get_10 rfl ?_
  obtain ⟨b4, hb, h⟩ := gx_bs h
  obtain ⟨eb, hkb⟩ := xk_isS hb
  obtain ⟨r3, hr3, h⟩ := gx_bs h
  refine gx_cV (As := [.int (x1)]) (rest := []) (b := b4) hX (tJ2_elementData w (gx_A X) (gx_l X) (b4) (σ) (x1) hr3) (lw_V q443 q444 q445 q89 q446) ⟨rfl, dsJ2_elementData⟩ (by decide) (Nat.le_of_ble_eq_true rfl) (xk_rc hX (ci := 20) (by decide) (by decide) hkb) (by rw [eb]; rfl) (gx_w8 gx_k0 (Nat.le_of_ble_eq_true rfl)) dJ2_get_11 ⟨Nat.le_refl _, Nat.le_refl _⟩ rfl ?_
  cases h
  exact gx_aret hX rfl (Or.inl ⟨_, rfl⟩) dJ2_get_14 rfl ⟨rfl, rfl⟩ (fun _ h => h)
abbrev iJ2_fastRemove : gx_M := (RJ2, "fastRemove", cJ2_fastRemove, 4, none)
theorem dsJ2_fastRemove : gx_ds yJ2_fastRemove 2 := by decide +kernel
def fJ2_fastRemove_B34 (x0 : Nat)   (σ : xk_C) (x1 : Option Nat) (x3 : Int32) : Option (xk_C × Unit) := (xk_pi (σ) 103 (some x0) (x3)).bind fun σ4 => (xk_sa (σ4) 4 (x1) (x3) (none)).bind fun σ5 => some (σ5, ())
set_option maxHeartbeats 4000000 in
theorem eJ2_fastRemove_B34 {r : xk_C × Unit} {x0 : Nat}   {σ : xk_C} {x1 : Option Nat} {x3 : Int32} : xk_er r σ (fJ2_fastRemove_B34 x0 σ x1 x3) := by
  unfold fJ2_fastRemove_B34
  exact (xk_er_op xk_e_pi (fun _ => (xk_er_op xk_e_sa (fun _ => xk_er_ret))))
set_option maxHeartbeats 4000000 in
theorem tJ2_fastRemove_B34 {w : gw_W} {X : gx_X} {x0 : Nat} {r : xk_C × Unit} (hX : gx_O (gw_I w (gx_A X)) X iJ2_fastRemove 2 0 0 (xk_P (gx_A X) w r.1) (.returned none))  {σ : xk_C} {x1 : Option Nat} {x3 : Int32} (h : fJ2_fastRemove_B34 x0 σ x1 x3 = some r) : gx_G X (xk_P (gx_A X) w (σ)) 0 0 [some (va_rf (some x0)), some (va_rf (x1)), none, some (.int (x3))] 34 [] := by
  unfold fJ2_fastRemove_B34 at h
  refine gx_aload_n hX dJ2_fastRemove_34 rfl ?_
  refine gx_aload_n hX dJ2_fastRemove_35 rfl ?_
  refine gx_iload_n hX dJ2_fastRemove_36 rfl ?_
  refine gx_dup_x1 hX dJ2_fastRemove_37 rfl (gx_cat _) ?_
  refine xk_puti hX 103 xk_ty103 rfl q144 (fun _ h => h) rfl rfl dJ2_fastRemove_38 h (fun σ4 hτ h => ?_)
  refine gx_null hX dJ2_fastRemove_41 ?_
  refine xk_aastore hX 4 ⟨by decide, by decide⟩ dJ2_fastRemove_42 h (fun σ5 hτ h => ?_)
  cases h
  exact gx_vret hX rfl dJ2_fastRemove_43 rfl ⟨rfl, rfl⟩ (fun _ h => h)
def fJ2_fastRemove (x0 : Nat) (σ : xk_C) (x1 : Option Nat) (x2 : Int32) : Option (xk_C × Unit) := (xk_gi (σ) 101 (some x0)).bind fun v1 => (xk_pi (σ) 101 (some x0) ((v1) + (1))).bind fun σ2 => (xk_gi (σ2) 103 (some x0)).bind fun v3 => if ((v3) - (1)) ≤ x2 then fJ2_fastRemove_B34 x0 (σ2) (x1) ((v3) - (1)) else (xk_cpq (σ2) 4 (x1) ((x2) + (1)) (x1) (x2) (((v3) - (1)) - (x2))).bind fun σ6 => fJ2_fastRemove_B34 x0 (σ6) (x1) ((v3) - (1))
set_option maxHeartbeats 4000000 in
theorem eJ2_fastRemove {x0 : Nat} {σ : xk_C} {x1 : Option Nat} {x2 : Int32} : ∀ p, fJ2_fastRemove x0 σ x1 x2 = some p → xk_n p.1 = xk_n σ ∧ xk_s p.1 = xk_s σ := fun r => show xk_er r σ (fJ2_fastRemove x0 σ x1 x2) from by
  unfold fJ2_fastRemove
  exact (xk_er_rd (fun _ => (xk_er_op xk_e_pi (fun _ => (xk_er_rd (fun _ => (xk_er_ite (eJ2_fastRemove_B34 ) (xk_er_op xk_e_cpq (fun _ => (eJ2_fastRemove_B34 ))))))))))
theorem mJ2_fastRemove {x0 : Nat} {σ : xk_C} {x1 : Option Nat} {x2 : Int32} : ∀ p, fJ2_fastRemove x0 σ x1 x2 = some p → xk_n σ ≤ xk_n p.1 ∧ xk_s σ ≤ xk_s p.1 := fun p h => xk_le_of (eJ2_fastRemove p h)
set_option maxHeartbeats 4000000 in
theorem tJ2_fastRemove (w : gw_W) (A : Nat → Prop) (l : Launch) (x0 : Nat) (σ : xk_C) (x1 : Option Nat) (x2 : Int32) {r : xk_C × Unit} (h : fJ2_fastRemove x0 σ x1 x2 = some r) : gx_T (gw_I w A) A l yJ2_fastRemove iJ2_fastRemove 2 [va_rf (some x0), va_rf (x1), .int (x2)] (xk_P A w σ) 0 0 (xk_P A w r.1) (.returned none) := by
  refine gx_T.of (gw_I.inv w A) (by decide) ⟨rfl, rfl⟩ (gx_kR (gx_kR (gx_kI gx_k0))) (Nat.le_of_ble_eq_true rfl) (fun X hl hAx hX => ?_)
  subst hl
  subst hAx
  show gx_G X (xk_P (gx_A X) w (σ)) 0 0 [some (va_rf (some x0)), some (va_rf (x1)), some (.int (x2)), none] 0 []
  unfold fJ2_fastRemove at h
  refine gx_aload_n hX dJ2_fastRemove_0 rfl ?_
  refine gx_dup hX dJ2_fastRemove_1 (gx_cat _) ?_
  refine xk_geti hX 101 q146 (u_same (hX.2.2.2.2.2.1 _ q147)) rfl dJ2_fastRemove_2 h (fun v1 h => ?_)
  refine gx_iconst (v := 1) hX dJ2_fastRemove_5 (by decide) ?_
  refine gx_iadd hX dJ2_fastRemove_6 ?_
  refine xk_puti hX 101 xk_ty101 rfl q146 (u_same (hX.2.2.2.2.2.1 _ q147)) rfl rfl dJ2_fastRemove_7 h (fun σ2 hτ h => ?_)
  refine gx_aload_n hX dJ2_fastRemove_10 rfl ?_
  refine xk_geti hX 103 q144 (fun _ h => h) rfl dJ2_fastRemove_11 h (fun v3 h => ?_)
  refine gx_iconst (v := 1) hX dJ2_fastRemove_14 (by decide) ?_
  refine gx_isub hX dJ2_fastRemove_15 ?_
  refine gx_dup hX dJ2_fastRemove_16 rfl ?_
  refine gx_istore_n hX dJ2_fastRemove_17 (Nat.le_of_ble_eq_true rfl) gx_c1i (lv' := [some (va_rf (some x0)), some (va_rf (x1)), some (.int (x2)), some (.int ((v3) - (1)))]) rfl ?_
  refine gx_iload_n hX dJ2_fastRemove_18 rfl ?_
  refine gx_icmp_le (tgt := 34) hX dJ2_fastRemove_19 (by decide) h (fun h => ?_) (fun h => ?_)
  · refine gx_sub hX (lv' := [some (va_rf (some x0)), some (va_rf (x1)), none, some (.int ((v3) - (1)))]) ⟨Or.inr rfl, ⟨Or.inr rfl, ⟨Or.inl rfl, ⟨Or.inr rfl, trivial⟩⟩⟩⟩ ?_
    exact tJ2_fastRemove_B34 hX  h
  · refine gx_aload_n hX dJ2_fastRemove_22 rfl ?_
    refine gx_iload_n hX dJ2_fastRemove_23 rfl ?_
    refine gx_iconst (v := 1) hX dJ2_fastRemove_24 (by decide) ?_
    refine gx_iadd hX dJ2_fastRemove_25 ?_
    refine gx_aload_n hX dJ2_fastRemove_26 rfl ?_
    refine gx_iload_n hX dJ2_fastRemove_27 rfl ?_
    refine gx_iload_n hX dJ2_fastRemove_28 rfl ?_
    refine gx_iload_n hX dJ2_fastRemove_29 rfl ?_
    refine gx_isub hX dJ2_fastRemove_30 ?_
    refine xk_copyq hX 4 ⟨by decide, by decide⟩ ⟨q1202, q422, q421, q97⟩ (by decide) (gx_w8 gx_k0 (Nat.le_of_ble_eq_true rfl)) rfl dJ2_fastRemove_31 h (fun σ6 hτ h => ?_)
    refine gx_sub hX (lv' := [some (va_rf (some x0)), some (va_rf (x1)), none, some (.int ((v3) - (1)))]) ⟨Or.inr rfl, ⟨Or.inr rfl, ⟨Or.inl rfl, ⟨Or.inr rfl, trivial⟩⟩⟩⟩ ?_
    exact tJ2_fastRemove_B34 hX  h
abbrev iJ2_remove : gx_M := (RJ2, "remove", cJ2_remove, 4, some (.object "java/lang/Object"))
theorem dsJ2_remove : gx_ds yJ2_remove 1 := by decide +kernel
def fJ2_remove (x0 : Nat) (σ : xk_C) (x1 : Int32) : Option (xk_C × Option Nat) := (xk_gi (σ) 103 (some x0)).bind fun v1 => (fJ6_checkIndex  (x1) (v1)).bind fun r2 => (xk_gr (σ) 102 (some x0)).bind fun v3 => (xk_lq (σ) 4 (v3) (x1)).bind fun v4 => (xk_is (σ) 21 (some x0)).bind fun b6 => (fJ2_fastRemove (b6) (σ) (v3) (x1)).bind fun r5 => some (r5.1, v4)
set_option maxHeartbeats 4000000 in
theorem eJ2_remove {x0 : Nat} {σ : xk_C} {x1 : Int32} : ∀ p, fJ2_remove x0 σ x1 = some p → xk_n p.1 = xk_n σ ∧ xk_s p.1 = xk_s σ := fun r => show xk_er r σ (fJ2_remove x0 σ x1) from by
  unfold fJ2_remove
  exact (xk_er_rd (fun _ => (xk_er_rd (fun _ => (xk_er_rd (fun _ => (xk_er_rd (fun _ => (xk_er_rd (fun _ => (xk_er_ca (eJ2_fastRemove) (fun _ => xk_er_ret))))))))))))
theorem mJ2_remove {x0 : Nat} {σ : xk_C} {x1 : Int32} : ∀ p, fJ2_remove x0 σ x1 = some p → xk_n σ ≤ xk_n p.1 ∧ xk_s σ ≤ xk_s p.1 := fun p h => xk_le_of (eJ2_remove p h)
set_option maxHeartbeats 4000000 in
theorem tJ2_remove (w : gw_W) (A : Nat → Prop) (l : Launch) (x0 : Nat) (σ : xk_C) (x1 : Int32) {r : xk_C × Option Nat} (h : fJ2_remove x0 σ x1 = some r) : gx_T (gw_I w A) A l yJ2_remove iJ2_remove 4 [va_rf (some x0), .int (x1)] (xk_P A w σ) 0 0 (xk_P A w r.1) (.returned (some (va_rf r.2))) := by
  refine gx_T.of (gw_I.inv w A) (by decide) ⟨rfl, rfl⟩ (gx_kR (gx_kI gx_k0)) (Nat.le_of_ble_eq_true rfl) (fun X hl hAx hX => ?_)
  subst hl
  subst hAx
  show gx_G X (xk_P (gx_A X) w (σ)) 0 0 [some (va_rf (some x0)), some (.int (x1)), none, none] 0 []
  unfold fJ2_remove at h
  refine gx_iload_n hX dJ2_remove_0 rfl ?_
  refine gx_aload_n hX dJ2_remove_1 rfl ?_
  refine xk_geti hX 103 q144 (fun _ h => h) rfl dJ2_remove_2 h (fun v1 h => ?_)
  obtain ⟨r2, hr2, h⟩ := gx_bs h
  refine gx_cS (As := [.int (x1), .int (v1)]) (rest := []) hX (tJ6_checkIndex w (gx_A X) (gx_l X) (xk_P (gx_A X) w (σ)) (x1) (v1) hr2) (lw_S q437 q438 q98 q439) dsJ6_checkIndex (by decide) (Nat.le_of_ble_eq_true rfl) rfl (gx_w8 gx_k0 (Nat.le_of_ble_eq_true rfl)) dJ2_remove_5 ⟨Nat.le_refl _, Nat.le_refl _⟩ rfl ?_
  refine gx_pop hX dJ2_remove_8 rfl ?_
  refine gx_aload_n hX dJ2_remove_9 rfl ?_
  refine xk_getr hX 102 q143 (fun _ h => h) rfl dJ2_remove_10 h (fun v3 h => ?_)
  refine gx_astore_n hX dJ2_remove_13 (Nat.le_of_ble_eq_true rfl) gx_c1i (lv' := [some (va_rf (some x0)), some (.int (x1)), some (va_rf (v3)), none]) rfl ?_
  refine gx_aload_n hX dJ2_remove_14 rfl ?_
  refine gx_iload_n hX dJ2_remove_15 rfl ?_
  refine xk_aaload hX 4 ⟨by decide, by decide, rfl⟩ dJ2_remove_16 h (fun v4 h => ?_)
  refine gx_astore_n hX dJ2_remove_17 (Nat.le_of_ble_eq_true rfl) gx_c1r (lv' := [some (va_rf (some x0)), some (.int (x1)), some (va_rf (v3)), some (va_rf (v4))]) rfl ?_
  refine gx_aload_n hX dJ2_remove_18 rfl ?_
  refine gx_aload_n hX dJ2_remove_19 rfl ?_
  refine gx_iload_n hX dJ2_remove_20 rfl ?_
  obtain ⟨b6, hb, h⟩ := gx_bs h
  obtain ⟨eb, hkb⟩ := xk_isS hb
  obtain ⟨r5, hr5, h⟩ := gx_bs h
  refine gx_cV (As := [va_rf (v3), .int (x1)]) (rest := []) (b := b6) hX (tJ2_fastRemove w (gx_A X) (gx_l X) (b6) (σ) (v3) (x1) hr5) (lw_V q1198 q1200 qs30 q89 q1201) ⟨rfl, dsJ2_fastRemove⟩ (by decide) (Nat.le_of_ble_eq_true rfl) (xk_rc hX (ci := 20) (by decide) (by decide) hkb) (by rw [eb]; rfl) (gx_w8 gx_k0 (Nat.le_of_ble_eq_true rfl)) dJ2_remove_21 ⟨Nat.le_refl _, Nat.le_refl _⟩ rfl ?_
  refine gx_aload_n hX dJ2_remove_24 rfl ?_
  cases h
  exact gx_aret hX rfl (Or.inl ⟨_, rfl⟩) dJ2_remove_25 rfl ⟨rfl, rfl⟩ (fun _ h => h)
abbrev iJ8_init : gx_M := (RJ8, "<init>", cJ8_init, 1, none)
theorem dsJ8_init : gx_ds yJ8_init 0 := by decide +kernel
def fJ8_init (x0 : Nat) (σ : xk_C)  : Option (xk_C × Unit) := (xk_pr (σ) 70 (some x0) (some x0)).bind fun σ1 => (xk_pr (σ1) 71 (some x0) (xk_u1 (σ1))).bind fun σ2 => (xk_pr (σ2) 72 (some x0) (xk_u2 (σ2))).bind fun σ3 => none
set_option maxHeartbeats 4000000 in
theorem tJ8_init (w : gw_W) (A : Nat → Prop) (l : Launch) (x0 : Nat) (σ : xk_C)  {r : xk_C × Unit} (h : fJ8_init x0 σ = some r) : gx_T (gw_I w A) A l yJ8_init iJ8_init 2 [va_rf (some x0)] (xk_P A w σ) 0 0 (xk_P A w r.1) (.returned none) := by
  refine gx_T.of (gw_I.inv w A) (by decide) ⟨rfl, rfl⟩ (gx_kR gx_k0) (Nat.le_of_ble_eq_true rfl) (fun X hl hAx hX => ?_)
  subst hl
  subst hAx
  show gx_G X (xk_P (gx_A X) w (σ)) 0 0 [some (va_rf (some x0))] 0 []
  unfold fJ8_init at h
  refine gx_aload_n hX dJ8_init_0 rfl ?_
  refine gx_obj (b := x0) hX ⟨q794, q127, q128⟩ (by decide) (gx_w8 gx_k0 (Nat.le_of_ble_eq_true rfl)) dJ8_init_1 rfl ?_
  refine gx_aload_n hX dJ8_init_4 rfl ?_
  refine gx_aload_n hX dJ8_init_5 rfl ?_
  refine xk_putr hX 70 xk_ty70 (Or.inl ⟨_, rfl⟩) q821 (fun _ h => h) rfl rfl dJ8_init_6 h (fun σ1 hτ h => ?_)
  refine gx_aload_n hX dJ8_init_9 rfl ?_
  refine xk_gs1 hX q795 dJ8_init_10 ?_
  refine xk_putr hX 71 xk_ty71 (Or.inr ⟨_, rfl⟩) q822 (fun _ h => h) rfl rfl dJ8_init_13 h (fun σ2 hτ h => ?_)
  refine gx_aload_n hX dJ8_init_16 rfl ?_
  refine xk_gs2 hX q797 dJ8_init_17 ?_
  refine xk_putr hX 72 xk_ty72 (Or.inl ⟨_, rfl⟩) q823 (fun _ h => h) rfl rfl dJ8_init_20 h (fun σ3 hτ h => ?_)
  refine gx_aload_n hX dJ8_init_23 rfl ?_
  cases h
abbrev iJ8_init_2 : gx_M := (RJ8, "<init>", cJ8_init_2, 5, none)
theorem dsJ8_init_2 : gx_ds yJ8_init_2 4 := by decide +kernel
def fJ8_init_2_B41 (x0 : Nat)   (σ : xk_C) (x1 : Option Nat) (x2 : Option Nat) (x3 : Int32) : Option (xk_C × Unit) := (xk_pr (σ) 73 (some x0) (x1)).bind fun σ5 => (xk_pr (σ5) 70 (some x0) (x2)).bind fun σ6 => if x3 = 0 then (xk_pr (σ6) 72 (some x0) (none)).bind fun σ7 => some (σ7, ()) else some (σ6, ())
set_option maxHeartbeats 4000000 in
theorem eJ8_init_2_B41 {r : xk_C × Unit} {x0 : Nat}   {σ : xk_C} {x1 : Option Nat} {x2 : Option Nat} {x3 : Int32} : xk_er r σ (fJ8_init_2_B41 x0 σ x1 x2 x3) := by
  unfold fJ8_init_2_B41
  exact (xk_er_op xk_e_pr (fun _ => (xk_er_op xk_e_pr (fun _ => (xk_er_ite (xk_er_op xk_e_pr (fun _ => xk_er_ret)) xk_er_ret)))))
set_option maxHeartbeats 4000000 in
theorem tJ8_init_2_B41 {w : gw_W} {X : gx_X} {x0 : Nat} {r : xk_C × Unit} (hX : gx_O (gw_I w (gx_A X)) X iJ8_init_2 2 0 0 (xk_P (gx_A X) w r.1) (.returned none))  {σ : xk_C} {x1 : Option Nat} {x2 : Option Nat} {x3 : Int32} (h : fJ8_init_2_B41 x0 σ x1 x2 x3 = some r) : gx_G X (xk_P (gx_A X) w (σ)) 0 0 [some (va_rf (some x0)), some (va_rf (x1)), some (va_rf (x2)), some (.int (x3)), none] 41 [] := by
  unfold fJ8_init_2_B41 at h
  refine gx_aload_n hX dJ8_init_2_41 rfl ?_
  refine gx_aload_n hX dJ8_init_2_42 rfl ?_
  refine xk_putr hX 73 xk_ty73 (Or.inl ⟨_, rfl⟩) q820 (fun _ h => h) rfl rfl dJ8_init_2_43 h (fun σ5 hτ h => ?_)
  refine gx_aload_n hX dJ8_init_2_46 rfl ?_
  refine gx_aload_n hX dJ8_init_2_47 rfl ?_
  refine xk_putr hX 70 xk_ty70 (Or.inl ⟨_, rfl⟩) q821 (fun _ h => h) rfl rfl dJ8_init_2_48 h (fun σ6 hτ h => ?_)
  refine gx_iload_n hX dJ8_init_2_51 rfl ?_
  refine gx_if_ne (tgt := 60) hX dJ8_init_2_52 (by decide) h (fun h => ?_) (fun h => ?_)
  · refine gx_aload_n hX dJ8_init_2_55 rfl ?_
    refine gx_null hX dJ8_init_2_56 ?_
    refine xk_putr hX 72 xk_ty72 (Or.inl ⟨_, rfl⟩) q823 (fun _ h => h) rfl rfl dJ8_init_2_57 h (fun σ7 hτ h => ?_)
    cases h
    exact gx_vret hX rfl dJ8_init_2_60 rfl ⟨rfl, rfl⟩ (fun _ h => h)
  · cases h
    exact gx_vret hX rfl dJ8_init_2_60 rfl ⟨rfl, rfl⟩ (fun _ h => h)
def fJ8_init_2 (x0 : Nat) (σ : xk_C) (x1 : Option Nat) (x2 : Option Nat) (x3 : Int32) (x4 : Int32) : Option (xk_C × Unit) := (xk_pr (σ) 70 (some x0) (some x0)).bind fun σ1 => (xk_pr (σ1) 71 (some x0) (xk_u1 (σ1))).bind fun σ2 => (xk_pr (σ2) 72 (some x0) (xk_u2 (σ2))).bind fun σ3 => if x4 = 0 then (xk_pr (σ3) 71 (some x0) (none)).bind fun σ4 => fJ8_init_2_B41 x0 (σ4) (x1) (x2) (x3) else none
set_option maxHeartbeats 4000000 in
theorem eJ8_init_2 {x0 : Nat} {σ : xk_C} {x1 : Option Nat} {x2 : Option Nat} {x3 : Int32} {x4 : Int32} : ∀ p, fJ8_init_2 x0 σ x1 x2 x3 x4 = some p → xk_n p.1 = xk_n σ ∧ xk_s p.1 = xk_s σ := fun r => show xk_er r σ (fJ8_init_2 x0 σ x1 x2 x3 x4) from by
  unfold fJ8_init_2
  exact (xk_er_op xk_e_pr (fun _ => (xk_er_op xk_e_pr (fun _ => (xk_er_op xk_e_pr (fun _ => (xk_er_ite (xk_er_op xk_e_pr (fun _ => (eJ8_init_2_B41 ))) xk_er_none)))))))
theorem mJ8_init_2 {x0 : Nat} {σ : xk_C} {x1 : Option Nat} {x2 : Option Nat} {x3 : Int32} {x4 : Int32} : ∀ p, fJ8_init_2 x0 σ x1 x2 x3 x4 = some p → xk_n σ ≤ xk_n p.1 ∧ xk_s σ ≤ xk_s p.1 := fun p h => xk_le_of (eJ8_init_2 p h)
set_option maxHeartbeats 4000000 in
theorem tJ8_init_2 (w : gw_W) (A : Nat → Prop) (l : Launch) (x0 : Nat) (σ : xk_C) (x1 : Option Nat) (x2 : Option Nat) (x3 : Int32) (x4 : Int32) {r : xk_C × Unit} (h : fJ8_init_2 x0 σ x1 x2 x3 x4 = some r) : gx_T (gw_I w A) A l yJ8_init_2 iJ8_init_2 2 [va_rf (some x0), va_rf (x1), va_rf (x2), .int (x3), .int (x4)] (xk_P A w σ) 0 0 (xk_P A w r.1) (.returned none) := by
  refine gx_T.of (gw_I.inv w A) (by decide) ⟨rfl, rfl⟩ (gx_kR (gx_kR (gx_kR (gx_kI (gx_kI gx_k0))))) (Nat.le_of_ble_eq_true rfl) (fun X hl hAx hX => ?_)
  subst hl
  subst hAx
  show gx_G X (xk_P (gx_A X) w (σ)) 0 0 [some (va_rf (some x0)), some (va_rf (x1)), some (va_rf (x2)), some (.int (x3)), some (.int (x4))] 0 []
  unfold fJ8_init_2 at h
  refine gx_aload_n hX dJ8_init_2_0 rfl ?_
  refine gx_obj (b := x0) hX ⟨q794, q127, q128⟩ (by decide) (gx_w8 gx_k0 (Nat.le_of_ble_eq_true rfl)) dJ8_init_2_1 rfl ?_
  refine gx_aload_n hX dJ8_init_2_4 rfl ?_
  refine gx_aload_n hX dJ8_init_2_5 rfl ?_
  refine xk_putr hX 70 xk_ty70 (Or.inl ⟨_, rfl⟩) q821 (fun _ h => h) rfl rfl dJ8_init_2_6 h (fun σ1 hτ h => ?_)
  refine gx_aload_n hX dJ8_init_2_9 rfl ?_
  refine xk_gs1 hX q795 dJ8_init_2_10 ?_
  refine xk_putr hX 71 xk_ty71 (Or.inr ⟨_, rfl⟩) q822 (fun _ h => h) rfl rfl dJ8_init_2_13 h (fun σ2 hτ h => ?_)
  refine gx_aload_n hX dJ8_init_2_16 rfl ?_
  refine xk_gs2 hX q797 dJ8_init_2_17 ?_
  refine xk_putr hX 72 xk_ty72 (Or.inl ⟨_, rfl⟩) q823 (fun _ h => h) rfl rfl dJ8_init_2_20 h (fun σ3 hτ h => ?_)
  refine gx_iload hX dJ8_init_2_23 rfl ?_
  refine gx_if_eq (tgt := 36) hX dJ8_init_2_25 (by decide) h (fun h => ?_) (fun h => ?_)
  · refine gx_aload_n hX dJ8_init_2_36 rfl ?_
    refine gx_null hX dJ8_init_2_37 ?_
    refine xk_putr hX 71 xk_ty71 (Or.inr ⟨_, rfl⟩) q822 (fun _ h => h) rfl rfl dJ8_init_2_38 h (fun σ4 hτ h => ?_)
    refine gx_sub hX (lv' := [some (va_rf (some x0)), some (va_rf (x1)), some (va_rf (x2)), some (.int (x3)), none]) ⟨Or.inr rfl, ⟨Or.inr rfl, ⟨Or.inr rfl, ⟨Or.inr rfl, ⟨Or.inl rfl, trivial⟩⟩⟩⟩⟩ ?_
    exact tJ8_init_2_B41 hX  h
  · refine gx_aload_n hX dJ8_init_2_28 rfl ?_
    cases h
abbrev iJ9_init : gx_M := (RJ9, "<init>", cJ9_init, 5, none)
theorem dsJ9_init : gx_ds yJ9_init 4 := by decide +kernel
def fJ9_init (x0 : Nat) (σ : xk_C) (x1 : Option Nat) (x2 : Option Nat) (x3 : Int32) (x4 : Int32) : Option (xk_C × Unit) := (fJ8_init_2 (x0) (σ) (x1) (x2) (x3) (x4)).bind fun r1 => some (r1.1, ())
set_option maxHeartbeats 4000000 in
theorem eJ9_init {x0 : Nat} {σ : xk_C} {x1 : Option Nat} {x2 : Option Nat} {x3 : Int32} {x4 : Int32} : ∀ p, fJ9_init x0 σ x1 x2 x3 x4 = some p → xk_n p.1 = xk_n σ ∧ xk_s p.1 = xk_s σ := fun r => show xk_er r σ (fJ9_init x0 σ x1 x2 x3 x4) from by
  unfold fJ9_init
  exact (xk_er_ca (eJ8_init_2) (fun _ => xk_er_ret))
theorem mJ9_init {x0 : Nat} {σ : xk_C} {x1 : Option Nat} {x2 : Option Nat} {x3 : Int32} {x4 : Int32} : ∀ p, fJ9_init x0 σ x1 x2 x3 x4 = some p → xk_n σ ≤ xk_n p.1 ∧ xk_s σ ≤ xk_s p.1 := fun p h => xk_le_of (eJ9_init p h)
set_option maxHeartbeats 4000000 in
theorem tJ9_init (w : gw_W) (A : Nat → Prop) (l : Launch) (x0 : Nat) (σ : xk_C) (x1 : Option Nat) (x2 : Option Nat) (x3 : Int32) (x4 : Int32) {r : xk_C × Unit} (h : fJ9_init x0 σ x1 x2 x3 x4 = some r) : gx_T (gw_I w A) A l yJ9_init iJ9_init 3 [va_rf (some x0), va_rf (x1), va_rf (x2), .int (x3), .int (x4)] (xk_P A w σ) 0 0 (xk_P A w r.1) (.returned none) := by
  refine gx_T.of (gw_I.inv w A) (by decide) ⟨rfl, rfl⟩ (gx_kR (gx_kR (gx_kR (gx_kI (gx_kI gx_k0))))) (Nat.le_of_ble_eq_true rfl) (fun X hl hAx hX => ?_)
  subst hl
  subst hAx
  show gx_G X (xk_P (gx_A X) w (σ)) 0 0 [some (va_rf (some x0)), some (va_rf (x1)), some (va_rf (x2)), some (.int (x3)), some (.int (x4))] 0 []
  unfold fJ9_init at h
  refine gx_aload_n hX dJ9_init_0 rfl ?_
  refine gx_aload_n hX dJ9_init_1 rfl ?_
  refine gx_aload_n hX dJ9_init_2 rfl ?_
  refine gx_iload_n hX dJ9_init_3 rfl ?_
  refine gx_iload hX dJ9_init_4 rfl ?_
  obtain ⟨r1, hr1, h⟩ := gx_bs h
  refine gx_cI (As := [va_rf (x1), va_rf (x2), .int (x3), .int (x4)]) (rest := []) (b := x0) (C2 := RJ8) (nm2 := "<init>") hX (tJ8_init_2 w (gx_A X) (gx_l X) (x0) (σ) (x1) (x2) (x3) (x4) hr1) (lw_meth q816) ⟨q109, q814, q815⟩ ⟨rfl, dsJ8_init_2⟩ (by decide) (Nat.le_of_ble_eq_true rfl) rfl (gx_w8 gx_k0 (Nat.le_of_ble_eq_true rfl)) dJ9_init_6 ⟨Nat.le_refl _, Nat.le_refl _⟩ rfl ?_
  cases h
  exact gx_vret hX rfl dJ9_init_9 rfl ⟨rfl, rfl⟩ (fun _ h => h)
abbrev iX1_init : gx_M := (RX1, "<init>", cX1_init, 1, none)
theorem dsX1_init : gx_ds yX1_init 0 := by decide +kernel
def fX1_init (x0 : Nat) (σ : xk_C)  : Option (Unit) := some (())
set_option maxHeartbeats 4000000 in
theorem tX1_init (w : gw_W) (A : Nat → Prop) (l : Launch) (x0 : Nat) (σ : xk_C)  {r : Unit} (h : fX1_init x0 σ = some r) : gx_T (gw_I w A) A l yX1_init iX1_init 2 [va_rf (some x0)] (xk_P A w σ) 0 0 (xk_P A w σ) (.returned none) := by
  refine gx_T.of (gw_I.inv w A) (by decide) ⟨rfl, rfl⟩ (gx_kR gx_k0) (Nat.le_of_ble_eq_true rfl) (fun X hl hAx hX => ?_)
  subst hl
  subst hAx
  show gx_G X (xk_P (gx_A X) w (σ)) 0 0 [some (va_rf (some x0))] 0 []
  unfold fX1_init at h
  refine gx_aload_n hX dX1_init_0 rfl ?_
  refine gx_obj (b := x0) hX ⟨q160, q127, q128⟩ (by decide) (gx_w8 gx_k0 (Nat.le_of_ble_eq_true rfl)) dX1_init_1 rfl ?_
  cases h
  exact gx_vret hX rfl dX1_init_4 rfl ⟨rfl, rfl⟩ (fun _ h => h)
abbrev iX2_init : gx_M := (RX2, "<init>", cX2_init, 2, none)
theorem dsX2_init : gx_ds yX2_init 1 := by decide +kernel
def fX2_init (x0 : Nat) (σ : xk_C) (x1 : Option Nat) : Option (xk_C × Unit) := (xk_pr (σ) 36 (some x0) (x1)).bind fun σ1 => (xk_na (σ1) 9 (4)).bind fun σ2 => (xk_na (σ2) 2 (4)).bind fun σ3 => (xk_st (σ3) 2 (some (xk_n (σ2))) (0) (nI 116)).bind fun σ4 => (xk_st (σ4) 2 (some (xk_n (σ2))) (1) (nI 97)).bind fun σ5 => (xk_st (σ5) 2 (some (xk_n (σ2))) (2) (nI 107)).bind fun σ6 => (xk_st (σ6) 2 (some (xk_n (σ2))) (3) (nI 101)).bind fun σ7 => (xk_sa (σ7) 9 (some (xk_n (σ1))) (0) (some (xk_n (σ2)))).bind fun σ8 => (xk_na (σ8) 2 (5)).bind fun σ9 => (xk_st (σ9) 2 (some (xk_n (σ8))) (0) (nI 107)).bind fun σ10 => (xk_st (σ10) 2 (some (xk_n (σ8))) (1) (nI 110)).bind fun σ11 => (xk_st (σ11) 2 (some (xk_n (σ8))) (2) (nI 111)).bind fun σ12 => (xk_st (σ12) 2 (some (xk_n (σ8))) (3) (nI 99)).bind fun σ13 => (xk_st (σ13) 2 (some (xk_n (σ8))) (4) (nI 107)).bind fun σ14 => (xk_sa (σ14) 9 (some (xk_n (σ1))) (1) (some (xk_n (σ8)))).bind fun σ15 => (xk_na (σ15) 2 (4)).bind fun σ16 => (xk_st (σ16) 2 (some (xk_n (σ15))) (0) (nI 103)).bind fun σ17 => (xk_st (σ17) 2 (some (xk_n (σ15))) (1) (nI 105)).bind fun σ18 => (xk_st (σ18) 2 (some (xk_n (σ15))) (2) (nI 118)).bind fun σ19 => (xk_st (σ19) 2 (some (xk_n (σ15))) (3) (nI 101)).bind fun σ20 => (xk_sa (σ20) 9 (some (xk_n (σ1))) (2) (some (xk_n (σ15)))).bind fun σ21 => (xk_na (σ21) 2 (4)).bind fun σ22 => (xk_st (σ22) 2 (some (xk_n (σ21))) (0) (nI 119)).bind fun σ23 => (xk_st (σ23) 2 (some (xk_n (σ21))) (1) (nI 97)).bind fun σ24 => (xk_st (σ24) 2 (some (xk_n (σ21))) (2) (nI 105)).bind fun σ25 => (xk_st (σ25) 2 (some (xk_n (σ21))) (3) (nI 116)).bind fun σ26 => (xk_sa (σ26) 9 (some (xk_n (σ1))) (3) (some (xk_n (σ21)))).bind fun σ27 => (xk_pr (σ27) 32 (some x0) (some (xk_n (σ1)))).bind fun σ28 => some (σ28, ())
set_option maxHeartbeats 4000000 in
theorem mX2_init {x0 : Nat} {σ : xk_C} {x1 : Option Nat} : ∀ p, fX2_init x0 σ x1 = some p → xk_n σ ≤ xk_n p.1 ∧ xk_s σ ≤ xk_s p.1 := fun r => show xk_lr r σ (fX2_init x0 σ x1) from by
  unfold fX2_init
  exact (xk_lr_op xk_m_pr (fun _ => (xk_lr_op xk_m_na (fun _ => (xk_lr_op xk_m_na (fun _ => (xk_lr_op xk_m_st (fun _ => (xk_lr_op xk_m_st (fun _ => (xk_lr_op xk_m_st (fun _ => (xk_lr_op xk_m_st (fun _ => (xk_lr_op xk_m_sa (fun _ => (xk_lr_op xk_m_na (fun _ => (xk_lr_op xk_m_st (fun _ => (xk_lr_op xk_m_st (fun _ => (xk_lr_op xk_m_st (fun _ => (xk_lr_op xk_m_st (fun _ => (xk_lr_op xk_m_st (fun _ => (xk_lr_op xk_m_sa (fun _ => (xk_lr_op xk_m_na (fun _ => (xk_lr_op xk_m_st (fun _ => (xk_lr_op xk_m_st (fun _ => (xk_lr_op xk_m_st (fun _ => (xk_lr_op xk_m_st (fun _ => (xk_lr_op xk_m_sa (fun _ => (xk_lr_op xk_m_na (fun _ => (xk_lr_op xk_m_st (fun _ => (xk_lr_op xk_m_st (fun _ => (xk_lr_op xk_m_st (fun _ => (xk_lr_op xk_m_st (fun _ => (xk_lr_op xk_m_sa (fun _ => (xk_lr_op xk_m_pr (fun _ => xk_lr_ret))))))))))))))))))))))))))))))))))))))))))))))))))))))))
set_option maxHeartbeats 4000000 in
theorem tX2_init (w : gw_W) (A : Nat → Prop) (l : Launch) (x0 : Nat) (σ : xk_C) (x1 : Option Nat) {r : xk_C × Unit} (h : fX2_init x0 σ x1 = some r) : gx_T (gw_I w A) A l yX2_init iX2_init 2 [va_rf (some x0), va_rf (x1)] (xk_P A w σ) (xk_n r.1 - xk_n σ) (xk_s r.1 - xk_s σ) (xk_P A w r.1) (.returned none) := by
  refine gx_T.of (gw_I.inv w A) (by decide) ⟨rfl, rfl⟩ (gx_kR (gx_kR gx_k0)) (Nat.le_of_ble_eq_true rfl) (fun X hl hAx hX => ?_)
  subst hl
  subst hAx
  show gx_G X (xk_P (gx_A X) w (σ)) 0 0 [some (va_rf (some x0)), some (va_rf (x1))] 0 []
  have hu := mX2_init _ h
  unfold fX2_init at h
  refine xk_G0 (a := xk_n σ) (b := xk_s σ) ?_
  have hm : xk_n σ ≤ xk_n σ ∧ xk_s σ ≤ xk_s σ := ⟨Nat.le_refl _, Nat.le_refl _⟩
  refine gx_aload_n hX dX2_init_0 rfl ?_
  refine gx_aload_n hX dX2_init_1 rfl ?_
  refine xk_putrF hX 36 xk_ty36 (Or.inl ⟨_, rfl⟩) q191 rfl ⟨rfl, rfl, rfl⟩ dX2_init_2 h (fun σ1 hτ h => xk_Gt hτ ?_)
  have hm := xk_hme hm hτ
  have hu := xk_hue hu hτ
  refine gx_aload_n hX dX2_init_5 rfl ?_
  refine gx_obj (b := x0) hX ⟨q184, q127, q128⟩ (by decide) (gx_w8 gx_k0 (Nat.le_of_ble_eq_true rfl)) dX2_init_6 rfl ?_
  refine gx_aload_n hX dX2_init_9 rfl ?_
  refine gx_iconst (v := 4) hX dX2_init_10 (by decide) ?_
  refine xk_anewC hX q185 dX2_init_11 h (fun σ2 hτ h => ?_)
  have hu := xk_use (C := σ2) h (xk_lr_op xk_m_na (fun _ => (xk_lr_op xk_m_st (fun _ => (xk_lr_op xk_m_st (fun _ => (xk_lr_op xk_m_st (fun _ => (xk_lr_op xk_m_st (fun _ => (xk_lr_op xk_m_sa (fun _ => (xk_lr_op xk_m_na (fun _ => (xk_lr_op xk_m_st (fun _ => (xk_lr_op xk_m_st (fun _ => (xk_lr_op xk_m_st (fun _ => (xk_lr_op xk_m_st (fun _ => (xk_lr_op xk_m_st (fun _ => (xk_lr_op xk_m_sa (fun _ => (xk_lr_op xk_m_na (fun _ => (xk_lr_op xk_m_st (fun _ => (xk_lr_op xk_m_st (fun _ => (xk_lr_op xk_m_st (fun _ => (xk_lr_op xk_m_st (fun _ => (xk_lr_op xk_m_sa (fun _ => (xk_lr_op xk_m_na (fun _ => (xk_lr_op xk_m_st (fun _ => (xk_lr_op xk_m_st (fun _ => (xk_lr_op xk_m_st (fun _ => (xk_lr_op xk_m_st (fun _ => (xk_lr_op xk_m_sa (fun _ => (xk_lr_op xk_m_pr (fun _ => xk_lr_ret))))))))))))))))))))))))))))))))))))))))))))))))))))
  refine ⟨xk_hfm hm hτ hu, xk_Gm hm hτ ?_⟩
  have hm := xk_hmm hm hτ
  refine gx_dup hX dX2_init_14 (gx_cat _) ?_
  refine gx_iconst (v := 0) hX dX2_init_15 (by decide) ?_
  refine gx_iconst (v := 4) hX dX2_init_16 (by decide) ?_
  refine xk_newa (atype := .char) hX 2 ⟨by decide, rfl, by decide, rfl, fun _ => rfl⟩ q203 dX2_init_17 h (fun σ3 hτ h => ?_)
  have hu := xk_use (C := σ3) h (xk_lr_op xk_m_st (fun _ => (xk_lr_op xk_m_st (fun _ => (xk_lr_op xk_m_st (fun _ => (xk_lr_op xk_m_st (fun _ => (xk_lr_op xk_m_sa (fun _ => (xk_lr_op xk_m_na (fun _ => (xk_lr_op xk_m_st (fun _ => (xk_lr_op xk_m_st (fun _ => (xk_lr_op xk_m_st (fun _ => (xk_lr_op xk_m_st (fun _ => (xk_lr_op xk_m_st (fun _ => (xk_lr_op xk_m_sa (fun _ => (xk_lr_op xk_m_na (fun _ => (xk_lr_op xk_m_st (fun _ => (xk_lr_op xk_m_st (fun _ => (xk_lr_op xk_m_st (fun _ => (xk_lr_op xk_m_st (fun _ => (xk_lr_op xk_m_sa (fun _ => (xk_lr_op xk_m_na (fun _ => (xk_lr_op xk_m_st (fun _ => (xk_lr_op xk_m_st (fun _ => (xk_lr_op xk_m_st (fun _ => (xk_lr_op xk_m_st (fun _ => (xk_lr_op xk_m_sa (fun _ => (xk_lr_op xk_m_pr (fun _ => xk_lr_ret))))))))))))))))))))))))))))))))))))))))))))))))))
  refine ⟨xk_hfm hm hτ hu, xk_Gm hm hτ ?_⟩
  have hm := xk_hmm hm hτ
  refine gx_dup hX dX2_init_19 (gx_cat _) ?_
  refine gx_iconst (v := 0) hX dX2_init_20 (by decide) ?_
  refine gx_bipush (v := nI 116) hX dX2_init_21 (by decide) ?_
  refine xk_castore hX dX2_init_23 h (fun σ4 hτ h => xk_Gt hτ ?_)
  have hm := xk_hme hm hτ
  have hu := xk_hue hu hτ
  refine gx_dup hX dX2_init_24 (gx_cat _) ?_
  refine gx_iconst (v := 1) hX dX2_init_25 (by decide) ?_
  refine gx_bipush (v := nI 97) hX dX2_init_26 (by decide) ?_
  refine xk_castore hX dX2_init_28 h (fun σ5 hτ h => xk_Gt hτ ?_)
  have hm := xk_hme hm hτ
  have hu := xk_hue hu hτ
  refine gx_dup hX dX2_init_29 (gx_cat _) ?_
  refine gx_iconst (v := 2) hX dX2_init_30 (by decide) ?_
  refine gx_bipush (v := nI 107) hX dX2_init_31 (by decide) ?_
  refine xk_castore hX dX2_init_33 h (fun σ6 hτ h => xk_Gt hτ ?_)
  have hm := xk_hme hm hτ
  have hu := xk_hue hu hτ
  refine gx_dup hX dX2_init_34 (gx_cat _) ?_
  refine gx_iconst (v := 3) hX dX2_init_35 (by decide) ?_
  refine gx_bipush (v := nI 101) hX dX2_init_36 (by decide) ?_
  refine xk_castore hX dX2_init_38 h (fun σ7 hτ h => xk_Gt hτ ?_)
  have hm := xk_hme hm hτ
  have hu := xk_hue hu hτ
  refine xk_aastC hX dX2_init_39 h (fun σ8 hτ h => xk_Gt hτ ?_)
  have hm := xk_hme hm hτ
  have hu := xk_hue hu hτ
  refine gx_dup hX dX2_init_40 (gx_cat _) ?_
  refine gx_iconst (v := 1) hX dX2_init_41 (by decide) ?_
  refine gx_iconst (v := 5) hX dX2_init_42 (by decide) ?_
  refine xk_newa (atype := .char) hX 2 ⟨by decide, rfl, by decide, rfl, fun _ => rfl⟩ q203 dX2_init_43 h (fun σ9 hτ h => ?_)
  have hu := xk_use (C := σ9) h (xk_lr_op xk_m_st (fun _ => (xk_lr_op xk_m_st (fun _ => (xk_lr_op xk_m_st (fun _ => (xk_lr_op xk_m_st (fun _ => (xk_lr_op xk_m_st (fun _ => (xk_lr_op xk_m_sa (fun _ => (xk_lr_op xk_m_na (fun _ => (xk_lr_op xk_m_st (fun _ => (xk_lr_op xk_m_st (fun _ => (xk_lr_op xk_m_st (fun _ => (xk_lr_op xk_m_st (fun _ => (xk_lr_op xk_m_sa (fun _ => (xk_lr_op xk_m_na (fun _ => (xk_lr_op xk_m_st (fun _ => (xk_lr_op xk_m_st (fun _ => (xk_lr_op xk_m_st (fun _ => (xk_lr_op xk_m_st (fun _ => (xk_lr_op xk_m_sa (fun _ => (xk_lr_op xk_m_pr (fun _ => xk_lr_ret))))))))))))))))))))))))))))))))))))))
  refine ⟨xk_hfm hm hτ hu, xk_Gm hm hτ ?_⟩
  have hm := xk_hmm hm hτ
  refine gx_dup hX dX2_init_45 (gx_cat _) ?_
  refine gx_iconst (v := 0) hX dX2_init_46 (by decide) ?_
  refine gx_bipush (v := nI 107) hX dX2_init_47 (by decide) ?_
  refine xk_castore hX dX2_init_49 h (fun σ10 hτ h => xk_Gt hτ ?_)
  have hm := xk_hme hm hτ
  have hu := xk_hue hu hτ
  refine gx_dup hX dX2_init_50 (gx_cat _) ?_
  refine gx_iconst (v := 1) hX dX2_init_51 (by decide) ?_
  refine gx_bipush (v := nI 110) hX dX2_init_52 (by decide) ?_
  refine xk_castore hX dX2_init_54 h (fun σ11 hτ h => xk_Gt hτ ?_)
  have hm := xk_hme hm hτ
  have hu := xk_hue hu hτ
  refine gx_dup hX dX2_init_55 (gx_cat _) ?_
  refine gx_iconst (v := 2) hX dX2_init_56 (by decide) ?_
  refine gx_bipush (v := nI 111) hX dX2_init_57 (by decide) ?_
  refine xk_castore hX dX2_init_59 h (fun σ12 hτ h => xk_Gt hτ ?_)
  have hm := xk_hme hm hτ
  have hu := xk_hue hu hτ
  refine gx_dup hX dX2_init_60 (gx_cat _) ?_
  refine gx_iconst (v := 3) hX dX2_init_61 (by decide) ?_
  refine gx_bipush (v := nI 99) hX dX2_init_62 (by decide) ?_
  refine xk_castore hX dX2_init_64 h (fun σ13 hτ h => xk_Gt hτ ?_)
  have hm := xk_hme hm hτ
  have hu := xk_hue hu hτ
  refine gx_dup hX dX2_init_65 (gx_cat _) ?_
  refine gx_iconst (v := 4) hX dX2_init_66 (by decide) ?_
  refine gx_bipush (v := nI 107) hX dX2_init_67 (by decide) ?_
  refine xk_castore hX dX2_init_69 h (fun σ14 hτ h => xk_Gt hτ ?_)
  have hm := xk_hme hm hτ
  have hu := xk_hue hu hτ
  refine xk_aastC hX dX2_init_70 h (fun σ15 hτ h => xk_Gt hτ ?_)
  have hm := xk_hme hm hτ
  have hu := xk_hue hu hτ
  refine gx_dup hX dX2_init_71 (gx_cat _) ?_
  refine gx_iconst (v := 2) hX dX2_init_72 (by decide) ?_
  refine gx_iconst (v := 4) hX dX2_init_73 (by decide) ?_
  refine xk_newa (atype := .char) hX 2 ⟨by decide, rfl, by decide, rfl, fun _ => rfl⟩ q203 dX2_init_74 h (fun σ16 hτ h => ?_)
  have hu := xk_use (C := σ16) h (xk_lr_op xk_m_st (fun _ => (xk_lr_op xk_m_st (fun _ => (xk_lr_op xk_m_st (fun _ => (xk_lr_op xk_m_st (fun _ => (xk_lr_op xk_m_sa (fun _ => (xk_lr_op xk_m_na (fun _ => (xk_lr_op xk_m_st (fun _ => (xk_lr_op xk_m_st (fun _ => (xk_lr_op xk_m_st (fun _ => (xk_lr_op xk_m_st (fun _ => (xk_lr_op xk_m_sa (fun _ => (xk_lr_op xk_m_pr (fun _ => xk_lr_ret))))))))))))))))))))))))
  refine ⟨xk_hfm hm hτ hu, xk_Gm hm hτ ?_⟩
  have hm := xk_hmm hm hτ
  refine gx_dup hX dX2_init_76 (gx_cat _) ?_
  refine gx_iconst (v := 0) hX dX2_init_77 (by decide) ?_
  refine gx_bipush (v := nI 103) hX dX2_init_78 (by decide) ?_
  refine xk_castore hX dX2_init_80 h (fun σ17 hτ h => xk_Gt hτ ?_)
  have hm := xk_hme hm hτ
  have hu := xk_hue hu hτ
  refine gx_dup hX dX2_init_81 (gx_cat _) ?_
  refine gx_iconst (v := 1) hX dX2_init_82 (by decide) ?_
  refine gx_bipush (v := nI 105) hX dX2_init_83 (by decide) ?_
  refine xk_castore hX dX2_init_85 h (fun σ18 hτ h => xk_Gt hτ ?_)
  have hm := xk_hme hm hτ
  have hu := xk_hue hu hτ
  refine gx_dup hX dX2_init_86 (gx_cat _) ?_
  refine gx_iconst (v := 2) hX dX2_init_87 (by decide) ?_
  refine gx_bipush (v := nI 118) hX dX2_init_88 (by decide) ?_
  refine xk_castore hX dX2_init_90 h (fun σ19 hτ h => xk_Gt hτ ?_)
  have hm := xk_hme hm hτ
  have hu := xk_hue hu hτ
  refine gx_dup hX dX2_init_91 (gx_cat _) ?_
  refine gx_iconst (v := 3) hX dX2_init_92 (by decide) ?_
  refine gx_bipush (v := nI 101) hX dX2_init_93 (by decide) ?_
  refine xk_castore hX dX2_init_95 h (fun σ20 hτ h => xk_Gt hτ ?_)
  have hm := xk_hme hm hτ
  have hu := xk_hue hu hτ
  refine xk_aastC hX dX2_init_96 h (fun σ21 hτ h => xk_Gt hτ ?_)
  have hm := xk_hme hm hτ
  have hu := xk_hue hu hτ
  refine gx_dup hX dX2_init_97 (gx_cat _) ?_
  refine gx_iconst (v := 3) hX dX2_init_98 (by decide) ?_
  refine gx_iconst (v := 4) hX dX2_init_99 (by decide) ?_
  refine xk_newa (atype := .char) hX 2 ⟨by decide, rfl, by decide, rfl, fun _ => rfl⟩ q203 dX2_init_100 h (fun σ22 hτ h => ?_)
  have hu := xk_use (C := σ22) h (xk_lr_op xk_m_st (fun _ => (xk_lr_op xk_m_st (fun _ => (xk_lr_op xk_m_st (fun _ => (xk_lr_op xk_m_st (fun _ => (xk_lr_op xk_m_sa (fun _ => (xk_lr_op xk_m_pr (fun _ => xk_lr_ret))))))))))))
  refine ⟨xk_hfm hm hτ hu, xk_Gm hm hτ ?_⟩
  have hm := xk_hmm hm hτ
  refine gx_dup hX dX2_init_102 (gx_cat _) ?_
  refine gx_iconst (v := 0) hX dX2_init_103 (by decide) ?_
  refine gx_bipush (v := nI 119) hX dX2_init_104 (by decide) ?_
  refine xk_castore hX dX2_init_106 h (fun σ23 hτ h => xk_Gt hτ ?_)
  have hm := xk_hme hm hτ
  have hu := xk_hue hu hτ
  refine gx_dup hX dX2_init_107 (gx_cat _) ?_
  refine gx_iconst (v := 1) hX dX2_init_108 (by decide) ?_
  refine gx_bipush (v := nI 97) hX dX2_init_109 (by decide) ?_
  refine xk_castore hX dX2_init_111 h (fun σ24 hτ h => xk_Gt hτ ?_)
  have hm := xk_hme hm hτ
  have hu := xk_hue hu hτ
  refine gx_dup hX dX2_init_112 (gx_cat _) ?_
  refine gx_iconst (v := 2) hX dX2_init_113 (by decide) ?_
  refine gx_bipush (v := nI 105) hX dX2_init_114 (by decide) ?_
  refine xk_castore hX dX2_init_116 h (fun σ25 hτ h => xk_Gt hτ ?_)
  have hm := xk_hme hm hτ
  have hu := xk_hue hu hτ
  refine gx_dup hX dX2_init_117 (gx_cat _) ?_
  refine gx_iconst (v := 3) hX dX2_init_118 (by decide) ?_
  refine gx_bipush (v := nI 116) hX dX2_init_119 (by decide) ?_
  refine xk_castore hX dX2_init_121 h (fun σ26 hτ h => xk_Gt hτ ?_)
  have hm := xk_hme hm hτ
  have hu := xk_hue hu hτ
  refine xk_aastC hX dX2_init_122 h (fun σ27 hτ h => xk_Gt hτ ?_)
  have hm := xk_hme hm hτ
  have hu := xk_hue hu hτ
  refine xk_putrF hX 32 xk_ty32 (Or.inr ⟨_, rfl⟩) q187 rfl ⟨rfl, rfl, rfl⟩ dX2_init_123 h (fun σ28 hτ h => xk_Gt hτ ?_)
  have hm := xk_hme hm hτ
  have hu := xk_hue hu hτ
  cases h
  exact gx_vret hX rfl dX2_init_126 rfl ⟨rfl, rfl⟩ (fun _ h => h)
abbrev iX0_init : gx_M := (RX0, "<init>", cX0_init, 1, none)
theorem dsX0_init : gx_ds yX0_init 0 := by decide +kernel
def fX0_init (x0 : Nat) (σ : xk_C)  : Option (xk_C × Unit) := (xk_nw (σ) 20).bind fun σ1 => (fJ2_init ((xk_n (σ))) (σ1)).bind fun r2 => (xk_pr (r2.1) 0 (some x0) (some (xk_n (σ)))).bind fun σ3 => (xk_na (σ3) 0 (nI 20)).bind fun σ4 => (xk_pr (σ4) 2 (some x0) (some (xk_n (σ3)))).bind fun σ5 => (xk_nw (σ5) 20).bind fun σ6 => (fJ2_init ((xk_n (σ5))) (σ6)).bind fun r7 => (xk_pr (r7.1) 3 (some x0) (some (xk_n (σ5)))).bind fun σ8 => (xk_pi (σ8) 5 (some x0) (1)).bind fun σ9 => (xk_na (σ9) 0 (3)).bind fun σ10 => (xk_pr (σ10) 7 (some x0) (some (xk_n (σ9)))).bind fun σ11 => (xk_na (σ11) 1 (nI 120)).bind fun σ12 => (xk_pr (σ12) 8 (some x0) (some (xk_n (σ11)))).bind fun σ13 => (xk_nw (σ13) 1).bind fun σ14 => (fX1_init ((xk_n (σ13))) (σ14)).bind fun r15 => (xk_pr (σ14) 10 (some x0) (some (xk_n (σ13)))).bind fun σ16 => (xk_nw (σ16) 20).bind fun σ17 => (fJ2_init ((xk_n (σ16))) (σ17)).bind fun r18 => (xk_pr (r18.1) 11 (some x0) (some (xk_n (σ16)))).bind fun σ19 => (xk_nw (σ19) 2).bind fun σ20 => (fX2_init ((xk_n (σ19))) (σ20) (some x0)).bind fun r21 => (xk_pr (r21.1) 12 (some x0) (some (xk_n (σ19)))).bind fun σ22 => (xk_na (σ22) 0 (nI 12)).bind fun σ23 => (xk_pr (σ23) 13 (some x0) (some (xk_n (σ22)))).bind fun σ24 => (xk_na (σ24) 6 (nI 6)).bind fun σ25 => (xk_pr (σ25) 17 (some x0) (some (xk_n (σ24)))).bind fun σ26 => (xk_na (σ26) 7 (nI 6)).bind fun σ27 => (xk_pr (σ27) 18 (some x0) (some (xk_n (σ26)))).bind fun σ28 => (xk_na (σ28) 7 (nI 6)).bind fun σ29 => (xk_pr (σ29) 19 (some x0) (some (xk_n (σ28)))).bind fun σ30 => (xk_nw (σ30) 20).bind fun σ31 => (fJ2_init ((xk_n (σ30))) (σ31)).bind fun r32 => (xk_pr (r32.1) 23 (some x0) (some (xk_n (σ30)))).bind fun σ33 => some (σ33, ())
set_option maxHeartbeats 4000000 in
theorem mX0_init {x0 : Nat} {σ : xk_C}  : ∀ p, fX0_init x0 σ = some p → xk_n σ ≤ xk_n p.1 ∧ xk_s σ ≤ xk_s p.1 := fun r => show xk_lr r σ (fX0_init x0 σ) from by
  unfold fX0_init
  exact (xk_lr_op xk_m_nw (fun _ => (xk_lr_ca (mJ2_init) (fun _ => (xk_lr_op xk_m_pr (fun _ => (xk_lr_op xk_m_na (fun _ => (xk_lr_op xk_m_pr (fun _ => (xk_lr_op xk_m_nw (fun _ => (xk_lr_ca (mJ2_init) (fun _ => (xk_lr_op xk_m_pr (fun _ => (xk_lr_op xk_m_pi (fun _ => (xk_lr_op xk_m_na (fun _ => (xk_lr_op xk_m_pr (fun _ => (xk_lr_op xk_m_na (fun _ => (xk_lr_op xk_m_pr (fun _ => (xk_lr_op xk_m_nw (fun _ => (xk_lr_rd (fun _ => (xk_lr_op xk_m_pr (fun _ => (xk_lr_op xk_m_nw (fun _ => (xk_lr_ca (mJ2_init) (fun _ => (xk_lr_op xk_m_pr (fun _ => (xk_lr_op xk_m_nw (fun _ => (xk_lr_ca (mX2_init) (fun _ => (xk_lr_op xk_m_pr (fun _ => (xk_lr_op xk_m_na (fun _ => (xk_lr_op xk_m_pr (fun _ => (xk_lr_op xk_m_na (fun _ => (xk_lr_op xk_m_pr (fun _ => (xk_lr_op xk_m_na (fun _ => (xk_lr_op xk_m_pr (fun _ => (xk_lr_op xk_m_na (fun _ => (xk_lr_op xk_m_pr (fun _ => (xk_lr_op xk_m_nw (fun _ => (xk_lr_ca (mJ2_init) (fun _ => (xk_lr_op xk_m_pr (fun _ => xk_lr_ret))))))))))))))))))))))))))))))))))))))))))))))))))))))))))))))))))
set_option maxHeartbeats 4000000 in
theorem tX0_init (w : gw_W) (A : Nat → Prop) (l : Launch) (x0 : Nat) (σ : xk_C)  {r : xk_C × Unit} (h : fX0_init x0 σ = some r) : gx_T (gw_I w A) A l yX0_init iX0_init 5 [va_rf (some x0)] (xk_P A w σ) (xk_n r.1 - xk_n σ) (xk_s r.1 - xk_s σ) (xk_P A w r.1) (.returned none) := by
  refine gx_T.of (gw_I.inv w A) (by decide) ⟨rfl, rfl⟩ (gx_kR gx_k0) (Nat.le_of_ble_eq_true rfl) (fun X hl hAx hX => ?_)
  subst hl
  subst hAx
  show gx_G X (xk_P (gx_A X) w (σ)) 0 0 [some (va_rf (some x0))] 0 []
  have hu := mX0_init _ h
  unfold fX0_init at h
  refine xk_G0 (a := xk_n σ) (b := xk_s σ) ?_
  have hm : xk_n σ ≤ xk_n σ ∧ xk_s σ ≤ xk_s σ := ⟨Nat.le_refl _, Nat.le_refl _⟩
  refine gx_aload_n hX dX0_init_0 rfl ?_
  refine gx_obj (b := x0) hX ⟨q126, q127, q128⟩ (by decide) (gx_w8 gx_k0 (Nat.le_of_ble_eq_true rfl)) dX0_init_1 rfl ?_
  refine gx_aload_n hX dX0_init_4 rfl ?_
  refine xk_new hX 20 ⟨by decide, by decide⟩ ⟨q129, q130, q89⟩ dX0_init_5 h (fun σ1 hτ h => ?_)
  have hu := xk_use (C := σ1) h (xk_lr_ca (mJ2_init) (fun _ => (xk_lr_op xk_m_pr (fun _ => (xk_lr_op xk_m_na (fun _ => (xk_lr_op xk_m_pr (fun _ => (xk_lr_op xk_m_nw (fun _ => (xk_lr_ca (mJ2_init) (fun _ => (xk_lr_op xk_m_pr (fun _ => (xk_lr_op xk_m_pi (fun _ => (xk_lr_op xk_m_na (fun _ => (xk_lr_op xk_m_pr (fun _ => (xk_lr_op xk_m_na (fun _ => (xk_lr_op xk_m_pr (fun _ => (xk_lr_op xk_m_nw (fun _ => (xk_lr_rd (fun _ => (xk_lr_op xk_m_pr (fun _ => (xk_lr_op xk_m_nw (fun _ => (xk_lr_ca (mJ2_init) (fun _ => (xk_lr_op xk_m_pr (fun _ => (xk_lr_op xk_m_nw (fun _ => (xk_lr_ca (mX2_init) (fun _ => (xk_lr_op xk_m_pr (fun _ => (xk_lr_op xk_m_na (fun _ => (xk_lr_op xk_m_pr (fun _ => (xk_lr_op xk_m_na (fun _ => (xk_lr_op xk_m_pr (fun _ => (xk_lr_op xk_m_na (fun _ => (xk_lr_op xk_m_pr (fun _ => (xk_lr_op xk_m_na (fun _ => (xk_lr_op xk_m_pr (fun _ => (xk_lr_op xk_m_nw (fun _ => (xk_lr_ca (mJ2_init) (fun _ => (xk_lr_op xk_m_pr (fun _ => xk_lr_ret))))))))))))))))))))))))))))))))))))))))))))))))))))))))))))))))
  refine ⟨xk_hfm hm hτ hu, xk_Gm hm hτ ?_⟩
  have hm := xk_hmm hm hτ
  refine gx_dup hX dX0_init_8 (gx_cat _) ?_
  obtain ⟨r2, hr2, h⟩ := gx_bs h
  have he := eJ2_init _ hr2
  refine gx_cI (As := []) (rest := [va_rf (some (xk_n (σ))), va_rf (some x0)]) (b := (xk_n (σ))) (C2 := RJ2) (nm2 := "<init>") hX (tJ2_init w (gx_A X) (gx_l X) ((xk_n (σ))) (σ1)  hr2) (lw_meth q133) ⟨q89, q131, q132⟩ ⟨rfl, dsJ2_init⟩ (by decide) (Nat.le_of_ble_eq_true rfl) rfl (gx_w8 (gx_kR (gx_kR gx_k0)) (Nat.le_of_ble_eq_true rfl)) dX0_init_9 (xk_hfe hu) rfl (xk_Ge he ?_)
  have hm := xk_hme hm he
  have hu := xk_hue hu he
  refine xk_putrF hX 0 xk_ty0 (Or.inl ⟨_, rfl⟩) q209 rfl ⟨rfl, rfl, rfl⟩ dX0_init_12 h (fun σ3 hτ h => xk_Gt hτ ?_)
  have hm := xk_hme hm hτ
  have hu := xk_hue hu hτ
  refine gx_aload_n hX dX0_init_15 rfl ?_
  refine gx_bipush (v := nI 20) hX dX0_init_16 (by decide) ?_
  refine xk_newa (atype := .int) hX 0 ⟨by decide, rfl, by decide, rfl, fun _ => rfl⟩ q177 dX0_init_18 h (fun σ4 hτ h => ?_)
  have hu := xk_use (C := σ4) h (xk_lr_op xk_m_pr (fun _ => (xk_lr_op xk_m_nw (fun _ => (xk_lr_ca (mJ2_init) (fun _ => (xk_lr_op xk_m_pr (fun _ => (xk_lr_op xk_m_pi (fun _ => (xk_lr_op xk_m_na (fun _ => (xk_lr_op xk_m_pr (fun _ => (xk_lr_op xk_m_na (fun _ => (xk_lr_op xk_m_pr (fun _ => (xk_lr_op xk_m_nw (fun _ => (xk_lr_rd (fun _ => (xk_lr_op xk_m_pr (fun _ => (xk_lr_op xk_m_nw (fun _ => (xk_lr_ca (mJ2_init) (fun _ => (xk_lr_op xk_m_pr (fun _ => (xk_lr_op xk_m_nw (fun _ => (xk_lr_ca (mX2_init) (fun _ => (xk_lr_op xk_m_pr (fun _ => (xk_lr_op xk_m_na (fun _ => (xk_lr_op xk_m_pr (fun _ => (xk_lr_op xk_m_na (fun _ => (xk_lr_op xk_m_pr (fun _ => (xk_lr_op xk_m_na (fun _ => (xk_lr_op xk_m_pr (fun _ => (xk_lr_op xk_m_na (fun _ => (xk_lr_op xk_m_pr (fun _ => (xk_lr_op xk_m_nw (fun _ => (xk_lr_ca (mJ2_init) (fun _ => (xk_lr_op xk_m_pr (fun _ => xk_lr_ret))))))))))))))))))))))))))))))))))))))))))))))))))))))))))
  refine ⟨xk_hfm hm hτ hu, xk_Gm hm hτ ?_⟩
  have hm := xk_hmm hm hτ
  refine xk_putrF hX 2 xk_ty2 (Or.inr ⟨_, rfl⟩) q212 rfl ⟨rfl, rfl, rfl⟩ dX0_init_20 h (fun σ5 hτ h => xk_Gt hτ ?_)
  have hm := xk_hme hm hτ
  have hu := xk_hue hu hτ
  refine gx_aload_n hX dX0_init_23 rfl ?_
  refine xk_new hX 20 ⟨by decide, by decide⟩ ⟨q129, q130, q89⟩ dX0_init_24 h (fun σ6 hτ h => ?_)
  have hu := xk_use (C := σ6) h (xk_lr_ca (mJ2_init) (fun _ => (xk_lr_op xk_m_pr (fun _ => (xk_lr_op xk_m_pi (fun _ => (xk_lr_op xk_m_na (fun _ => (xk_lr_op xk_m_pr (fun _ => (xk_lr_op xk_m_na (fun _ => (xk_lr_op xk_m_pr (fun _ => (xk_lr_op xk_m_nw (fun _ => (xk_lr_rd (fun _ => (xk_lr_op xk_m_pr (fun _ => (xk_lr_op xk_m_nw (fun _ => (xk_lr_ca (mJ2_init) (fun _ => (xk_lr_op xk_m_pr (fun _ => (xk_lr_op xk_m_nw (fun _ => (xk_lr_ca (mX2_init) (fun _ => (xk_lr_op xk_m_pr (fun _ => (xk_lr_op xk_m_na (fun _ => (xk_lr_op xk_m_pr (fun _ => (xk_lr_op xk_m_na (fun _ => (xk_lr_op xk_m_pr (fun _ => (xk_lr_op xk_m_na (fun _ => (xk_lr_op xk_m_pr (fun _ => (xk_lr_op xk_m_na (fun _ => (xk_lr_op xk_m_pr (fun _ => (xk_lr_op xk_m_nw (fun _ => (xk_lr_ca (mJ2_init) (fun _ => (xk_lr_op xk_m_pr (fun _ => xk_lr_ret))))))))))))))))))))))))))))))))))))))))))))))))))))))
  refine ⟨xk_hfm hm hτ hu, xk_Gm hm hτ ?_⟩
  have hm := xk_hmm hm hτ
  refine gx_dup hX dX0_init_27 (gx_cat _) ?_
  obtain ⟨r7, hr7, h⟩ := gx_bs h
  have he := eJ2_init _ hr7
  refine gx_cI (As := []) (rest := [va_rf (some (xk_n (σ5))), va_rf (some x0)]) (b := (xk_n (σ5))) (C2 := RJ2) (nm2 := "<init>") hX (tJ2_init w (gx_A X) (gx_l X) ((xk_n (σ5))) (σ6)  hr7) (lw_meth q133) ⟨q89, q131, q132⟩ ⟨rfl, dsJ2_init⟩ (by decide) (Nat.le_of_ble_eq_true rfl) rfl (gx_w8 (gx_kR (gx_kR gx_k0)) (Nat.le_of_ble_eq_true rfl)) dX0_init_28 (xk_hfe hu) rfl (xk_Ge he ?_)
  have hm := xk_hme hm he
  have hu := xk_hue hu he
  refine xk_putrF hX 3 xk_ty3 (Or.inl ⟨_, rfl⟩) q214 rfl ⟨rfl, rfl, rfl⟩ dX0_init_31 h (fun σ8 hτ h => xk_Gt hτ ?_)
  have hm := xk_hme hm hτ
  have hu := xk_hue hu hτ
  refine gx_aload_n hX dX0_init_34 rfl ?_
  refine gx_iconst (v := 1) hX dX0_init_35 (by decide) ?_
  refine xk_puti hX 5 xk_ty5 rfl q219 (fun _ h => h) rfl rfl dX0_init_36 h (fun σ9 hτ h => xk_Gt hτ ?_)
  have hm := xk_hme hm hτ
  have hu := xk_hue hu hτ
  refine gx_aload_n hX dX0_init_39 rfl ?_
  refine gx_iconst (v := 3) hX dX0_init_40 (by decide) ?_
  refine xk_newa (atype := .int) hX 0 ⟨by decide, rfl, by decide, rfl, fun _ => rfl⟩ q177 dX0_init_41 h (fun σ10 hτ h => ?_)
  have hu := xk_use (C := σ10) h (xk_lr_op xk_m_pr (fun _ => (xk_lr_op xk_m_na (fun _ => (xk_lr_op xk_m_pr (fun _ => (xk_lr_op xk_m_nw (fun _ => (xk_lr_rd (fun _ => (xk_lr_op xk_m_pr (fun _ => (xk_lr_op xk_m_nw (fun _ => (xk_lr_ca (mJ2_init) (fun _ => (xk_lr_op xk_m_pr (fun _ => (xk_lr_op xk_m_nw (fun _ => (xk_lr_ca (mX2_init) (fun _ => (xk_lr_op xk_m_pr (fun _ => (xk_lr_op xk_m_na (fun _ => (xk_lr_op xk_m_pr (fun _ => (xk_lr_op xk_m_na (fun _ => (xk_lr_op xk_m_pr (fun _ => (xk_lr_op xk_m_na (fun _ => (xk_lr_op xk_m_pr (fun _ => (xk_lr_op xk_m_na (fun _ => (xk_lr_op xk_m_pr (fun _ => (xk_lr_op xk_m_nw (fun _ => (xk_lr_ca (mJ2_init) (fun _ => (xk_lr_op xk_m_pr (fun _ => xk_lr_ret))))))))))))))))))))))))))))))))))))))))))))))
  refine ⟨xk_hfm hm hτ hu, xk_Gm hm hτ ?_⟩
  have hm := xk_hmm hm hτ
  refine xk_putrF hX 7 xk_ty7 (Or.inr ⟨_, rfl⟩) q224 rfl ⟨rfl, rfl, rfl⟩ dX0_init_43 h (fun σ11 hτ h => xk_Gt hτ ?_)
  have hm := xk_hme hm hτ
  have hu := xk_hue hu hτ
  refine gx_aload_n hX dX0_init_46 rfl ?_
  refine gx_bipush (v := nI 120) hX dX0_init_47 (by decide) ?_
  refine xk_newa (atype := .byte) hX 1 ⟨by decide, rfl, by decide, rfl, fun _ => rfl⟩ q178 dX0_init_49 h (fun σ12 hτ h => ?_)
  have hu := xk_use (C := σ12) h (xk_lr_op xk_m_pr (fun _ => (xk_lr_op xk_m_nw (fun _ => (xk_lr_rd (fun _ => (xk_lr_op xk_m_pr (fun _ => (xk_lr_op xk_m_nw (fun _ => (xk_lr_ca (mJ2_init) (fun _ => (xk_lr_op xk_m_pr (fun _ => (xk_lr_op xk_m_nw (fun _ => (xk_lr_ca (mX2_init) (fun _ => (xk_lr_op xk_m_pr (fun _ => (xk_lr_op xk_m_na (fun _ => (xk_lr_op xk_m_pr (fun _ => (xk_lr_op xk_m_na (fun _ => (xk_lr_op xk_m_pr (fun _ => (xk_lr_op xk_m_na (fun _ => (xk_lr_op xk_m_pr (fun _ => (xk_lr_op xk_m_na (fun _ => (xk_lr_op xk_m_pr (fun _ => (xk_lr_op xk_m_nw (fun _ => (xk_lr_ca (mJ2_init) (fun _ => (xk_lr_op xk_m_pr (fun _ => xk_lr_ret))))))))))))))))))))))))))))))))))))))))))
  refine ⟨xk_hfm hm hτ hu, xk_Gm hm hτ ?_⟩
  have hm := xk_hmm hm hτ
  refine xk_putrF hX 8 xk_ty8 (Or.inr ⟨_, rfl⟩) q227 rfl ⟨rfl, rfl, rfl⟩ dX0_init_51 h (fun σ13 hτ h => xk_Gt hτ ?_)
  have hm := xk_hme hm hτ
  have hu := xk_hue hu hτ
  refine gx_aload_n hX dX0_init_54 rfl ?_
  refine xk_new hX 1 ⟨by decide, by decide⟩ ⟨q155, q156, q90⟩ dX0_init_55 h (fun σ14 hτ h => ?_)
  have hu := xk_use (C := σ14) h (xk_lr_rd (fun _ => (xk_lr_op xk_m_pr (fun _ => (xk_lr_op xk_m_nw (fun _ => (xk_lr_ca (mJ2_init) (fun _ => (xk_lr_op xk_m_pr (fun _ => (xk_lr_op xk_m_nw (fun _ => (xk_lr_ca (mX2_init) (fun _ => (xk_lr_op xk_m_pr (fun _ => (xk_lr_op xk_m_na (fun _ => (xk_lr_op xk_m_pr (fun _ => (xk_lr_op xk_m_na (fun _ => (xk_lr_op xk_m_pr (fun _ => (xk_lr_op xk_m_na (fun _ => (xk_lr_op xk_m_pr (fun _ => (xk_lr_op xk_m_na (fun _ => (xk_lr_op xk_m_pr (fun _ => (xk_lr_op xk_m_nw (fun _ => (xk_lr_ca (mJ2_init) (fun _ => (xk_lr_op xk_m_pr (fun _ => xk_lr_ret))))))))))))))))))))))))))))))))))))))
  refine ⟨xk_hfm hm hτ hu, xk_Gm hm hτ ?_⟩
  have hm := xk_hmm hm hτ
  refine gx_dup hX dX0_init_58 (gx_cat _) ?_
  obtain ⟨r15, hr15, h⟩ := gx_bs h
  refine gx_cIN (As := []) (rest := [va_rf (some (xk_n (σ13))), va_rf (some x0)]) (b := (xk_n (σ13))) (C2 := RX1) (nm2 := "<init>") hX (tX1_init w (gx_A X) (gx_l X) ((xk_n (σ13))) (σ14)  hr15) (lw_meth q159) (hX.2.2.2.2.2.2.2.1.2.1 _ (gw_xq q157 rfl)) ⟨q90, q158⟩ ⟨rfl, dsX1_init⟩ (by decide) (Nat.le_of_ble_eq_true rfl) rfl (gx_w8 (gx_kR (gx_kR gx_k0)) (Nat.le_of_ble_eq_true rfl)) dX0_init_59 (xk_hfe hu) rfl (xk_Gz ?_)
  refine xk_putrF hX 10 xk_ty10 (Or.inl ⟨_, rfl⟩) q231 rfl ⟨rfl, rfl, rfl⟩ dX0_init_62 h (fun σ16 hτ h => xk_Gt hτ ?_)
  have hm := xk_hme hm hτ
  have hu := xk_hue hu hτ
  refine gx_aload_n hX dX0_init_65 rfl ?_
  refine xk_new hX 20 ⟨by decide, by decide⟩ ⟨q129, q130, q89⟩ dX0_init_66 h (fun σ17 hτ h => ?_)
  have hu := xk_use (C := σ17) h (xk_lr_ca (mJ2_init) (fun _ => (xk_lr_op xk_m_pr (fun _ => (xk_lr_op xk_m_nw (fun _ => (xk_lr_ca (mX2_init) (fun _ => (xk_lr_op xk_m_pr (fun _ => (xk_lr_op xk_m_na (fun _ => (xk_lr_op xk_m_pr (fun _ => (xk_lr_op xk_m_na (fun _ => (xk_lr_op xk_m_pr (fun _ => (xk_lr_op xk_m_na (fun _ => (xk_lr_op xk_m_pr (fun _ => (xk_lr_op xk_m_na (fun _ => (xk_lr_op xk_m_pr (fun _ => (xk_lr_op xk_m_nw (fun _ => (xk_lr_ca (mJ2_init) (fun _ => (xk_lr_op xk_m_pr (fun _ => xk_lr_ret))))))))))))))))))))))))))))))))
  refine ⟨xk_hfm hm hτ hu, xk_Gm hm hτ ?_⟩
  have hm := xk_hmm hm hτ
  refine gx_dup hX dX0_init_69 (gx_cat _) ?_
  obtain ⟨r18, hr18, h⟩ := gx_bs h
  have he := eJ2_init _ hr18
  refine gx_cI (As := []) (rest := [va_rf (some (xk_n (σ16))), va_rf (some x0)]) (b := (xk_n (σ16))) (C2 := RJ2) (nm2 := "<init>") hX (tJ2_init w (gx_A X) (gx_l X) ((xk_n (σ16))) (σ17)  hr18) (lw_meth q133) ⟨q89, q131, q132⟩ ⟨rfl, dsJ2_init⟩ (by decide) (Nat.le_of_ble_eq_true rfl) rfl (gx_w8 (gx_kR (gx_kR gx_k0)) (Nat.le_of_ble_eq_true rfl)) dX0_init_70 (xk_hfe hu) rfl (xk_Ge he ?_)
  have hm := xk_hme hm he
  have hu := xk_hue hu he
  refine xk_putrF hX 11 xk_ty11 (Or.inl ⟨_, rfl⟩) q232 rfl ⟨rfl, rfl, rfl⟩ dX0_init_73 h (fun σ19 hτ h => xk_Gt hτ ?_)
  have hm := xk_hme hm hτ
  have hu := xk_hue hu hτ
  refine gx_aload_n hX dX0_init_76 rfl ?_
  refine xk_new hX 2 ⟨by decide, by decide⟩ ⟨q179, q180, q91⟩ dX0_init_77 h (fun σ20 hτ h => ?_)
  have hu := xk_use (C := σ20) h (xk_lr_ca (mX2_init) (fun _ => (xk_lr_op xk_m_pr (fun _ => (xk_lr_op xk_m_na (fun _ => (xk_lr_op xk_m_pr (fun _ => (xk_lr_op xk_m_na (fun _ => (xk_lr_op xk_m_pr (fun _ => (xk_lr_op xk_m_na (fun _ => (xk_lr_op xk_m_pr (fun _ => (xk_lr_op xk_m_na (fun _ => (xk_lr_op xk_m_pr (fun _ => (xk_lr_op xk_m_nw (fun _ => (xk_lr_ca (mJ2_init) (fun _ => (xk_lr_op xk_m_pr (fun _ => xk_lr_ret))))))))))))))))))))))))))
  refine ⟨xk_hfm hm hτ hu, xk_Gm hm hτ ?_⟩
  have hm := xk_hmm hm hτ
  refine gx_dup hX dX0_init_80 (gx_cat _) ?_
  refine gx_aload_n hX dX0_init_81 rfl ?_
  obtain ⟨r21, hr21, h⟩ := gx_bs h
  have hl := (mX2_init) _ hr21
  have hu := xk_use (C := r21.1) h (xk_lr_op xk_m_pr (fun _ => (xk_lr_op xk_m_na (fun _ => (xk_lr_op xk_m_pr (fun _ => (xk_lr_op xk_m_na (fun _ => (xk_lr_op xk_m_pr (fun _ => (xk_lr_op xk_m_na (fun _ => (xk_lr_op xk_m_pr (fun _ => (xk_lr_op xk_m_na (fun _ => (xk_lr_op xk_m_pr (fun _ => (xk_lr_op xk_m_nw (fun _ => (xk_lr_ca (mJ2_init) (fun _ => (xk_lr_op xk_m_pr (fun _ => xk_lr_ret))))))))))))))))))))))))
  refine gx_cIN (As := [va_rf (some x0)]) (rest := [va_rf (some (xk_n (σ19))), va_rf (some x0)]) (b := (xk_n (σ19))) (C2 := RX2) (nm2 := "<init>") hX (tX2_init w (gx_A X) (gx_l X) ((xk_n (σ19))) (σ20) (some x0) hr21) (lw_meth q183) (hX.2.2.2.2.2.2.2.1.2.1 _ (gw_xq q181 rfl)) ⟨q91, q182⟩ ⟨rfl, dsX2_init⟩ (by decide) (Nat.le_of_ble_eq_true rfl) rfl (gx_w8 (gx_kR (gx_kR gx_k0)) (Nat.le_of_ble_eq_true rfl)) dX0_init_82 (xk_hfc hm hl hu) rfl (xk_Gc hm hl ?_)
  have hm := xk_hmc hm hl
  refine xk_putrF hX 12 xk_ty12 (Or.inl ⟨_, rfl⟩) q234 rfl ⟨rfl, rfl, rfl⟩ dX0_init_85 h (fun σ22 hτ h => xk_Gt hτ ?_)
  have hm := xk_hme hm hτ
  have hu := xk_hue hu hτ
  refine gx_aload_n hX dX0_init_88 rfl ?_
  refine gx_bipush (v := nI 12) hX dX0_init_89 (by decide) ?_
  refine xk_newa (atype := .int) hX 0 ⟨by decide, rfl, by decide, rfl, fun _ => rfl⟩ q177 dX0_init_91 h (fun σ23 hτ h => ?_)
  have hu := xk_use (C := σ23) h (xk_lr_op xk_m_pr (fun _ => (xk_lr_op xk_m_na (fun _ => (xk_lr_op xk_m_pr (fun _ => (xk_lr_op xk_m_na (fun _ => (xk_lr_op xk_m_pr (fun _ => (xk_lr_op xk_m_na (fun _ => (xk_lr_op xk_m_pr (fun _ => (xk_lr_op xk_m_nw (fun _ => (xk_lr_ca (mJ2_init) (fun _ => (xk_lr_op xk_m_pr (fun _ => xk_lr_ret))))))))))))))))))))
  refine ⟨xk_hfm hm hτ hu, xk_Gm hm hτ ?_⟩
  have hm := xk_hmm hm hτ
  refine xk_putrF hX 13 xk_ty13 (Or.inr ⟨_, rfl⟩) q235 rfl ⟨rfl, rfl, rfl⟩ dX0_init_93 h (fun σ24 hτ h => xk_Gt hτ ?_)
  have hm := xk_hme hm hτ
  have hu := xk_hue hu hτ
  refine gx_aload_n hX dX0_init_96 rfl ?_
  refine gx_bipush (v := nI 6) hX dX0_init_97 (by decide) ?_
  refine xk_anew hX 6 ⟨by decide, by decide⟩ q204 dX0_init_99 h (fun σ25 hτ h => ?_)
  have hu := xk_use (C := σ25) h (xk_lr_op xk_m_pr (fun _ => (xk_lr_op xk_m_na (fun _ => (xk_lr_op xk_m_pr (fun _ => (xk_lr_op xk_m_na (fun _ => (xk_lr_op xk_m_pr (fun _ => (xk_lr_op xk_m_nw (fun _ => (xk_lr_ca (mJ2_init) (fun _ => (xk_lr_op xk_m_pr (fun _ => xk_lr_ret))))))))))))))))
  refine ⟨xk_hfm hm hτ hu, xk_Gm hm hτ ?_⟩
  have hm := xk_hmm hm hτ
  refine xk_putrF hX 17 xk_ty17 (Or.inr ⟨_, rfl⟩) q239 rfl ⟨rfl, rfl, rfl⟩ dX0_init_102 h (fun σ26 hτ h => xk_Gt hτ ?_)
  have hm := xk_hme hm hτ
  have hu := xk_hue hu hτ
  refine gx_aload_n hX dX0_init_105 rfl ?_
  refine gx_bipush (v := nI 6) hX dX0_init_106 (by decide) ?_
  refine xk_anew hX 7 ⟨by decide, by decide⟩ q206 dX0_init_108 h (fun σ27 hτ h => ?_)
  have hu := xk_use (C := σ27) h (xk_lr_op xk_m_pr (fun _ => (xk_lr_op xk_m_na (fun _ => (xk_lr_op xk_m_pr (fun _ => (xk_lr_op xk_m_nw (fun _ => (xk_lr_ca (mJ2_init) (fun _ => (xk_lr_op xk_m_pr (fun _ => xk_lr_ret))))))))))))
  refine ⟨xk_hfm hm hτ hu, xk_Gm hm hτ ?_⟩
  have hm := xk_hmm hm hτ
  refine xk_putrF hX 18 xk_ty18 (Or.inr ⟨_, rfl⟩) q240 rfl ⟨rfl, rfl, rfl⟩ dX0_init_111 h (fun σ28 hτ h => xk_Gt hτ ?_)
  have hm := xk_hme hm hτ
  have hu := xk_hue hu hτ
  refine gx_aload_n hX dX0_init_114 rfl ?_
  refine gx_bipush (v := nI 6) hX dX0_init_115 (by decide) ?_
  refine xk_anew hX 7 ⟨by decide, by decide⟩ q206 dX0_init_117 h (fun σ29 hτ h => ?_)
  have hu := xk_use (C := σ29) h (xk_lr_op xk_m_pr (fun _ => (xk_lr_op xk_m_nw (fun _ => (xk_lr_ca (mJ2_init) (fun _ => (xk_lr_op xk_m_pr (fun _ => xk_lr_ret))))))))
  refine ⟨xk_hfm hm hτ hu, xk_Gm hm hτ ?_⟩
  have hm := xk_hmm hm hτ
  refine xk_putrF hX 19 xk_ty19 (Or.inr ⟨_, rfl⟩) q241 rfl ⟨rfl, rfl, rfl⟩ dX0_init_120 h (fun σ30 hτ h => xk_Gt hτ ?_)
  have hm := xk_hme hm hτ
  have hu := xk_hue hu hτ
  refine gx_aload_n hX dX0_init_123 rfl ?_
  refine xk_new hX 20 ⟨by decide, by decide⟩ ⟨q129, q130, q89⟩ dX0_init_124 h (fun σ31 hτ h => ?_)
  have hu := xk_use (C := σ31) h (xk_lr_ca (mJ2_init) (fun _ => (xk_lr_op xk_m_pr (fun _ => xk_lr_ret))))
  refine ⟨xk_hfm hm hτ hu, xk_Gm hm hτ ?_⟩
  have hm := xk_hmm hm hτ
  refine gx_dup hX dX0_init_127 (gx_cat _) ?_
  obtain ⟨r32, hr32, h⟩ := gx_bs h
  have he := eJ2_init _ hr32
  refine gx_cI (As := []) (rest := [va_rf (some (xk_n (σ30))), va_rf (some x0)]) (b := (xk_n (σ30))) (C2 := RJ2) (nm2 := "<init>") hX (tJ2_init w (gx_A X) (gx_l X) ((xk_n (σ30))) (σ31)  hr32) (lw_meth q133) ⟨q89, q131, q132⟩ ⟨rfl, dsJ2_init⟩ (by decide) (Nat.le_of_ble_eq_true rfl) rfl (gx_w8 (gx_kR (gx_kR gx_k0)) (Nat.le_of_ble_eq_true rfl)) dX0_init_128 (xk_hfe hu) rfl (xk_Ge he ?_)
  have hm := xk_hme hm he
  have hu := xk_hue hu he
  refine xk_putrF hX 23 xk_ty23 (Or.inl ⟨_, rfl⟩) q245 rfl ⟨rfl, rfl, rfl⟩ dX0_init_131 h (fun σ33 hτ h => xk_Gt hτ ?_)
  have hm := xk_hme hm hτ
  have hu := xk_hue hu hτ
  cases h
  exact gx_vret hX rfl dX0_init_134 rfl ⟨rfl, rfl⟩ (fun _ h => h)
abbrev iX0_in : gx_M := (RX0, "in", cX0_in, 3, some .boolean)
theorem dsX0_in : gx_ds yX0_in 3 := by decide +kernel
def fX0_in (x0 : Int32) (x1 : Int32) (x2 : Int32) : Option (Int32) := if (x0) < x1 then some (0) else if (x2) < x0 then some (0) else some (1)
set_option maxHeartbeats 4000000 in
theorem tX0_in (w : gw_W) (A : Nat → Prop) (l : Launch) (P : Heap → Prop) (x0 : Int32) (x1 : Int32) (x2 : Int32) {r : Int32} (h : fX0_in x0 x1 x2 = some r) : gx_T (gw_I w A) A l yX0_in iX0_in 1 [.int (x0), .int (x1), .int (x2)] (P) 0 0 (P) (.returned (some (.int r))) := by
  refine gx_T.of (gw_I.inv w A) (by decide) ⟨rfl, rfl⟩ (gx_kI (gx_kI (gx_kI gx_k0))) (Nat.le_of_ble_eq_true rfl) (fun X hl hAx hX => ?_)
  subst hl
  subst hAx
  show gx_G X (P) 0 0 [some (.int (x0)), some (.int (x1)), some (.int (x2))] 0 []
  unfold fX0_in at h
  refine gx_iload_n hX dX0_in_0 rfl ?_
  refine gx_iload_n hX dX0_in_1 rfl ?_
  refine gx_icmp_lt (tgt := 14) hX dX0_in_2 (by decide) h (fun h => ?_) (fun h => ?_)
  · refine gx_iconst (v := 0) hX dX0_in_14 (by decide) ?_
    cases h
    exact gx_zret hX rfl rfl dX0_in_15 rfl ⟨rfl, rfl⟩ (fun _ h => h)
  · refine gx_iload_n hX dX0_in_5 rfl ?_
    refine gx_iload_n hX dX0_in_6 rfl ?_
    refine gx_icmp_gt (tgt := 14) hX dX0_in_7 (by decide) h (fun h => ?_) (fun h => ?_)
    · refine gx_iconst (v := 0) hX dX0_in_14 (by decide) ?_
      cases h
      exact gx_zret hX rfl rfl dX0_in_15 rfl ⟨rfl, rfl⟩ (fun _ h => h)
    · refine gx_iconst (v := 1) hX dX0_in_10 (by decide) ?_
      refine gx_goto (tgt := 15) hX dX0_in_11 (by decide) ?_
      cases h
      exact gx_zret hX rfl rfl dX0_in_15 rfl ⟨rfl, rfl⟩ (fun _ h => h)
abbrev iX0_isCell : gx_M := (RX0, "isCell", cX0_isCell, 1, some .boolean)
theorem dsX0_isCell : gx_ds yX0_isCell 1 := by decide +kernel
def fX0_isCell (x0 : Int32) : Option (Int32) := (fX0_in  (x0) (0) (nI 7)).bind fun r1 => (gz (r1)).bind fun v2 => some (v2)
set_option maxHeartbeats 4000000 in
theorem tX0_isCell (w : gw_W) (A : Nat → Prop) (l : Launch) (P : Heap → Prop) (x0 : Int32) {r : Int32} (h : fX0_isCell x0 = some r) : gx_T (gw_I w A) A l yX0_isCell iX0_isCell 2 [.int (x0)] (P) 0 0 (P) (.returned (some (.int r))) := by
  refine gx_T.of (gw_I.inv w A) (by decide) ⟨rfl, rfl⟩ (gx_kI gx_k0) (Nat.le_of_ble_eq_true rfl) (fun X hl hAx hX => ?_)
  subst hl
  subst hAx
  show gx_G X (P) 0 0 [some (.int (x0))] 0 []
  unfold fX0_isCell at h
  refine gx_iload_n hX dX0_isCell_0 rfl ?_
  refine gx_iconst (v := 0) hX dX0_isCell_1 (by decide) ?_
  refine gx_bipush (v := nI 7) hX dX0_isCell_2 (by decide) ?_
  obtain ⟨r1, hr1, h⟩ := gx_bs h
  refine gx_cS (As := [.int (x0), .int (0), .int (nI 7)]) (rest := []) hX (tX0_in w (gx_A X) (gx_l X) (P) (x0) (0) (nI 7) hr1) (lw_S q311 q312 q86 q313) dsX0_in (by decide) (Nat.le_of_ble_eq_true rfl) rfl (gx_w8 gx_k0 (Nat.le_of_ble_eq_true rfl)) dX0_isCell_4 ⟨Nat.le_refl _, Nat.le_refl _⟩ rfl ?_
  exact gx_zretP hX rfl dX0_isCell_7 h (fun h => by cases h; rfl) ⟨rfl, rfl⟩ (fun h => by cases h; exact fun _ h => h)
abbrev iX4_init : gx_M := (RX4, "<init>", cX4_init, 6, none)
theorem dsX4_init : gx_ds yX4_init 5 := by decide +kernel
def fX4_init (x0 : Nat) (σ : xk_C) (x1 : Int32) (x2 : Int32) (x3 : Int32) (x4 : Int32) (x5 : Int32) : Option (xk_C × Unit) := (xk_pi (σ) 37 (some x0) (x1)).bind fun σ1 => (xk_pi (σ1) 41 (some x0) (x2)).bind fun σ2 => (xk_pi (σ2) 38 (some x0) (x3)).bind fun σ3 => (xk_pi (σ3) 39 (some x0) (x4)).bind fun σ4 => (xk_pi (σ4) 40 (some x0) (x5)).bind fun σ5 => some (σ5, ())
set_option maxHeartbeats 4000000 in
theorem eX4_init {x0 : Nat} {σ : xk_C} {x1 : Int32} {x2 : Int32} {x3 : Int32} {x4 : Int32} {x5 : Int32} : ∀ p, fX4_init x0 σ x1 x2 x3 x4 x5 = some p → xk_n p.1 = xk_n σ ∧ xk_s p.1 = xk_s σ := fun r => show xk_er r σ (fX4_init x0 σ x1 x2 x3 x4 x5) from by
  unfold fX4_init
  exact (xk_er_op xk_e_pi (fun _ => (xk_er_op xk_e_pi (fun _ => (xk_er_op xk_e_pi (fun _ => (xk_er_op xk_e_pi (fun _ => (xk_er_op xk_e_pi (fun _ => xk_er_ret))))))))))
theorem mX4_init {x0 : Nat} {σ : xk_C} {x1 : Int32} {x2 : Int32} {x3 : Int32} {x4 : Int32} {x5 : Int32} : ∀ p, fX4_init x0 σ x1 x2 x3 x4 x5 = some p → xk_n σ ≤ xk_n p.1 ∧ xk_s σ ≤ xk_s p.1 := fun p h => xk_le_of (eX4_init p h)
set_option maxHeartbeats 4000000 in
theorem tX4_init (w : gw_W) (A : Nat → Prop) (l : Launch) (x0 : Nat) (σ : xk_C) (x1 : Int32) (x2 : Int32) (x3 : Int32) (x4 : Int32) (x5 : Int32) {r : xk_C × Unit} (h : fX4_init x0 σ x1 x2 x3 x4 x5 = some r) : gx_T (gw_I w A) A l yX4_init iX4_init 2 [va_rf (some x0), .int (x1), .int (x2), .int (x3), .int (x4), .int (x5)] (xk_P A w σ) 0 0 (xk_P A w r.1) (.returned none) := by
  refine gx_T.of (gw_I.inv w A) (by decide) ⟨rfl, rfl⟩ (gx_kR (gx_kI (gx_kI (gx_kI (gx_kI (gx_kI gx_k0)))))) (Nat.le_of_ble_eq_true rfl) (fun X hl hAx hX => ?_)
  subst hl
  subst hAx
  show gx_G X (xk_P (gx_A X) w (σ)) 0 0 [some (va_rf (some x0)), some (.int (x1)), some (.int (x2)), some (.int (x3)), some (.int (x4)), some (.int (x5))] 0 []
  unfold fX4_init at h
  refine gx_aload_n hX dX4_init_0 rfl ?_
  refine gx_obj (b := x0) hX ⟨q322, q127, q128⟩ (by decide) (gx_w8 gx_k0 (Nat.le_of_ble_eq_true rfl)) dX4_init_1 rfl ?_
  refine gx_aload_n hX dX4_init_4 rfl ?_
  refine gx_iload_n hX dX4_init_5 rfl ?_
  refine xk_putiF hX 37 xk_ty37 rfl q323 rfl ⟨rfl, rfl, rfl⟩ dX4_init_6 h (fun σ1 hτ h => ?_)
  refine gx_aload_n hX dX4_init_9 rfl ?_
  refine gx_iload_n hX dX4_init_10 rfl ?_
  refine xk_puti hX 41 xk_ty41 rfl q332 (fun _ h => h) rfl rfl dX4_init_11 h (fun σ2 hτ h => ?_)
  refine gx_aload_n hX dX4_init_14 rfl ?_
  refine gx_iload_n hX dX4_init_15 rfl ?_
  refine xk_putiF hX 38 xk_ty38 rfl q326 rfl ⟨rfl, rfl, rfl⟩ dX4_init_16 h (fun σ3 hτ h => ?_)
  refine gx_aload_n hX dX4_init_19 rfl ?_
  refine gx_iload hX dX4_init_20 rfl ?_
  refine xk_putiF hX 39 xk_ty39 rfl q328 rfl ⟨rfl, rfl, rfl⟩ dX4_init_22 h (fun σ4 hτ h => ?_)
  refine gx_aload_n hX dX4_init_25 rfl ?_
  refine gx_iload hX dX4_init_26 rfl ?_
  refine xk_putiF hX 40 xk_ty40 rfl q330 rfl ⟨rfl, rfl, rfl⟩ dX4_init_28 h (fun σ5 hτ h => ?_)
  cases h
  exact gx_vret hX rfl dX4_init_31 rfl ⟨rfl, rfl⟩ (fun _ h => h)
abbrev iX0_shell : gx_M := (RX0, "shell", cX0_shell, 5, some .int)
theorem dsX0_shell : gx_ds yX0_shell 4 := by decide +kernel
def fX0_shell (x0 : Nat) (σ : xk_C) (x1 : Int32) (x2 : Int32) (x3 : Int32) (x4 : Int32) : Option (xk_C × Int32) := (fX0_isCell  (x1)).bind fun r1 => if r1 = 0 then some (σ, (-1)) else (fX0_in  (x2) (1) (nI 40)).bind fun r2 => if r2 = 0 then some (σ, (-2)) else (fX0_in  (x3) (0) (nI 20)).bind fun r3 => if r3 = 0 then some (σ, (-2)) else (fX0_in  (x4) (0) (nI 9)).bind fun r4 => if r4 = 0 then some (σ, (-2)) else (xk_gr (σ) 0 (some x0)).bind fun v5 => (xk_is (σ) 21 (v5)).bind fun b7 => (fJ2_size (b7) (σ)).bind fun r6 => if r6 = nI 20 then some (σ, (-4)) else (xk_gr (σ) 0 (some x0)).bind fun v8 => (xk_nw (σ) 4).bind fun σ9 => (xk_gr (σ9) 0 (some x0)).bind fun v10 => (xk_is (σ9) 21 (v10)).bind fun b12 => (fJ2_size (b12) (σ9)).bind fun r11 => (fX4_init ((xk_n (σ))) (σ9) (r11) (x1) (x2) (x3) (x4)).bind fun r13 => (xk_is (r13.1) 21 (v8)).bind fun b15 => (fJ2_add (b15) (r13.1) (some (xk_n (σ)))).bind fun r14 => (xk_gr (r14.1) 0 (some x0)).bind fun v16 => (xk_is (r14.1) 21 (v16)).bind fun b18 => (fJ2_size (b18) (r14.1)).bind fun r17 => some (r14.1, (r17) - (1))
set_option maxHeartbeats 4000000 in
theorem mX0_shell {x0 : Nat} {σ : xk_C} {x1 : Int32} {x2 : Int32} {x3 : Int32} {x4 : Int32} : ∀ p, fX0_shell x0 σ x1 x2 x3 x4 = some p → xk_n σ ≤ xk_n p.1 ∧ xk_s σ ≤ xk_s p.1 := fun r => show xk_lr r σ (fX0_shell x0 σ x1 x2 x3 x4) from by
  unfold fX0_shell
  exact (xk_lr_rd (fun _ => (xk_lr_ite xk_lr_ret (xk_lr_rd (fun _ => (xk_lr_ite xk_lr_ret (xk_lr_rd (fun _ => (xk_lr_ite xk_lr_ret (xk_lr_rd (fun _ => (xk_lr_ite xk_lr_ret (xk_lr_rd (fun _ => (xk_lr_rd (fun _ => (xk_lr_rd (fun _ => (xk_lr_ite xk_lr_ret (xk_lr_rd (fun _ => (xk_lr_op xk_m_nw (fun _ => (xk_lr_rd (fun _ => (xk_lr_rd (fun _ => (xk_lr_rd (fun _ => (xk_lr_ca (mX4_init) (fun _ => (xk_lr_rd (fun _ => (xk_lr_ca (mJ2_add) (fun _ => (xk_lr_rd (fun _ => (xk_lr_rd (fun _ => (xk_lr_rd (fun _ => xk_lr_ret)))))))))))))))))))))))))))))))))))))))))
set_option maxHeartbeats 4000000 in
theorem tX0_shell (w : gw_W) (A : Nat → Prop) (l : Launch) (x0 : Nat) (σ : xk_C) (x1 : Int32) (x2 : Int32) (x3 : Int32) (x4 : Int32) {r : xk_C × Int32} (h : fX0_shell x0 σ x1 x2 x3 x4 = some r) : gx_T (gw_I w A) A l yX0_shell iX0_shell 8 [va_rf (some x0), .int (x1), .int (x2), .int (x3), .int (x4)] (xk_P A w σ) (xk_n r.1 - xk_n σ) (xk_s r.1 - xk_s σ) (xk_P A w r.1) (.returned (some (.int r.2))) := by
  refine gx_T.of (gw_I.inv w A) (by decide) ⟨rfl, rfl⟩ (gx_kR (gx_kI (gx_kI (gx_kI (gx_kI gx_k0))))) (Nat.le_of_ble_eq_true rfl) (fun X hl hAx hX => ?_)
  subst hl
  subst hAx
  show gx_G X (xk_P (gx_A X) w (σ)) 0 0 [some (va_rf (some x0)), some (.int (x1)), some (.int (x2)), some (.int (x3)), some (.int (x4))] 0 []
  have hu := mX0_shell _ h
  unfold fX0_shell at h
  refine xk_G0 (a := xk_n σ) (b := xk_s σ) ?_
  have hm : xk_n σ ≤ xk_n σ ∧ xk_s σ ≤ xk_s σ := ⟨Nat.le_refl _, Nat.le_refl _⟩
  refine gx_iload_n hX dX0_shell_0 rfl ?_
  obtain ⟨r1, hr1, h⟩ := gx_bs h
  refine gx_cS (As := [.int (x1)]) (rest := []) hX (tX0_isCell w (gx_A X) (gx_l X) (xk_P (gx_A X) w (σ)) (x1) hr1) (lw_S q308 q309 q86 q310) dsX0_isCell (by decide) (Nat.le_of_ble_eq_true rfl) rfl (gx_w8 gx_k0 (Nat.le_of_ble_eq_true rfl)) dX0_shell_1 (xk_hfe hu) rfl (xk_Gz ?_)
  refine gx_if_ne (tgt := 9) hX dX0_shell_4 (by decide) h (fun h => ?_) (fun h => ?_)
  · refine gx_iconst (v := (-1)) hX dX0_shell_7 (by decide) ?_
    cases h
    exact gx_iret hX rfl dX0_shell_8 rfl ⟨rfl, rfl⟩ (fun _ h => h)
  · refine gx_iload_n hX dX0_shell_9 rfl ?_
    refine gx_iconst (v := 1) hX dX0_shell_10 (by decide) ?_
    refine gx_bipush (v := nI 40) hX dX0_shell_11 (by decide) ?_
    obtain ⟨r2, hr2, h⟩ := gx_bs h
    refine gx_cS (As := [.int (x2), .int (1), .int (nI 40)]) (rest := []) hX (tX0_in w (gx_A X) (gx_l X) (xk_P (gx_A X) w (σ)) (x2) (1) (nI 40) hr2) (lw_S q311 q312 q86 q313) dsX0_in (by decide) (Nat.le_of_ble_eq_true rfl) rfl (gx_w8 gx_k0 (Nat.le_of_ble_eq_true rfl)) dX0_shell_13 (xk_hfe hu) rfl (xk_Gz ?_)
    refine gx_if_eq (tgt := 40) hX dX0_shell_16 (by decide) h (fun h => ?_) (fun h => ?_)
    · refine gx_bipush (v := (-2)) hX dX0_shell_40 (by decide) ?_
      cases h
      exact gx_iret hX rfl dX0_shell_42 rfl ⟨rfl, rfl⟩ (fun _ h => h)
    · refine gx_iload_n hX dX0_shell_19 rfl ?_
      refine gx_iconst (v := 0) hX dX0_shell_20 (by decide) ?_
      refine gx_bipush (v := nI 20) hX dX0_shell_21 (by decide) ?_
      obtain ⟨r3, hr3, h⟩ := gx_bs h
      refine gx_cS (As := [.int (x3), .int (0), .int (nI 20)]) (rest := []) hX (tX0_in w (gx_A X) (gx_l X) (xk_P (gx_A X) w (σ)) (x3) (0) (nI 20) hr3) (lw_S q311 q312 q86 q313) dsX0_in (by decide) (Nat.le_of_ble_eq_true rfl) rfl (gx_w8 gx_k0 (Nat.le_of_ble_eq_true rfl)) dX0_shell_23 (xk_hfe hu) rfl (xk_Gz ?_)
      refine gx_if_eq (tgt := 40) hX dX0_shell_26 (by decide) h (fun h => ?_) (fun h => ?_)
      · refine gx_bipush (v := (-2)) hX dX0_shell_40 (by decide) ?_
        cases h
        exact gx_iret hX rfl dX0_shell_42 rfl ⟨rfl, rfl⟩ (fun _ h => h)
      · refine gx_iload hX dX0_shell_29 rfl ?_
        refine gx_iconst (v := 0) hX dX0_shell_31 (by decide) ?_
        refine gx_bipush (v := nI 9) hX dX0_shell_32 (by decide) ?_
        obtain ⟨r4, hr4, h⟩ := gx_bs h
        refine gx_cS (As := [.int (x4), .int (0), .int (nI 9)]) (rest := []) hX (tX0_in w (gx_A X) (gx_l X) (xk_P (gx_A X) w (σ)) (x4) (0) (nI 9) hr4) (lw_S q311 q312 q86 q313) dsX0_in (by decide) (Nat.le_of_ble_eq_true rfl) rfl (gx_w8 gx_k0 (Nat.le_of_ble_eq_true rfl)) dX0_shell_34 (xk_hfe hu) rfl (xk_Gz ?_)
        refine gx_if_ne (tgt := 43) hX dX0_shell_37 (by decide) h (fun h => ?_) (fun h => ?_)
        · refine gx_bipush (v := (-2)) hX dX0_shell_40 (by decide) ?_
          cases h
          exact gx_iret hX rfl dX0_shell_42 rfl ⟨rfl, rfl⟩ (fun _ h => h)
        · refine gx_aload_n hX dX0_shell_43 rfl ?_
          refine xk_getr hX 0 q209 (fun _ h => h) rfl dX0_shell_44 h (fun v5 h => ?_)
          obtain ⟨b7, hb, h⟩ := gx_bs h
          obtain ⟨eb, hkb⟩ := xk_isS hb
          obtain ⟨r6, hr6, h⟩ := gx_bs h
          refine gx_cV (As := []) (rest := []) (b := b7) hX (tJ2_size w (gx_A X) (gx_l X) (b7) (σ)  hr6) (lw_V q314 q315 q316 q89 q317) ⟨rfl, dsJ2_size⟩ (by decide) (Nat.le_of_ble_eq_true rfl) (xk_rc hX (ci := 20) (by decide) (by decide) hkb) (by rw [eb]; rfl) (gx_w8 gx_k0 (Nat.le_of_ble_eq_true rfl)) dX0_shell_47 (xk_hfe hu) rfl (xk_Gz ?_)
          refine gx_bipush (v := nI 20) hX dX0_shell_50 (by decide) ?_
          refine gx_icmp_ne (tgt := 58) hX dX0_shell_52 (by decide) h (fun h => ?_) (fun h => ?_)
          · refine gx_bipush (v := (-4)) hX dX0_shell_55 (by decide) ?_
            cases h
            exact gx_iret hX rfl dX0_shell_57 rfl ⟨rfl, rfl⟩ (fun _ h => h)
          · refine gx_aload_n hX dX0_shell_58 rfl ?_
            refine xk_getr hX 0 q209 (fun _ h => h) rfl dX0_shell_59 h (fun v8 h => ?_)
            refine xk_new hX 4 ⟨by decide, by decide⟩ ⟨q206, q318, q93⟩ dX0_shell_62 h (fun σ9 hτ h => ?_)
            have hu := xk_use (C := σ9) h (xk_lr_rd (fun _ => (xk_lr_rd (fun _ => (xk_lr_rd (fun _ => (xk_lr_ca (mX4_init) (fun _ => (xk_lr_rd (fun _ => (xk_lr_ca (mJ2_add) (fun _ => (xk_lr_rd (fun _ => (xk_lr_rd (fun _ => (xk_lr_rd (fun _ => xk_lr_ret))))))))))))))))))
            refine ⟨xk_hfm hm hτ hu, xk_Gm hm hτ ?_⟩
            have hm := xk_hmm hm hτ
            refine gx_dup hX dX0_shell_65 (gx_cat _) ?_
            refine gx_aload_n hX dX0_shell_66 rfl ?_
            refine xk_getr hX 0 q209 (fun _ h => h) rfl dX0_shell_67 h (fun v10 h => ?_)
            obtain ⟨b12, hb, h⟩ := gx_bs h
            obtain ⟨eb, hkb⟩ := xk_isS hb
            obtain ⟨r11, hr11, h⟩ := gx_bs h
            refine gx_cV (As := []) (rest := [va_rf (some (xk_n (σ))), va_rf (some (xk_n (σ))), va_rf (v8)]) (b := b12) hX (tJ2_size w (gx_A X) (gx_l X) (b12) (σ9)  hr11) (lw_V q314 q315 q316 q89 q317) ⟨rfl, dsJ2_size⟩ (by decide) (Nat.le_of_ble_eq_true rfl) (xk_rc hX (ci := 20) (by decide) (by decide) hkb) (by rw [eb]; rfl) (gx_w8 (gx_kR (gx_kR (gx_kR gx_k0))) (Nat.le_of_ble_eq_true rfl)) dX0_shell_70 (xk_hfe hu) rfl (xk_Gz ?_)
            refine gx_iload_n hX dX0_shell_73 rfl ?_
            refine gx_iload_n hX dX0_shell_74 rfl ?_
            refine gx_iload_n hX dX0_shell_75 rfl ?_
            refine gx_iload hX dX0_shell_76 rfl ?_
            obtain ⟨r13, hr13, h⟩ := gx_bs h
            have he := eX4_init _ hr13
            refine gx_cI (As := [.int (r11), .int (x1), .int (x2), .int (x3), .int (x4)]) (rest := [va_rf (some (xk_n (σ))), va_rf (v8)]) (b := (xk_n (σ))) (C2 := RX4) (nm2 := "<init>") hX (tX4_init w (gx_A X) (gx_l X) ((xk_n (σ))) (σ9) (r11) (x1) (x2) (x3) (x4) hr13) (lw_meth q321) ⟨q93, q319, q320⟩ ⟨rfl, dsX4_init⟩ (by decide) (Nat.le_of_ble_eq_true rfl) rfl (gx_w8 (gx_kR (gx_kR gx_k0)) (Nat.le_of_ble_eq_true rfl)) dX0_shell_78 (xk_hfe hu) rfl (xk_Ge he ?_)
            have hm := xk_hme hm he
            have hu := xk_hue hu he
            obtain ⟨b15, hb, h⟩ := gx_bs h
            obtain ⟨eb, hkb⟩ := xk_isS hb
            obtain ⟨r14, hr14, h⟩ := gx_bs h
            have hl := (mJ2_add) _ hr14
            have hu := xk_use (C := r14.1) h (xk_lr_rd (fun _ => (xk_lr_rd (fun _ => (xk_lr_rd (fun _ => xk_lr_ret))))))
            refine gx_cV (As := [va_rf (some (xk_n (σ)))]) (rest := []) (b := b15) hX (tJ2_add w (gx_A X) (gx_l X) (b15) (r13.1) (some (xk_n (σ))) hr14) (lw_V q357 q358 q359 q89 q360) ⟨rfl, dsJ2_add⟩ (by decide) (Nat.le_of_ble_eq_true rfl) (xk_rc hX (ci := 20) (by decide) (by decide) hkb) (by rw [eb]; rfl) (gx_w8 gx_k0 (Nat.le_of_ble_eq_true rfl)) dX0_shell_81 (xk_hfc hm hl hu) rfl (xk_Gc hm hl ?_)
            have hm := xk_hmc hm hl
            refine gx_pop hX dX0_shell_84 rfl ?_
            refine gx_aload_n hX dX0_shell_85 rfl ?_
            refine xk_getr hX 0 q209 (fun _ h => h) rfl dX0_shell_86 h (fun v16 h => ?_)
            obtain ⟨b18, hb, h⟩ := gx_bs h
            obtain ⟨eb, hkb⟩ := xk_isS hb
            obtain ⟨r17, hr17, h⟩ := gx_bs h
            refine gx_cV (As := []) (rest := []) (b := b18) hX (tJ2_size w (gx_A X) (gx_l X) (b18) (r14.1)  hr17) (lw_V q314 q315 q316 q89 q317) ⟨rfl, dsJ2_size⟩ (by decide) (Nat.le_of_ble_eq_true rfl) (xk_rc hX (ci := 20) (by decide) (by decide) hkb) (by rw [eb]; rfl) (gx_w8 gx_k0 (Nat.le_of_ble_eq_true rfl)) dX0_shell_89 (xk_hfe hu) rfl (xk_Gz ?_)
            refine gx_iconst (v := 1) hX dX0_shell_92 (by decide) ?_
            refine gx_isub hX dX0_shell_93 ?_
            cases h
            exact gx_iret hX rfl dX0_shell_94 rfl ⟨rfl, rfl⟩ (fun _ h => h)
