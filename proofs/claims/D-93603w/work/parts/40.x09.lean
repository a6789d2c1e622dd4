set_option maxRecDepth 100000
abbrev iX0_mend : gx_M := (RX0, "mend", cX0_mend, 6, some .int)
theorem dsX0_mend : gx_ds yX0_mend 4 := by decide +kernel
def fX0_mend (N : Nat) (x0 : Nat) (σ : xk_C) (x1 : Int32) (x2 : Int32) (x3 : Int32) (x4 : Int32) : Option (xk_C × Int32) := (xk_is (σ) 1 (some x0)).bind fun b2 => (fX0_habitAt (b2) (σ) (x1)).bind fun r1 => if r1 = none then some (σ, (-1)) else (fX0_in  (x4) (0) (1)).bind fun r3 => if r3 = 0 then some (σ, (-1)) else (fX0_in  (x2) (1) (nI 10)).bind fun r4 => if r4 = 0 then some (σ, (-2)) else (fX0_in  (x3) ((-9999)) (nI 9999)).bind fun r5 => if r5 = 0 then some (σ, (-2)) else (xk_is (σ) 1 (some x0)).bind fun b7 => (fX0_findMend N (b7) (σ) (r1) (x2) (x3)).bind fun r6 => if r6.2 = 0 then some (r6.1, (-100)) else if x4 = 0 then (xk_gi (r6.1) 24 (some x0)).bind fun v9 => some (r6.1, v9) else (xk_gi (r6.1) 25 (some x0)).bind fun v8 => some (r6.1, v8)
set_option maxHeartbeats 4000000 in
theorem mX0_mend {N : Nat} {x0 : Nat} {σ : xk_C} {x1 : Int32} {x2 : Int32} {x3 : Int32} {x4 : Int32} : ∀ p, fX0_mend N x0 σ x1 x2 x3 x4 = some p → xk_n σ ≤ xk_n p.1 ∧ xk_s σ ≤ xk_s p.1 := fun r => show xk_lr r σ (fX0_mend N x0 σ x1 x2 x3 x4) from by
  unfold fX0_mend
  exact (xk_lr_rd (fun _ => (xk_lr_rd (fun _ => (xk_lr_ite xk_lr_ret (xk_lr_rd (fun _ => (xk_lr_ite xk_lr_ret (xk_lr_rd (fun _ => (xk_lr_ite xk_lr_ret (xk_lr_rd (fun _ => (xk_lr_ite xk_lr_ret (xk_lr_rd (fun _ => (xk_lr_ca (mX0_findMend) (fun _ => (xk_lr_ite xk_lr_ret (xk_lr_ite (xk_lr_rd (fun _ => xk_lr_ret)) (xk_lr_rd (fun _ => xk_lr_ret))))))))))))))))))))))
set_option maxHeartbeats 4000000 in
theorem tX0_mend (w : gw_W) (A : Nat → Prop) (l : Launch) (N : Nat) (x0 : Nat) (σ : xk_C) (x1 : Int32) (x2 : Int32) (x3 : Int32) (x4 : Int32) {r : xk_C × Int32} (h : fX0_mend N x0 σ x1 x2 x3 x4 = some r) : gx_T (gw_I w A) A l yX0_mend iX0_mend 142 [va_rf (some x0), .int (x1), .int (x2), .int (x3), .int (x4)] (xk_P A w σ) (xk_n r.1 - xk_n σ) (xk_s r.1 - xk_s σ) (xk_P A w r.1) (.returned (some (.int r.2))) := by
  refine gx_T.of (gw_I.inv w A) (by decide) ⟨rfl, rfl⟩ (gx_kR (gx_kI (gx_kI (gx_kI (gx_kI gx_k0))))) (Nat.le_of_ble_eq_true rfl) (fun X hl hAx hX => ?_)
  subst hl
  subst hAx
  show gx_G X (xk_P (gx_A X) w (σ)) 0 0 [some (va_rf (some x0)), some (.int (x1)), some (.int (x2)), some (.int (x3)), some (.int (x4)), none] 0 []
  have hu := mX0_mend _ h
  unfold fX0_mend at h
  refine xk_G0 (a := xk_n σ) (b := xk_s σ) ?_
  have hm : xk_n σ ≤ xk_n σ ∧ xk_s σ ≤ xk_s σ := ⟨Nat.le_refl _, Nat.le_refl _⟩
  refine gx_aload_n hX dX0_mend_0 rfl ?_
  refine gx_iload_n hX dX0_mend_1 rfl ?_
  obtain ⟨b2, hb, h⟩ := gx_bs h
  obtain ⟨eb, hkb⟩ := xk_isS hb
  obtain ⟨r1, hr1, h⟩ := gx_bs h
  refine gx_cV (As := [.int (x1)]) (rest := []) (b := b2) hX (tX0_habitAt w (gx_A X) (gx_l X) (b2) (σ) (x1) hr1) (lw_V q626 q628 qs5 q86 q629) ⟨rfl, dsX0_habitAt⟩ (by decide) (Nat.le_of_ble_eq_true rfl) (xk_rc hX (ci := 0) (by decide) (by decide) hkb) (by rw [eb]; rfl) (gx_w8 gx_k0 (Nat.le_of_ble_eq_true rfl)) dX0_mend_2 (xk_hfe hu) rfl (xk_Gz ?_)
  refine gx_astore hX dX0_mend_5 (Nat.le_of_ble_eq_true rfl) gx_c1i (lv' := [some (va_rf (some x0)), some (.int (x1)), some (.int (x2)), some (.int (x3)), some (.int (x4)), some (va_rf (r1))]) rfl ?_
  refine gx_aload hX dX0_mend_7 rfl ?_
  refine gx_ifnull (tgt := 22) hX dX0_mend_9 (by decide) h (fun h => ?_) (fun h => ?_)
  · refine gx_iconst (v := (-1)) hX dX0_mend_22 (by decide) ?_
    cases h
    exact gx_iret hX rfl dX0_mend_23 rfl ⟨rfl, rfl⟩ (fun _ h => h)
  · refine gx_iload hX dX0_mend_12 rfl ?_
    refine gx_iconst (v := 0) hX dX0_mend_14 (by decide) ?_
    refine gx_iconst (v := 1) hX dX0_mend_15 (by decide) ?_
    obtain ⟨r3, hr3, h⟩ := gx_bs h
    refine gx_cS (As := [.int (x4), .int (0), .int (1)]) (rest := []) hX (tX0_in w (gx_A X) (gx_l X) (xk_P (gx_A X) w (σ)) (x4) (0) (1) hr3) (lw_S q311 q312 q86 q313) dsX0_in (by decide) (Nat.le_of_ble_eq_true rfl) rfl (gx_w8 gx_k0 (Nat.le_of_ble_eq_true rfl)) dX0_mend_16 (xk_hfe hu) rfl (xk_Gz ?_)
    refine gx_if_ne (tgt := 24) hX dX0_mend_19 (by decide) h (fun h => ?_) (fun h => ?_)
    · refine gx_iconst (v := (-1)) hX dX0_mend_22 (by decide) ?_
      cases h
      exact gx_iret hX rfl dX0_mend_23 rfl ⟨rfl, rfl⟩ (fun _ h => h)
    · refine gx_iload_n hX dX0_mend_24 rfl ?_
      refine gx_iconst (v := 1) hX dX0_mend_25 (by decide) ?_
      refine gx_bipush (v := nI 10) hX dX0_mend_26 (by decide) ?_
      obtain ⟨r4, hr4, h⟩ := gx_bs h
      refine gx_cS (As := [.int (x2), .int (1), .int (nI 10)]) (rest := []) hX (tX0_in w (gx_A X) (gx_l X) (xk_P (gx_A X) w (σ)) (x2) (1) (nI 10) hr4) (lw_S q311 q312 q86 q313) dsX0_in (by decide) (Nat.le_of_ble_eq_true rfl) rfl (gx_w8 gx_k0 (Nat.le_of_ble_eq_true rfl)) dX0_mend_28 (xk_hfe hu) rfl (xk_Gz ?_)
      refine gx_if_eq (tgt := 47) hX dX0_mend_31 (by decide) h (fun h => ?_) (fun h => ?_)
      · refine gx_bipush (v := (-2)) hX dX0_mend_47 (by decide) ?_
        cases h
        exact gx_iret hX rfl dX0_mend_49 rfl ⟨rfl, rfl⟩ (fun _ h => h)
      · refine gx_iload_n hX dX0_mend_34 rfl ?_
        refine gx_sipush (v := (-9999)) hX dX0_mend_35 (by decide) ?_
        refine gx_sipush (v := nI 9999) hX dX0_mend_38 (by decide) ?_
        obtain ⟨r5, hr5, h⟩ := gx_bs h
        refine gx_cS (As := [.int (x3), .int ((-9999)), .int (nI 9999)]) (rest := []) hX (tX0_in w (gx_A X) (gx_l X) (xk_P (gx_A X) w (σ)) (x3) ((-9999)) (nI 9999) hr5) (lw_S q311 q312 q86 q313) dsX0_in (by decide) (Nat.le_of_ble_eq_true rfl) rfl (gx_w8 gx_k0 (Nat.le_of_ble_eq_true rfl)) dX0_mend_41 (xk_hfe hu) rfl (xk_Gz ?_)
        refine gx_if_ne (tgt := 50) hX dX0_mend_44 (by decide) h (fun h => ?_) (fun h => ?_)
        · refine gx_bipush (v := (-2)) hX dX0_mend_47 (by decide) ?_
          cases h
          exact gx_iret hX rfl dX0_mend_49 rfl ⟨rfl, rfl⟩ (fun _ h => h)
        · refine gx_aload_n hX dX0_mend_50 rfl ?_
          refine gx_aload hX dX0_mend_51 rfl ?_
          refine gx_iload_n hX dX0_mend_53 rfl ?_
          refine gx_iload_n hX dX0_mend_54 rfl ?_
          obtain ⟨b7, hb, h⟩ := gx_bs h
          obtain ⟨eb, hkb⟩ := xk_isS hb
          obtain ⟨r6, hr6, h⟩ := gx_bs h
          have hl := (mX0_findMend) _ hr6
          have hu := xk_use (C := r6.1) h (xk_lr_ite xk_lr_ret (xk_lr_ite (xk_lr_rd (fun _ => xk_lr_ret)) (xk_lr_rd (fun _ => xk_lr_ret))))
          refine gx_cV (As := [va_rf (r1), .int (x2), .int (x3)]) (rest := []) (b := b7) hX (tX0_findMend w (gx_A X) (gx_l X) N (b7) (σ) (r1) (x2) (x3) hr6) (lw_V q1131 q1133 qs28 q86 q1134) ⟨rfl, dsX0_findMend⟩ (by decide) (Nat.le_of_ble_eq_true rfl) (xk_rc hX (ci := 0) (by decide) (by decide) hkb) (by rw [eb]; rfl) (gx_w8 gx_k0 (Nat.le_of_ble_eq_true rfl)) dX0_mend_55 (xk_hfc hm hl hu) rfl (xk_Gc hm hl ?_)
          have hm := xk_hmc hm hl
          refine gx_if_ne (tgt := 64) hX dX0_mend_58 (by decide) h (fun h => ?_) (fun h => ?_)
          · refine gx_bipush (v := (-100)) hX dX0_mend_61 (by decide) ?_
            cases h
            exact gx_iret hX rfl dX0_mend_63 rfl ⟨rfl, rfl⟩ (fun _ h => h)
          · refine gx_iload hX dX0_mend_64 rfl ?_
            refine gx_if_ne (tgt := 76) hX dX0_mend_66 (by decide) h (fun h => ?_) (fun h => ?_)
            · refine gx_aload_n hX dX0_mend_69 rfl ?_
              refine xk_geti hX 24 q246 (fun _ h => h) rfl dX0_mend_70 h (fun v9 h => ?_)
              refine gx_goto (tgt := 80) hX dX0_mend_73 (by decide) ?_
              cases h
              exact gx_iret hX rfl dX0_mend_80 rfl ⟨rfl, rfl⟩ (fun _ h => h)
            · refine gx_aload_n hX dX0_mend_76 rfl ?_
              refine xk_geti hX 25 q247 (fun _ h => h) rfl dX0_mend_77 h (fun v8 h => ?_)
              cases h
              exact gx_iret hX rfl dX0_mend_80 rfl ⟨rfl, rfl⟩ (fun _ h => h)
abbrev iX0_body : gx_M := (RX0, "body", cX0_body, 2, none)
theorem dsX0_body : gx_ds yX0_body 1 := by decide +kernel
def fX0_body_B22 (x0 : Nat)   (σ : xk_C) : Option (xk_C × Unit) := (xk_gi (σ) 1 (some x0)).bind fun v4 => (xk_pi (σ) 1 (some x0) ((v4) + (1))).bind fun σ5 => some (σ5, ())
set_option maxHeartbeats 4000000 in
theorem tX0_body_B22 {w : gw_W} {X : gx_X} {x0 : Nat} {r : xk_C × Unit} (hX : gx_O (gw_I w (gx_A X)) X iX0_body 1 0 0 (xk_P (gx_A X) w r.1) (.returned none))  {σ : xk_C} (h : fX0_body_B22 x0 σ = some r) : gx_G X (xk_P (gx_A X) w (σ)) 0 0 [some (va_rf (some x0)), none] 22 [] := by
  unfold fX0_body_B22 at h
  refine gx_aload_n hX dX0_body_22 rfl ?_
  refine gx_dup hX dX0_body_23 (gx_cat _) ?_
  refine xk_geti hX 1 q211 (fun _ h => h) rfl dX0_body_24 h (fun v4 h => ?_)
  refine gx_iconst (v := 1) hX dX0_body_27 (by decide) ?_
  refine gx_iadd hX dX0_body_28 ?_
  refine xk_puti hX 1 xk_ty1 rfl q211 (fun _ h => h) rfl rfl dX0_body_29 h (fun σ5 hτ h => ?_)
  cases h
  exact gx_vret hX rfl dX0_body_32 rfl ⟨rfl, rfl⟩ (fun _ h => h)
def fX0_body (x0 : Nat) (σ : xk_C) (x1 : Int32) : Option (xk_C × Unit) := (xk_gi (σ) 1 (some x0)).bind fun v1 => (xk_gr (σ) 2 (some x0)).bind fun v2 => (xk_al (σ) 0 (v2)).bind fun v3 => if (v3) ≤ v1 then fX0_body_B22 x0 (σ) else (xk_gr (σ) 2 (some x0)).bind fun v6 => (xk_gi (σ) 1 (some x0)).bind fun v7 => (xk_st (σ) 0 (v6) (v7) (x1)).bind fun σ8 => fX0_body_B22 x0 (σ8)
set_option maxHeartbeats 4000000 in
theorem tX0_body (w : gw_W) (A : Nat → Prop) (l : Launch) (x0 : Nat) (σ : xk_C) (x1 : Int32) {r : xk_C × Unit} (h : fX0_body x0 σ x1 = some r) : gx_T (gw_I w A) A l yX0_body iX0_body 1 [va_rf (some x0), .int (x1)] (xk_P A w σ) 0 0 (xk_P A w r.1) (.returned none) := by
  refine gx_T.of (gw_I.inv w A) (by decide) ⟨rfl, rfl⟩ (gx_kR (gx_kI gx_k0)) (Nat.le_of_ble_eq_true rfl) (fun X hl hAx hX => ?_)
  subst hl
  subst hAx
  show gx_G X (xk_P (gx_A X) w (σ)) 0 0 [some (va_rf (some x0)), some (.int (x1))] 0 []
  unfold fX0_body at h
  refine gx_aload_n hX dX0_body_0 rfl ?_
  refine xk_geti hX 1 q211 (fun _ h => h) rfl dX0_body_1 h (fun v1 h => ?_)
  refine gx_aload_n hX dX0_body_4 rfl ?_
  refine xk_getr hX 2 q212 (fun _ h => h) rfl dX0_body_5 h (fun v2 h => ?_)
  refine xk_alen hX 0 (by decide) dX0_body_8 h (fun v3 h => ?_)
  refine gx_icmp_ge (tgt := 22) hX dX0_body_9 (by decide) h (fun h => ?_) (fun h => ?_)
  · refine gx_sub hX (lv' := [some (va_rf (some x0)), none]) ⟨Or.inr rfl, ⟨Or.inl rfl, trivial⟩⟩ ?_
    exact tX0_body_B22 hX  h
  · refine gx_aload_n hX dX0_body_12 rfl ?_
    refine xk_getr hX 2 q212 (fun _ h => h) rfl dX0_body_13 h (fun v6 h => ?_)
    refine gx_aload_n hX dX0_body_16 rfl ?_
    refine xk_geti hX 1 q211 (fun _ h => h) rfl dX0_body_17 h (fun v7 h => ?_)
    refine gx_iload_n hX dX0_body_20 rfl ?_
    refine xk_iastore hX dX0_body_21 h (fun σ8 hτ h => ?_)
    refine gx_sub hX (lv' := [some (va_rf (some x0)), none]) ⟨Or.inr rfl, ⟨Or.inl rfl, trivial⟩⟩ ?_
    exact tX0_body_B22 hX  h
abbrev iX6_fits : gx_M := (RX6, "fits", cX6_fits, 2, some .int)
theorem dsX6_fits : gx_ds yX6_fits 1 := by decide +kernel
def fX6_fits (x0 : Nat) (σ : xk_C) (x1 : Int32) : Option (xk_C × Int32) := (xk_gr (σ) 58 (some x0)).bind fun v1 => (xk_is (σ) 1 (v1)).bind fun b3 => (fX0_body (b3) (σ) (1)).bind fun r2 => (xk_gr (r2.1) 57 (some x0)).bind fun v4 => (xk_gi (r2.1) 44 (v4)).bind fun v5 => some (r2.1, (x1) + (v5))
set_option maxHeartbeats 4000000 in
theorem tX6_fits (w : gw_W) (A : Nat → Prop) (l : Launch) (x0 : Nat) (σ : xk_C) (x1 : Int32) {r : xk_C × Int32} (h : fX6_fits x0 σ x1 = some r) : gx_T (gw_I w A) A l yX6_fits iX6_fits 2 [va_rf (some x0), .int (x1)] (xk_P A w σ) 0 0 (xk_P A w r.1) (.returned (some (.int r.2))) := by
  refine gx_T.of (gw_I.inv w A) (by decide) ⟨rfl, rfl⟩ (gx_kR (gx_kI gx_k0)) (Nat.le_of_ble_eq_true rfl) (fun X hl hAx hX => ?_)
  subst hl
  subst hAx
  show gx_G X (xk_P (gx_A X) w (σ)) 0 0 [some (va_rf (some x0)), some (.int (x1))] 0 []
  unfold fX6_fits at h
  refine gx_aload_n hX dX6_fits_0 rfl ?_
  refine xk_getr hX 58 q464 (fun _ h => h) rfl dX6_fits_1 h (fun v1 h => ?_)
  refine gx_iconst (v := 1) hX dX6_fits_4 (by decide) ?_
  obtain ⟨b3, hb, h⟩ := gx_bs h
  obtain ⟨eb, hkb⟩ := xk_isS hb
  obtain ⟨r2, hr2, h⟩ := gx_bs h
  refine gx_cVN (As := [.int (1)]) (rest := []) (b := b3) hX (tX0_body w (gx_A X) (gx_l X) (b3) (σ) (1) hr2) (lw_meth q1227) (hX.2.2.2.2.2.2.2.1.2.1 _ (gw_xq q1238 rfl)) ⟨q86, q1226, qs32⟩ dsX0_body (by decide) (Nat.le_of_ble_eq_true rfl) (xk_rc hX (ci := 0) (by decide) (by decide) hkb) (by rw [eb]; rfl) (gx_w8 gx_k0 (Nat.le_of_ble_eq_true rfl)) dX6_fits_5 ⟨Nat.le_refl _, Nat.le_refl _⟩ rfl ?_
  refine gx_iload_n hX dX6_fits_8 rfl ?_
  refine gx_aload_n hX dX6_fits_9 rfl ?_
  refine xk_getr hX 57 q463 (fun _ h => h) rfl dX6_fits_10 h (fun v4 h => ?_)
  refine xk_getiN hX 44 q548 rfl dX6_fits_13 h (fun v5 h => ?_)
  refine gx_iadd hX dX6_fits_16 ?_
  cases h
  exact gx_iret hX rfl dX6_fits_17 rfl ⟨rfl, rfl⟩ (fun _ h => h)
abbrev iX7_fits : gx_M := (RX7, "fits", cX7_fits, 2, some .int)
theorem dsX7_fits : gx_ds yX7_fits 1 := by decide +kernel
def fX7_fits (x0 : Nat) (σ : xk_C) (x1 : Int32) : Option (xk_C × Int32) := (xk_gr (σ) 59 (some x0)).bind fun v1 => (xk_is (σ) 1 (v1)).bind fun b3 => (fX0_body (b3) (σ) (nI 11)).bind fun r2 => (xk_io (r2.1) (some x0)).bind fun b5 => (fX6_fits (b5) (r2.1) ((x1) * (2))).bind fun r4 => some (r4.1, r4.2)
set_option maxHeartbeats 4000000 in
theorem tX7_fits (w : gw_W) (A : Nat → Prop) (l : Launch) (x0 : Nat) (σ : xk_C) (x1 : Int32) {r : xk_C × Int32} (h : fX7_fits x0 σ x1 = some r) : gx_T (gw_I w A) A l yX7_fits iX7_fits 3 [va_rf (some x0), .int (x1)] (xk_P A w σ) 0 0 (xk_P A w r.1) (.returned (some (.int r.2))) := by
  refine gx_T.of (gw_I.inv w A) (by decide) ⟨rfl, rfl⟩ (gx_kR (gx_kI gx_k0)) (Nat.le_of_ble_eq_true rfl) (fun X hl hAx hX => ?_)
  subst hl
  subst hAx
  show gx_G X (xk_P (gx_A X) w (σ)) 0 0 [some (va_rf (some x0)), some (.int (x1))] 0 []
  unfold fX7_fits at h
  refine gx_aload_n hX dX7_fits_0 rfl ?_
  refine xk_getr hX 59 q476 (fun _ h => h) rfl dX7_fits_1 h (fun v1 h => ?_)
  refine gx_bipush (v := nI 11) hX dX7_fits_4 (by decide) ?_
  obtain ⟨b3, hb, h⟩ := gx_bs h
  obtain ⟨eb, hkb⟩ := xk_isS hb
  obtain ⟨r2, hr2, h⟩ := gx_bs h
  refine gx_cVN (As := [.int (nI 11)]) (rest := []) (b := b3) hX (tX0_body w (gx_A X) (gx_l X) (b3) (σ) (nI 11) hr2) (lw_meth q1227) (hX.2.2.2.2.2.2.2.1.2.1 _ (gw_xq q1232 rfl)) ⟨q86, q1226, qs32⟩ dsX0_body (by decide) (Nat.le_of_ble_eq_true rfl) (xk_rc hX (ci := 0) (by decide) (by decide) hkb) (by rw [eb]; rfl) (gx_w8 gx_k0 (Nat.le_of_ble_eq_true rfl)) dX7_fits_6 ⟨Nat.le_refl _, Nat.le_refl _⟩ rfl ?_
  refine gx_aload_n hX dX7_fits_9 rfl ?_
  refine gx_iload_n hX dX7_fits_10 rfl ?_
  refine gx_iconst (v := 2) hX dX7_fits_11 (by decide) ?_
  refine gx_imul hX dX7_fits_12 ?_
  obtain ⟨b5, hb, h⟩ := gx_bs h
  obtain ⟨eb, ci, hci, hc3, hkb⟩ := xk_ioS hb
  obtain ⟨r4, hr4, h⟩ := gx_bs h
  refine gx_cSU (As := [.int ((x1) * (2))]) (rest := []) (b := b5) hX (hX.2.2.2.2.2.2.2.1.1.1 ci _ (xk_at ci hci)).2 (tX6_fits w (gx_A X) (gx_l X) (b5) (r2.1) ((x1) * (2)) hr4) (gx_gSU q1233 q1219 q481 q1217 q101 q1237) ⟨by decide, dsX6_fits.2.2⟩ (by decide) (Nat.le_of_ble_eq_true rfl) (xk_rc hX hci hc3 hkb) (by rw [eb]; rfl) (gx_w8 gx_k0 (Nat.le_of_ble_eq_true rfl)) dX7_fits_13 ⟨Nat.le_refl _, Nat.le_refl _⟩ rfl ?_
  cases h
  exact gx_iret hX rfl dX7_fits_16 rfl ⟨rfl, rfl⟩ (fun _ h => h)
abbrev iX12_fits : gx_M := (RX12, "fits", cX12_fits, 2, some .int)
theorem dsX12_fits : gx_ds yX12_fits 1 := by decide +kernel
def fX12_fits (x0 : Nat) (σ : xk_C) (x1 : Int32) : Option (xk_C × Int32) := (xk_gr (σ) 64 (some x0)).bind fun v1 => (xk_is (σ) 1 (v1)).bind fun b3 => (fX0_body (b3) (σ) (nI 61)).bind fun r2 => (xk_io (r2.1) (some x0)).bind fun b5 => (fX6_fits (b5) (r2.1) (x1)).bind fun r4 => some (r4.1, -(r4.2))
set_option maxHeartbeats 4000000 in
theorem tX12_fits (w : gw_W) (A : Nat → Prop) (l : Launch) (x0 : Nat) (σ : xk_C) (x1 : Int32) {r : xk_C × Int32} (h : fX12_fits x0 σ x1 = some r) : gx_T (gw_I w A) A l yX12_fits iX12_fits 3 [va_rf (some x0), .int (x1)] (xk_P A w σ) 0 0 (xk_P A w r.1) (.returned (some (.int r.2))) := by
  refine gx_T.of (gw_I.inv w A) (by decide) ⟨rfl, rfl⟩ (gx_kR (gx_kI gx_k0)) (Nat.le_of_ble_eq_true rfl) (fun X hl hAx hX => ?_)
  subst hl
  subst hAx
  show gx_G X (xk_P (gx_A X) w (σ)) 0 0 [some (va_rf (some x0)), some (.int (x1))] 0 []
  unfold fX12_fits at h
  refine gx_aload_n hX dX12_fits_0 rfl ?_
  refine xk_getr hX 64 q540 (fun _ h => h) rfl dX12_fits_1 h (fun v1 h => ?_)
  refine gx_bipush (v := nI 61) hX dX12_fits_4 (by decide) ?_
  obtain ⟨b3, hb, h⟩ := gx_bs h
  obtain ⟨eb, hkb⟩ := xk_isS hb
  obtain ⟨r2, hr2, h⟩ := gx_bs h
  refine gx_cVN (As := [.int (nI 61)]) (rest := []) (b := b3) hX (tX0_body w (gx_A X) (gx_l X) (b3) (σ) (nI 61) hr2) (lw_meth q1227) (hX.2.2.2.2.2.2.2.1.2.1 _ (gw_xq q1224 rfl)) ⟨q86, q1226, qs32⟩ dsX0_body (by decide) (Nat.le_of_ble_eq_true rfl) (xk_rc hX (ci := 0) (by decide) (by decide) hkb) (by rw [eb]; rfl) (gx_w8 gx_k0 (Nat.le_of_ble_eq_true rfl)) dX12_fits_6 ⟨Nat.le_refl _, Nat.le_refl _⟩ rfl ?_
  refine gx_aload_n hX dX12_fits_9 rfl ?_
  refine gx_iload_n hX dX12_fits_10 rfl ?_
  obtain ⟨b5, hb, h⟩ := gx_bs h
  obtain ⟨eb, ci, hci, hc3, hkb⟩ := xk_ioS hb
  obtain ⟨r4, hr4, h⟩ := gx_bs h
  refine gx_cSU (As := [.int (x1)]) (rest := []) (b := b5) hX (hX.2.2.2.2.2.2.2.1.1.1 ci _ (xk_at ci hci)).2 (tX6_fits w (gx_A X) (gx_l X) (b5) (r2.1) (x1) hr4) (gx_gSU q1228 q1219 q545 q1217 q101 q1237) ⟨by decide, dsX6_fits.2.2⟩ (by decide) (Nat.le_of_ble_eq_true rfl) (xk_rc hX hci hc3 hkb) (by rw [eb]; rfl) (gx_w8 gx_k0 (Nat.le_of_ble_eq_true rfl)) dX12_fits_11 ⟨Nat.le_refl _, Nat.le_refl _⟩ rfl ?_
  refine gx_ineg hX dX12_fits_14 ?_
  cases h
  exact gx_iret hX rfl dX12_fits_15 rfl ⟨rfl, rfl⟩ (fun _ h => h)
abbrev iX6_asks : gx_M := (RX6, "asks", cX6_asks, 2, some .int)
theorem dsX6_asks : gx_ds yX6_asks 1 := by decide +kernel
def fV_X6_fits (b : Nat) (σ : xk_C) (x1 : Int32) : Option (xk_C × Int32) := if xk_k σ b = 7 then fX6_fits b σ x1 else if xk_k σ b = 8 then fX7_fits b σ x1 else if xk_k σ b = 9 then fX6_fits b σ x1 else if xk_k σ b = 10 then fX7_fits b σ x1 else if xk_k σ b = 11 then fX7_fits b σ x1 else if xk_k σ b = 12 then fX7_fits b σ x1 else if xk_k σ b = 13 then fX12_fits b σ x1 else none
def fX6_asks (x0 : Nat) (σ : xk_C) (x1 : Int32) : Option (xk_C × Int32) := (xk_gr (σ) 58 (some x0)).bind fun v1 => (xk_is (σ) 1 (v1)).bind fun b3 => (fX0_body (b3) (σ) (2)).bind fun r2 => (xk_io (r2.1) (some x0)).bind fun b5 => (fV_X6_fits b5 (r2.1) (x1)).bind fun r4 => (xk_gr (r4.1) 57 (some x0)).bind fun v6 => (xk_gi (r4.1) 47 (v6)).bind fun v7 => some (r4.1, (r4.2) - (v7))
set_option maxHeartbeats 4000000 in
theorem tX6_asks (w : gw_W) (A : Nat → Prop) (l : Launch) (x0 : Nat) (σ : xk_C) (x1 : Int32) {r : xk_C × Int32} (h : fX6_asks x0 σ x1 = some r) : gx_T (gw_I w A) A l yX6_asks iX6_asks 4 [va_rf (some x0), .int (x1)] (xk_P A w σ) 0 0 (xk_P A w r.1) (.returned (some (.int r.2))) := by
  refine gx_T.of (gw_I.inv w A) (by decide) ⟨rfl, rfl⟩ (gx_kR (gx_kI gx_k0)) (Nat.le_of_ble_eq_true rfl) (fun X hl hAx hX => ?_)
  subst hl
  subst hAx
  show gx_G X (xk_P (gx_A X) w (σ)) 0 0 [some (va_rf (some x0)), some (.int (x1))] 0 []
  unfold fX6_asks at h
  refine gx_aload_n hX dX6_asks_0 rfl ?_
  refine xk_getr hX 58 q464 (fun _ h => h) rfl dX6_asks_1 h (fun v1 h => ?_)
  refine gx_iconst (v := 2) hX dX6_asks_4 (by decide) ?_
  obtain ⟨b3, hb, h⟩ := gx_bs h
  obtain ⟨eb, hkb⟩ := xk_isS hb
  obtain ⟨r2, hr2, h⟩ := gx_bs h
  refine gx_cVN (As := [.int (2)]) (rest := []) (b := b3) hX (tX0_body w (gx_A X) (gx_l X) (b3) (σ) (2) hr2) (lw_meth q1227) (hX.2.2.2.2.2.2.2.1.2.1 _ (gw_xq q1238 rfl)) ⟨q86, q1226, qs32⟩ dsX0_body (by decide) (Nat.le_of_ble_eq_true rfl) (xk_rc hX (ci := 0) (by decide) (by decide) hkb) (by rw [eb]; rfl) (gx_w8 gx_k0 (Nat.le_of_ble_eq_true rfl)) dX6_asks_5 ⟨Nat.le_refl _, Nat.le_refl _⟩ rfl ?_
  refine gx_aload_n hX dX6_asks_8 rfl ?_
  refine gx_iload_n hX dX6_asks_9 rfl ?_
  obtain ⟨b5, hb, h⟩ := gx_bs h
  obtain ⟨eb, -⟩ := xk_ioS hb
  obtain ⟨r4, hr4, h⟩ := gx_bs h
  have hk : gx_G X (xk_P (gx_A X) w (r4.1)) 0 0 [some (va_rf (some x0)), some (.int (x1))] 13 [.int (r4.2)] := by
    refine gx_aload_n hX dX6_asks_13 rfl ?_
    refine xk_getr hX 57 q463 (fun _ h => h) rfl dX6_asks_14 h (fun v6 h => ?_)
    refine xk_getiN hX 47 q556 rfl dX6_asks_17 h (fun v7 h => ?_)
    refine gx_isub hX dX6_asks_20 ?_
    cases h
    exact gx_iret hX rfl dX6_asks_21 rfl ⟨rfl, rfl⟩ (fun _ h => h)
  unfold fV_X6_fits at hr4
  by_cases c6 : xk_k (r2.1) b5 = 7
  · rw [if_pos c6] at hr4
    exact gx_cV (As := [.int (x1)]) (rest := []) (b := b5) hX (tX6_fits w (gx_A X) (gx_l X) (b5) (r2.1) (x1) hr4) (lw_V q1264 q1217 q1218 q101 q1237) ⟨rfl, dsX6_fits⟩ (by decide) (Nat.le_of_ble_eq_true rfl) (xk_rc hX (ci := 6) (by decide) (by decide) c6) (by rw [eb]; rfl) (gx_w8 gx_k0 (Nat.le_of_ble_eq_true rfl)) dX6_asks_10 ⟨Nat.le_refl _, Nat.le_refl _⟩ rfl hk
  rw [if_neg c6] at hr4
  by_cases c7 : xk_k (r2.1) b5 = 8
  · rw [if_pos c7] at hr4
    exact gx_cU (As := [.int (x1)]) (rest := []) (b := b5) hX (tX7_fits w (gx_A X) (gx_l X) (b5) (r2.1) (x1) hr4) (gx_gO (owner := "ShellBeach$Way") q1264 q1219 q1217 q1229 q1230 q102 q1231) q1237 ⟨by decide, by decide, dsX7_fits.2.2⟩ (by decide) (Nat.le_of_ble_eq_true rfl) (xk_rc hX (ci := 7) (by decide) (by decide) c7) (by rw [eb]; rfl) (gx_w8 gx_k0 (Nat.le_of_ble_eq_true rfl)) dX6_asks_10 ⟨Nat.le_refl _, Nat.le_refl _⟩ rfl hk
  rw [if_neg c7] at hr4
  by_cases c8 : xk_k (r2.1) b5 = 9
  · rw [if_pos c8] at hr4
    exact gx_cU (As := [.int (x1)]) (rest := []) (b := b5) hX (tX6_fits w (gx_A X) (gx_l X) (b5) (r2.1) (x1) hr4) (gx_gO (owner := "ShellBeach$Way") q1264 q1219 q1217 q1220 q1217 q101 q1237) q1237 ⟨by decide, by decide, dsX6_fits.2.2⟩ (by decide) (Nat.le_of_ble_eq_true rfl) (xk_rc hX (ci := 8) (by decide) (by decide) c8) (by rw [eb]; rfl) (gx_w8 gx_k0 (Nat.le_of_ble_eq_true rfl)) dX6_asks_10 ⟨Nat.le_refl _, Nat.le_refl _⟩ rfl hk
  rw [if_neg c8] at hr4
  by_cases c9 : xk_k (r2.1) b5 = 10
  · rw [if_pos c9] at hr4
    exact gx_cU (As := [.int (x1)]) (rest := []) (b := b5) hX (tX7_fits w (gx_A X) (gx_l X) (b5) (r2.1) (x1) hr4) (gx_gO (owner := "ShellBeach$Way") q1264 q1219 q1217 q1236 q1230 q102 q1231) q1237 ⟨by decide, by decide, dsX7_fits.2.2⟩ (by decide) (Nat.le_of_ble_eq_true rfl) (xk_rc hX (ci := 9) (by decide) (by decide) c9) (by rw [eb]; rfl) (gx_w8 gx_k0 (Nat.le_of_ble_eq_true rfl)) dX6_asks_10 ⟨Nat.le_refl _, Nat.le_refl _⟩ rfl hk
  rw [if_neg c9] at hr4
  by_cases c10 : xk_k (r2.1) b5 = 11
  · rw [if_pos c10] at hr4
    exact gx_cU (As := [.int (x1)]) (rest := []) (b := b5) hX (tX7_fits w (gx_A X) (gx_l X) (b5) (r2.1) (x1) hr4) (gx_gO (owner := "ShellBeach$Way") q1264 q1219 q1217 q1235 q1230 q102 q1231) q1237 ⟨by decide, by decide, dsX7_fits.2.2⟩ (by decide) (Nat.le_of_ble_eq_true rfl) (xk_rc hX (ci := 10) (by decide) (by decide) c10) (by rw [eb]; rfl) (gx_w8 gx_k0 (Nat.le_of_ble_eq_true rfl)) dX6_asks_10 ⟨Nat.le_refl _, Nat.le_refl _⟩ rfl hk
  rw [if_neg c10] at hr4
  by_cases c11 : xk_k (r2.1) b5 = 12
  · rw [if_pos c11] at hr4
    exact gx_cU (As := [.int (x1)]) (rest := []) (b := b5) hX (tX7_fits w (gx_A X) (gx_l X) (b5) (r2.1) (x1) hr4) (gx_gO (owner := "ShellBeach$Way") q1264 q1219 q1217 q1234 q1230 q102 q1231) q1237 ⟨by decide, by decide, dsX7_fits.2.2⟩ (by decide) (Nat.le_of_ble_eq_true rfl) (xk_rc hX (ci := 11) (by decide) (by decide) c11) (by rw [eb]; rfl) (gx_w8 gx_k0 (Nat.le_of_ble_eq_true rfl)) dX6_asks_10 ⟨Nat.le_refl _, Nat.le_refl _⟩ rfl hk
  rw [if_neg c11] at hr4
  by_cases c12 : xk_k (r2.1) b5 = 13
  · rw [if_pos c12] at hr4
    exact gx_cU (As := [.int (x1)]) (rest := []) (b := b5) hX (tX12_fits w (gx_A X) (gx_l X) (b5) (r2.1) (x1) hr4) (gx_gO (owner := "ShellBeach$Way") q1264 q1219 q1217 q1221 q1222 q107 q1223) q1237 ⟨by decide, by decide, dsX12_fits.2.2⟩ (by decide) (Nat.le_of_ble_eq_true rfl) (xk_rc hX (ci := 12) (by decide) (by decide) c12) (by rw [eb]; rfl) (gx_w8 gx_k0 (Nat.le_of_ble_eq_true rfl)) dX6_asks_10 ⟨Nat.le_refl _, Nat.le_refl _⟩ rfl hk
  rw [if_neg c12] at hr4
  cases hr4
abbrev iX9_asks : gx_M := (RX9, "asks", cX9_asks, 2, some .int)
theorem dsX9_asks : gx_ds yX9_asks 1 := by decide +kernel
def fX9_asks (x0 : Nat) (σ : xk_C) (x1 : Int32) : Option (xk_C × Int32) := (xk_gr (σ) 61 (some x0)).bind fun v1 => (xk_is (σ) 1 (v1)).bind fun b3 => (fX0_body (b3) (σ) (nI 31)).bind fun r2 => (xk_io (r2.1) (some x0)).bind fun b5 => (fX6_asks (b5) (r2.1) (x1)).bind fun r4 => some (r4.1, (r4.2) ^^^ (3))
set_option maxHeartbeats 4000000 in
theorem tX9_asks (w : gw_W) (A : Nat → Prop) (l : Launch) (x0 : Nat) (σ : xk_C) (x1 : Int32) {r : xk_C × Int32} (h : fX9_asks x0 σ x1 = some r) : gx_T (gw_I w A) A l yX9_asks iX9_asks 5 [va_rf (some x0), .int (x1)] (xk_P A w σ) 0 0 (xk_P A w r.1) (.returned (some (.int r.2))) := by
  refine gx_T.of (gw_I.inv w A) (by decide) ⟨rfl, rfl⟩ (gx_kR (gx_kI gx_k0)) (Nat.le_of_ble_eq_true rfl) (fun X hl hAx hX => ?_)
  subst hl
  subst hAx
  show gx_G X (xk_P (gx_A X) w (σ)) 0 0 [some (va_rf (some x0)), some (.int (x1))] 0 []
  unfold fX9_asks at h
  refine gx_aload_n hX dX9_asks_0 rfl ?_
  refine xk_getr hX 61 q500 (fun _ h => h) rfl dX9_asks_1 h (fun v1 h => ?_)
  refine gx_bipush (v := nI 31) hX dX9_asks_4 (by decide) ?_
  obtain ⟨b3, hb, h⟩ := gx_bs h
  obtain ⟨eb, hkb⟩ := xk_isS hb
  obtain ⟨r2, hr2, h⟩ := gx_bs h
  refine gx_cVN (As := [.int (nI 31)]) (rest := []) (b := b3) hX (tX0_body w (gx_A X) (gx_l X) (b3) (σ) (nI 31) hr2) (lw_meth q1227) (hX.2.2.2.2.2.2.2.1.2.1 _ (gw_xq q1254 rfl)) ⟨q86, q1226, qs32⟩ dsX0_body (by decide) (Nat.le_of_ble_eq_true rfl) (xk_rc hX (ci := 0) (by decide) (by decide) hkb) (by rw [eb]; rfl) (gx_w8 gx_k0 (Nat.le_of_ble_eq_true rfl)) dX9_asks_6 ⟨Nat.le_refl _, Nat.le_refl _⟩ rfl ?_
  refine gx_aload_n hX dX9_asks_9 rfl ?_
  refine gx_iload_n hX dX9_asks_10 rfl ?_
  obtain ⟨b5, hb, h⟩ := gx_bs h
  obtain ⟨eb, ci, hci, hc3, hkb⟩ := xk_ioS hb
  obtain ⟨r4, hr4, h⟩ := gx_bs h
  refine gx_cSV (As := [.int (x1)]) (rest := []) (b := b5) hX (hX.2.2.2.2.2.2.2.1.1.1 ci _ (xk_at ci hci)).2 (tX6_asks w (gx_A X) (gx_l X) (b5) (r2.1) (x1) hr4) (lw_meth q1263) ⟨q1255, q1256, q506, q481, q1240, q101⟩ ⟨rfl, rfl⟩ ⟨by decide, dsX6_asks.2.2⟩ (by decide) (Nat.le_of_ble_eq_true rfl) (xk_rc hX hci hc3 hkb) (by rw [eb]; rfl) (gx_w8 gx_k0 (Nat.le_of_ble_eq_true rfl)) dX9_asks_11 ⟨Nat.le_refl _, Nat.le_refl _⟩ rfl ?_
  refine gx_iconst (v := 3) hX dX9_asks_14 (by decide) ?_
  refine gx_ixor hX dX9_asks_15 ?_
  cases h
  exact gx_iret hX rfl dX9_asks_16 rfl ⟨rfl, rfl⟩ (fun _ h => h)
abbrev iX10_asks : gx_M := (RX10, "asks", cX10_asks, 3, some .int)
theorem dsX10_asks : gx_ds yX10_asks 1 := by decide +kernel
def fX10_asks (x0 : Nat) (σ : xk_C) (x1 : Int32) : Option (xk_C × Int32) := (xk_gr (σ) 62 (some x0)).bind fun v1 => (xk_is (σ) 1 (v1)).bind fun b3 => (fX0_body (b3) (σ) (nI 41)).bind fun r2 => (xk_io (r2.1) (some x0)).bind fun b5 => (fX9_asks (b5) (r2.1) ((x1) + (1))).bind fun r4 => (xk_is (r4.1) 11 (some x0)).bind fun b7 => (fX7_fits (b7) (r4.1) (1)).bind fun r6 => some (r6.1, (r4.2) + (r6.2))
set_option maxHeartbeats 4000000 in
theorem tX10_asks (w : gw_W) (A : Nat → Prop) (l : Launch) (x0 : Nat) (σ : xk_C) (x1 : Int32) {r : xk_C × Int32} (h : fX10_asks x0 σ x1 = some r) : gx_T (gw_I w A) A l yX10_asks iX10_asks 6 [va_rf (some x0), .int (x1)] (xk_P A w σ) 0 0 (xk_P A w r.1) (.returned (some (.int r.2))) := by
  refine gx_T.of (gw_I.inv w A) (by decide) ⟨rfl, rfl⟩ (gx_kR (gx_kI gx_k0)) (Nat.le_of_ble_eq_true rfl) (fun X hl hAx hX => ?_)
  subst hl
  subst hAx
  show gx_G X (xk_P (gx_A X) w (σ)) 0 0 [some (va_rf (some x0)), some (.int (x1)), none] 0 []
  unfold fX10_asks at h
  refine gx_aload_n hX dX10_asks_0 rfl ?_
  refine xk_getr hX 62 q513 (fun _ h => h) rfl dX10_asks_1 h (fun v1 h => ?_)
  refine gx_bipush (v := nI 41) hX dX10_asks_4 (by decide) ?_
  obtain ⟨b3, hb, h⟩ := gx_bs h
  obtain ⟨eb, hkb⟩ := xk_isS hb
  obtain ⟨r2, hr2, h⟩ := gx_bs h
  refine gx_cVN (As := [.int (nI 41)]) (rest := []) (b := b3) hX (tX0_body w (gx_A X) (gx_l X) (b3) (σ) (nI 41) hr2) (lw_meth q1227) (hX.2.2.2.2.2.2.2.1.2.1 _ (gw_xq q1250 rfl)) ⟨q86, q1226, qs32⟩ dsX0_body (by decide) (Nat.le_of_ble_eq_true rfl) (xk_rc hX (ci := 0) (by decide) (by decide) hkb) (by rw [eb]; rfl) (gx_w8 gx_k0 (Nat.le_of_ble_eq_true rfl)) dX10_asks_6 ⟨Nat.le_refl _, Nat.le_refl _⟩ rfl ?_
  refine gx_aload_n hX dX10_asks_9 rfl ?_
  refine gx_iload_n hX dX10_asks_10 rfl ?_
  refine gx_iconst (v := 1) hX dX10_asks_11 (by decide) ?_
  refine gx_iadd hX dX10_asks_12 ?_
  obtain ⟨b5, hb, h⟩ := gx_bs h
  obtain ⟨eb, ci, hci, hc3, hkb⟩ := xk_ioS hb
  obtain ⟨r4, hr4, h⟩ := gx_bs h
  refine gx_cSU (As := [.int ((x1) + (1))]) (rest := []) (b := b5) hX (hX.2.2.2.2.2.2.2.1.1.1 ci _ (xk_at ci hci)).2 (tX9_asks w (gx_A X) (gx_l X) (b5) (r2.1) ((x1) + (1)) hr4) (gx_gSU q1251 q1869 q520 q1252 q104 q1253) ⟨by decide, dsX9_asks.2.2⟩ (by decide) (Nat.le_of_ble_eq_true rfl) (xk_rc hX hci hc3 hkb) (by rw [eb]; rfl) (gx_w8 gx_k0 (Nat.le_of_ble_eq_true rfl)) dX10_asks_13 ⟨Nat.le_refl _, Nat.le_refl _⟩ rfl ?_
  refine gx_istore_n hX dX10_asks_16 (Nat.le_of_ble_eq_true rfl) gx_c1i (lv' := [some (va_rf (some x0)), some (.int (x1)), some (.int (r4.2))]) rfl ?_
  refine gx_iload_n hX dX10_asks_17 rfl ?_
  refine gx_aload_n hX dX10_asks_18 rfl ?_
  refine gx_iconst (v := 1) hX dX10_asks_19 (by decide) ?_
  obtain ⟨b7, hb, h⟩ := gx_bs h
  obtain ⟨eb, hkb⟩ := xk_isS hb
  obtain ⟨r6, hr6, h⟩ := gx_bs h
  refine gx_cU (As := [.int (1)]) (rest := [.int (r4.2)]) (b := b7) hX (tX7_fits w (gx_A X) (gx_l X) (b7) (r4.1) (1) hr6) (gx_gO (owner := "ShellBeach$Housed") q1258 q1259 q1230 q1261 q1230 q102 q1231) q1231 ⟨by decide, by decide, dsX7_fits.2.2⟩ (by decide) (Nat.le_of_ble_eq_true rfl) (xk_rc hX (ci := 10) (by decide) (by decide) hkb) (by rw [eb]; rfl) (gx_w8 (gx_kI gx_k0) (Nat.le_of_ble_eq_true rfl)) dX10_asks_20 ⟨Nat.le_refl _, Nat.le_refl _⟩ rfl ?_
  refine gx_iadd hX dX10_asks_23 ?_
  cases h
  exact gx_iret hX rfl dX10_asks_24 rfl ⟨rfl, rfl⟩ (fun _ h => h)
abbrev iX6_moves : gx_M := (RX6, "moves", cX6_moves, 2, some .int)
theorem dsX6_moves : gx_ds yX6_moves 1 := by decide +kernel
def fV_X6_asks (b : Nat) (σ : xk_C) (x1 : Int32) : Option (xk_C × Int32) := if xk_k σ b = 7 then fX6_asks b σ x1 else if xk_k σ b = 8 then fX6_asks b σ x1 else if xk_k σ b = 9 then fX6_asks b σ x1 else if xk_k σ b = 10 then fX9_asks b σ x1 else if xk_k σ b = 11 then fX10_asks b σ x1 else if xk_k σ b = 12 then fX6_asks b σ x1 else if xk_k σ b = 13 then fX6_asks b σ x1 else none
def fX6_moves (x0 : Nat) (σ : xk_C) (x1 : Int32) : Option (xk_C × Int32) := (xk_gr (σ) 58 (some x0)).bind fun v1 => (xk_is (σ) 1 (v1)).bind fun b3 => (fX0_body (b3) (σ) (3)).bind fun r2 => (xk_io (r2.1) (some x0)).bind fun b5 => (fV_X6_asks b5 (r2.1) (x1)).bind fun r4 => some (r4.1, (r4.2) * (2))
set_option maxHeartbeats 4000000 in
theorem tX6_moves (w : gw_W) (A : Nat → Prop) (l : Launch) (x0 : Nat) (σ : xk_C) (x1 : Int32) {r : xk_C × Int32} (h : fX6_moves x0 σ x1 = some r) : gx_T (gw_I w A) A l yX6_moves iX6_moves 7 [va_rf (some x0), .int (x1)] (xk_P A w σ) 0 0 (xk_P A w r.1) (.returned (some (.int r.2))) := by
  refine gx_T.of (gw_I.inv w A) (by decide) ⟨rfl, rfl⟩ (gx_kR (gx_kI gx_k0)) (Nat.le_of_ble_eq_true rfl) (fun X hl hAx hX => ?_)
  subst hl
  subst hAx
  show gx_G X (xk_P (gx_A X) w (σ)) 0 0 [some (va_rf (some x0)), some (.int (x1))] 0 []
  unfold fX6_moves at h
  refine gx_aload_n hX dX6_moves_0 rfl ?_
  refine xk_getr hX 58 q464 (fun _ h => h) rfl dX6_moves_1 h (fun v1 h => ?_)
  refine gx_iconst (v := 3) hX dX6_moves_4 (by decide) ?_
  obtain ⟨b3, hb, h⟩ := gx_bs h
  obtain ⟨eb, hkb⟩ := xk_isS hb
  obtain ⟨r2, hr2, h⟩ := gx_bs h
  refine gx_cVN (As := [.int (3)]) (rest := []) (b := b3) hX (tX0_body w (gx_A X) (gx_l X) (b3) (σ) (3) hr2) (lw_meth q1227) (hX.2.2.2.2.2.2.2.1.2.1 _ (gw_xq q1238 rfl)) ⟨q86, q1226, qs32⟩ dsX0_body (by decide) (Nat.le_of_ble_eq_true rfl) (xk_rc hX (ci := 0) (by decide) (by decide) hkb) (by rw [eb]; rfl) (gx_w8 gx_k0 (Nat.le_of_ble_eq_true rfl)) dX6_moves_5 ⟨Nat.le_refl _, Nat.le_refl _⟩ rfl ?_
  refine gx_aload_n hX dX6_moves_8 rfl ?_
  refine gx_iload_n hX dX6_moves_9 rfl ?_
  obtain ⟨b5, hb, h⟩ := gx_bs h
  obtain ⟨eb, -⟩ := xk_ioS hb
  obtain ⟨r4, hr4, h⟩ := gx_bs h
  have hk : gx_G X (xk_P (gx_A X) w (r4.1)) 0 0 [some (va_rf (some x0)), some (.int (x1))] 13 [.int (r4.2)] := by
    refine gx_iconst (v := 2) hX dX6_moves_13 (by decide) ?_
    refine gx_imul hX dX6_moves_14 ?_
    cases h
    exact gx_iret hX rfl dX6_moves_15 rfl ⟨rfl, rfl⟩ (fun _ h => h)
  unfold fV_X6_asks at hr4
  by_cases c6 : xk_k (r2.1) b5 = 7
  · rw [if_pos c6] at hr4
    exact gx_cV (As := [.int (x1)]) (rest := []) (b := b5) hX (tX6_asks w (gx_A X) (gx_l X) (b5) (r2.1) (x1) hr4) (lw_V q1286 q1240 q1241 q101 q1263) ⟨rfl, dsX6_asks⟩ (by decide) (Nat.le_of_ble_eq_true rfl) (xk_rc hX (ci := 6) (by decide) (by decide) c6) (by rw [eb]; rfl) (gx_w8 gx_k0 (Nat.le_of_ble_eq_true rfl)) dX6_moves_10 ⟨Nat.le_refl _, Nat.le_refl _⟩ rfl hk
  rw [if_neg c6] at hr4
  by_cases c7 : xk_k (r2.1) b5 = 8
  · rw [if_pos c7] at hr4
    exact gx_cU (As := [.int (x1)]) (rest := []) (b := b5) hX (tX6_asks w (gx_A X) (gx_l X) (b5) (r2.1) (x1) hr4) (gx_gO (owner := "ShellBeach$Way") q1286 q1242 q1240 q1245 q1240 q101 q1263) q1263 ⟨by decide, by decide, dsX6_asks.2.2⟩ (by decide) (Nat.le_of_ble_eq_true rfl) (xk_rc hX (ci := 7) (by decide) (by decide) c7) (by rw [eb]; rfl) (gx_w8 gx_k0 (Nat.le_of_ble_eq_true rfl)) dX6_moves_10 ⟨Nat.le_refl _, Nat.le_refl _⟩ rfl hk
  rw [if_neg c7] at hr4
  by_cases c8 : xk_k (r2.1) b5 = 9
  · rw [if_pos c8] at hr4
    exact gx_cU (As := [.int (x1)]) (rest := []) (b := b5) hX (tX6_asks w (gx_A X) (gx_l X) (b5) (r2.1) (x1) hr4) (gx_gO (owner := "ShellBeach$Way") q1286 q1242 q1240 q1243 q1240 q101 q1263) q1263 ⟨by decide, by decide, dsX6_asks.2.2⟩ (by decide) (Nat.le_of_ble_eq_true rfl) (xk_rc hX (ci := 8) (by decide) (by decide) c8) (by rw [eb]; rfl) (gx_w8 gx_k0 (Nat.le_of_ble_eq_true rfl)) dX6_moves_10 ⟨Nat.le_refl _, Nat.le_refl _⟩ rfl hk
  rw [if_neg c8] at hr4
  by_cases c9 : xk_k (r2.1) b5 = 10
  · rw [if_pos c9] at hr4
    exact gx_cU (As := [.int (x1)]) (rest := []) (b := b5) hX (tX9_asks w (gx_A X) (gx_l X) (b5) (r2.1) (x1) hr4) (gx_gO (owner := "ShellBeach$Way") q1286 q1242 q1240 q1262 q1252 q104 q1253) q1263 ⟨by decide, by decide, dsX9_asks.2.2⟩ (by decide) (Nat.le_of_ble_eq_true rfl) (xk_rc hX (ci := 9) (by decide) (by decide) c9) (by rw [eb]; rfl) (gx_w8 gx_k0 (Nat.le_of_ble_eq_true rfl)) dX6_moves_10 ⟨Nat.le_refl _, Nat.le_refl _⟩ rfl hk
  rw [if_neg c9] at hr4
  by_cases c10 : xk_k (r2.1) b5 = 11
  · rw [if_pos c10] at hr4
    exact gx_cU (As := [.int (x1)]) (rest := []) (b := b5) hX (tX10_asks w (gx_A X) (gx_l X) (b5) (r2.1) (x1) hr4) (gx_gO (owner := "ShellBeach$Way") q1286 q1242 q1240 q1247 q1248 q105 q1249) q1263 ⟨by decide, by decide, dsX10_asks.2.2⟩ (by decide) (Nat.le_of_ble_eq_true rfl) (xk_rc hX (ci := 10) (by decide) (by decide) c10) (by rw [eb]; rfl) (gx_w8 gx_k0 (Nat.le_of_ble_eq_true rfl)) dX6_moves_10 ⟨Nat.le_refl _, Nat.le_refl _⟩ rfl hk
  rw [if_neg c10] at hr4
  by_cases c11 : xk_k (r2.1) b5 = 12
  · rw [if_pos c11] at hr4
    exact gx_cU (As := [.int (x1)]) (rest := []) (b := b5) hX (tX6_asks w (gx_A X) (gx_l X) (b5) (r2.1) (x1) hr4) (gx_gO (owner := "ShellBeach$Way") q1286 q1242 q1240 q1246 q1240 q101 q1263) q1263 ⟨by decide, by decide, dsX6_asks.2.2⟩ (by decide) (Nat.le_of_ble_eq_true rfl) (xk_rc hX (ci := 11) (by decide) (by decide) c11) (by rw [eb]; rfl) (gx_w8 gx_k0 (Nat.le_of_ble_eq_true rfl)) dX6_moves_10 ⟨Nat.le_refl _, Nat.le_refl _⟩ rfl hk
  rw [if_neg c11] at hr4
  by_cases c12 : xk_k (r2.1) b5 = 13
  · rw [if_pos c12] at hr4
    exact gx_cU (As := [.int (x1)]) (rest := []) (b := b5) hX (tX6_asks w (gx_A X) (gx_l X) (b5) (r2.1) (x1) hr4) (gx_gO (owner := "ShellBeach$Way") q1286 q1242 q1240 q1244 q1240 q101 q1263) q1263 ⟨by decide, by decide, dsX6_asks.2.2⟩ (by decide) (Nat.le_of_ble_eq_true rfl) (xk_rc hX (ci := 12) (by decide) (by decide) c12) (by rw [eb]; rfl) (gx_w8 gx_k0 (Nat.le_of_ble_eq_true rfl)) dX6_moves_10 ⟨Nat.le_refl _, Nat.le_refl _⟩ rfl hk
  rw [if_neg c12] at hr4
  cases hr4
abbrev iX8_moves : gx_M := (RX8, "moves", cX8_moves, 2, some .int)
theorem dsX8_moves : gx_ds yX8_moves 1 := by decide +kernel
def fX8_moves (x0 : Nat) (σ : xk_C) (x1 : Int32) : Option (xk_C × Int32) := (xk_gr (σ) 60 (some x0)).bind fun v1 => (xk_is (σ) 1 (v1)).bind fun b3 => (fX0_body (b3) (σ) (nI 21)).bind fun r2 => (xk_io (r2.1) (some x0)).bind fun b5 => (fX6_moves (b5) (r2.1) (x1)).bind fun r4 => some (r4.1, -(r4.2))
set_option maxHeartbeats 4000000 in
theorem tX8_moves (w : gw_W) (A : Nat → Prop) (l : Launch) (x0 : Nat) (σ : xk_C) (x1 : Int32) {r : xk_C × Int32} (h : fX8_moves x0 σ x1 = some r) : gx_T (gw_I w A) A l yX8_moves iX8_moves 8 [va_rf (some x0), .int (x1)] (xk_P A w σ) 0 0 (xk_P A w r.1) (.returned (some (.int r.2))) := by
  refine gx_T.of (gw_I.inv w A) (by decide) ⟨rfl, rfl⟩ (gx_kR (gx_kI gx_k0)) (Nat.le_of_ble_eq_true rfl) (fun X hl hAx hX => ?_)
  subst hl
  subst hAx
  show gx_G X (xk_P (gx_A X) w (σ)) 0 0 [some (va_rf (some x0)), some (.int (x1))] 0 []
  unfold fX8_moves at h
  refine gx_aload_n hX dX8_moves_0 rfl ?_
  refine xk_getr hX 60 q488 (fun _ h => h) rfl dX8_moves_1 h (fun v1 h => ?_)
  refine gx_bipush (v := nI 21) hX dX8_moves_4 (by decide) ?_
  obtain ⟨b3, hb, h⟩ := gx_bs h
  obtain ⟨eb, hkb⟩ := xk_isS hb
  obtain ⟨r2, hr2, h⟩ := gx_bs h
  refine gx_cVN (As := [.int (nI 21)]) (rest := []) (b := b3) hX (tX0_body w (gx_A X) (gx_l X) (b3) (σ) (nI 21) hr2) (lw_meth q1227) (hX.2.2.2.2.2.2.2.1.2.1 _ (gw_xq q1272 rfl)) ⟨q86, q1226, qs32⟩ dsX0_body (by decide) (Nat.le_of_ble_eq_true rfl) (xk_rc hX (ci := 0) (by decide) (by decide) hkb) (by rw [eb]; rfl) (gx_w8 gx_k0 (Nat.le_of_ble_eq_true rfl)) dX8_moves_6 ⟨Nat.le_refl _, Nat.le_refl _⟩ rfl ?_
  refine gx_aload_n hX dX8_moves_9 rfl ?_
  refine gx_iload_n hX dX8_moves_10 rfl ?_
  obtain ⟨b5, hb, h⟩ := gx_bs h
  obtain ⟨eb, ci, hci, hc3, hkb⟩ := xk_ioS hb
  obtain ⟨r4, hr4, h⟩ := gx_bs h
  refine gx_cSU (As := [.int (x1)]) (rest := []) (b := b5) hX (hX.2.2.2.2.2.2.2.1.1.1 ci _ (xk_at ci hci)).2 (tX6_moves w (gx_A X) (gx_l X) (b5) (r2.1) (x1) hr4) (gx_gSU q1273 q1268 q493 q1266 q101 q1285) ⟨by decide, dsX6_moves.2.2⟩ (by decide) (Nat.le_of_ble_eq_true rfl) (xk_rc hX hci hc3 hkb) (by rw [eb]; rfl) (gx_w8 gx_k0 (Nat.le_of_ble_eq_true rfl)) dX8_moves_11 ⟨Nat.le_refl _, Nat.le_refl _⟩ rfl ?_
  refine gx_ineg hX dX8_moves_14 ?_
  cases h
  exact gx_iret hX rfl dX8_moves_15 rfl ⟨rfl, rfl⟩ (fun _ h => h)
abbrev iX11_moves : gx_M := (RX11, "moves", cX11_moves, 2, some .int)
theorem dsX11_moves : gx_ds yX11_moves 1 := by decide +kernel
def fX11_moves (x0 : Nat) (σ : xk_C) (x1 : Int32) : Option (xk_C × Int32) := (xk_gr (σ) 63 (some x0)).bind fun v1 => (xk_is (σ) 1 (v1)).bind fun b3 => (fX0_body (b3) (σ) (nI 51)).bind fun r2 => (xk_io (r2.1) (some x0)).bind fun b5 => (fX6_moves (b5) (r2.1) ((x1) - (2))).bind fun r4 => some (r4.1, r4.2)
set_option maxHeartbeats 4000000 in
theorem tX11_moves (w : gw_W) (A : Nat → Prop) (l : Launch) (x0 : Nat) (σ : xk_C) (x1 : Int32) {r : xk_C × Int32} (h : fX11_moves x0 σ x1 = some r) : gx_T (gw_I w A) A l yX11_moves iX11_moves 8 [va_rf (some x0), .int (x1)] (xk_P A w σ) 0 0 (xk_P A w r.1) (.returned (some (.int r.2))) := by
  refine gx_T.of (gw_I.inv w A) (by decide) ⟨rfl, rfl⟩ (gx_kR (gx_kI gx_k0)) (Nat.le_of_ble_eq_true rfl) (fun X hl hAx hX => ?_)
  subst hl
  subst hAx
  show gx_G X (xk_P (gx_A X) w (σ)) 0 0 [some (va_rf (some x0)), some (.int (x1))] 0 []
  unfold fX11_moves at h
  refine gx_aload_n hX dX11_moves_0 rfl ?_
  refine xk_getr hX 63 q527 (fun _ h => h) rfl dX11_moves_1 h (fun v1 h => ?_)
  refine gx_bipush (v := nI 51) hX dX11_moves_4 (by decide) ?_
  obtain ⟨b3, hb, h⟩ := gx_bs h
  obtain ⟨eb, hkb⟩ := xk_isS hb
  obtain ⟨r2, hr2, h⟩ := gx_bs h
  refine gx_cVN (As := [.int (nI 51)]) (rest := []) (b := b3) hX (tX0_body w (gx_A X) (gx_l X) (b3) (σ) (nI 51) hr2) (lw_meth q1227) (hX.2.2.2.2.2.2.2.1.2.1 _ (gw_xq q1279 rfl)) ⟨q86, q1226, qs32⟩ dsX0_body (by decide) (Nat.le_of_ble_eq_true rfl) (xk_rc hX (ci := 0) (by decide) (by decide) hkb) (by rw [eb]; rfl) (gx_w8 gx_k0 (Nat.le_of_ble_eq_true rfl)) dX11_moves_6 ⟨Nat.le_refl _, Nat.le_refl _⟩ rfl ?_
  refine gx_aload_n hX dX11_moves_9 rfl ?_
  refine gx_iload_n hX dX11_moves_10 rfl ?_
  refine gx_iconst (v := 2) hX dX11_moves_11 (by decide) ?_
  refine gx_isub hX dX11_moves_12 ?_
  obtain ⟨b5, hb, h⟩ := gx_bs h
  obtain ⟨eb, ci, hci, hc3, hkb⟩ := xk_ioS hb
  obtain ⟨r4, hr4, h⟩ := gx_bs h
  refine gx_cSV (As := [.int ((x1) - (2))]) (rest := []) (b := b5) hX (hX.2.2.2.2.2.2.2.1.1.1 ci _ (xk_at ci hci)).2 (tX6_moves w (gx_A X) (gx_l X) (b5) (r2.1) ((x1) - (2)) hr4) (lw_meth q1285) ⟨q1280, q1281, q533, q481, q1266, q101⟩ ⟨rfl, rfl⟩ ⟨by decide, dsX6_moves.2.2⟩ (by decide) (Nat.le_of_ble_eq_true rfl) (xk_rc hX hci hc3 hkb) (by rw [eb]; rfl) (gx_w8 gx_k0 (Nat.le_of_ble_eq_true rfl)) dX11_moves_13 ⟨Nat.le_refl _, Nat.le_refl _⟩ rfl ?_
  cases h
  exact gx_iret hX rfl dX11_moves_16 rfl ⟨rfl, rfl⟩ (fun _ h => h)
abbrev iX0_act : gx_M := (RX0, "act", cX0_act, 5, some .int)
theorem dsX0_act : gx_ds yX0_act 3 := by decide +kernel
def fV_X6_moves (b : Nat) (σ : xk_C) (x1 : Int32) : Option (xk_C × Int32) := if xk_k σ b = 7 then fX6_moves b σ x1 else if xk_k σ b = 8 then fX6_moves b σ x1 else if xk_k σ b = 9 then fX8_moves b σ x1 else if xk_k σ b = 10 then fX6_moves b σ x1 else if xk_k σ b = 11 then fX6_moves b σ x1 else if xk_k σ b = 12 then fX11_moves b σ x1 else if xk_k σ b = 13 then fX6_moves b σ x1 else none
def fX0_act (N : Nat) (x0 : Nat) (σ : xk_C) (x1 : Int32) (x2 : Int32) (x3 : Int32) : Option (xk_C × Int32) := (xk_pi (σ) 1 (some x0) (0)).bind fun σ1 => (xk_is (σ1) 1 (some x0)).bind fun b3 => (fX0_crabAt (b3) (σ1) (x1)).bind fun r2 => if r2 = none then some (σ1, 0) else (fX0_in  (x2) (0) (2)).bind fun r4 => if r4 = 0 then some (σ1, 0) else if x2 = 0 then (xk_is (σ1) 6 (r2)).bind fun b14 => (fX5_way N (b14) (σ1)).bind fun r13 => (xk_io (σ1) (r13)).bind fun b16 => (fV_X6_fits b16 (σ1) (x3)).bind fun r15 => some (r15.1, r15.2) else if x2 = 1 then (xk_is (σ1) 6 (r2)).bind fun b10 => (fX5_way N (b10) (σ1)).bind fun r9 => (xk_io (σ1) (r9)).bind fun b12 => (fV_X6_asks b12 (σ1) (x3)).bind fun r11 => some (r11.1, r11.2) else (xk_is (σ1) 6 (r2)).bind fun b6 => (fX5_way N (b6) (σ1)).bind fun r5 => (xk_io (σ1) (r5)).bind fun b8 => (fV_X6_moves b8 (σ1) (x3)).bind fun r7 => some (r7.1, r7.2)
set_option maxHeartbeats 4000000 in
theorem tX0_act (w : gw_W) (A : Nat → Prop) (l : Launch) (N : Nat) (x0 : Nat) (σ : xk_C) (x1 : Int32) (x2 : Int32) (x3 : Int32) {r : xk_C × Int32} (h : fX0_act N x0 σ x1 x2 x3 = some r) : gx_T (gw_I w A) A l yX0_act iX0_act 9 [va_rf (some x0), .int (x1), .int (x2), .int (x3)] (xk_P A w σ) 0 0 (xk_P A w r.1) (.returned (some (.int r.2))) := by
  refine gx_T.of (gw_I.inv w A) (by decide) ⟨rfl, rfl⟩ (gx_kR (gx_kI (gx_kI (gx_kI gx_k0)))) (Nat.le_of_ble_eq_true rfl) (fun X hl hAx hX => ?_)
  subst hl
  subst hAx
  show gx_G X (xk_P (gx_A X) w (σ)) 0 0 [some (va_rf (some x0)), some (.int (x1)), some (.int (x2)), some (.int (x3)), none] 0 []
  unfold fX0_act at h
  refine gx_aload_n hX dX0_act_0 rfl ?_
  refine gx_iconst (v := 0) hX dX0_act_1 (by decide) ?_
  refine xk_puti hX 1 xk_ty1 rfl q211 (fun _ h => h) rfl rfl dX0_act_2 h (fun σ1 hτ h => ?_)
  refine gx_aload_n hX dX0_act_5 rfl ?_
  refine gx_iload_n hX dX0_act_6 rfl ?_
  obtain ⟨b3, hb, h⟩ := gx_bs h
  obtain ⟨eb, hkb⟩ := xk_isS hb
  obtain ⟨r2, hr2, h⟩ := gx_bs h
  refine gx_cV (As := [.int (x1)]) (rest := []) (b := b3) hX (tX0_crabAt w (gx_A X) (gx_l X) (b3) (σ1) (x1) hr2) (lw_V q622 q624 qs4 q86 q625) ⟨rfl, dsX0_crabAt⟩ (by decide) (Nat.le_of_ble_eq_true rfl) (xk_rc hX (ci := 0) (by decide) (by decide) hkb) (by rw [eb]; rfl) (gx_w8 gx_k0 (Nat.le_of_ble_eq_true rfl)) dX0_act_7 ⟨Nat.le_refl _, Nat.le_refl _⟩ rfl ?_
  refine gx_astore hX dX0_act_10 (Nat.le_of_ble_eq_true rfl) gx_c1i (lv' := [some (va_rf (some x0)), some (.int (x1)), some (.int (x2)), some (.int (x3)), some (va_rf (r2))]) rfl ?_
  refine gx_aload hX dX0_act_12 rfl ?_
  refine gx_ifnull (tgt := 26) hX dX0_act_14 (by decide) h (fun h => ?_) (fun h => ?_)
  · refine gx_iconst (v := 0) hX dX0_act_26 (by decide) ?_
    cases h
    exact gx_iret hX rfl dX0_act_27 rfl ⟨rfl, rfl⟩ (fun _ h => h)
  · refine gx_iload_n hX dX0_act_17 rfl ?_
    refine gx_iconst (v := 0) hX dX0_act_18 (by decide) ?_
    refine gx_iconst (v := 2) hX dX0_act_19 (by decide) ?_
    obtain ⟨r4, hr4, h⟩ := gx_bs h
    refine gx_cS (As := [.int (x2), .int (0), .int (2)]) (rest := []) hX (tX0_in w (gx_A X) (gx_l X) (xk_P (gx_A X) w (σ1)) (x2) (0) (2) hr4) (lw_S q311 q312 q86 q313) dsX0_in (by decide) (Nat.le_of_ble_eq_true rfl) rfl (gx_w8 gx_k0 (Nat.le_of_ble_eq_true rfl)) dX0_act_20 ⟨Nat.le_refl _, Nat.le_refl _⟩ rfl ?_
    refine gx_if_ne (tgt := 28) hX dX0_act_23 (by decide) h (fun h => ?_) (fun h => ?_)
    · refine gx_iconst (v := 0) hX dX0_act_26 (by decide) ?_
      cases h
      exact gx_iret hX rfl dX0_act_27 rfl ⟨rfl, rfl⟩ (fun _ h => h)
    · refine gx_iload_n hX dX0_act_28 rfl ?_
      refine gx_if_ne (tgt := 44) hX dX0_act_29 (by decide) h (fun h => ?_) (fun h => ?_)
      · refine gx_aload hX dX0_act_32 rfl ?_
        obtain ⟨b14, hb, h⟩ := gx_bs h
        obtain ⟨eb, hkb⟩ := xk_isS hb
        obtain ⟨r13, hr13, h⟩ := gx_bs h
        refine gx_cV (As := []) (rest := []) (b := b14) hX (tX5_way w (gx_A X) (gx_l X) N (b14) (σ1)  hr13) (lw_V q643 q644 q645 q100 q646) ⟨rfl, dsX5_way⟩ (by decide) (Nat.le_of_ble_eq_true rfl) (xk_rc hX (ci := 5) (by decide) (by decide) hkb) (by rw [eb]; rfl) (gx_w8 gx_k0 (Nat.le_of_ble_eq_true rfl)) dX0_act_34 ⟨Nat.le_refl _, Nat.le_refl _⟩ rfl ?_
        refine gx_iload_n hX dX0_act_37 rfl ?_
        obtain ⟨b16, hb, h⟩ := gx_bs h
        obtain ⟨eb, -⟩ := xk_ioS hb
        obtain ⟨r15, hr15, h⟩ := gx_bs h
        have hk : gx_G X (xk_P (gx_A X) w (r15.1)) 0 0 [some (va_rf (some x0)), some (.int (x1)), some (.int (x2)), some (.int (x3)), some (va_rf (r2))] 41 [.int (r15.2)] := by
          refine gx_goto (tgt := 70) hX dX0_act_41 (by decide) ?_
          cases h
          exact gx_iret hX rfl dX0_act_70 rfl ⟨rfl, rfl⟩ (fun _ h => h)
        unfold fV_X6_fits at hr15
        by_cases c6 : xk_k (σ1) b16 = 7
        · rw [if_pos c6] at hr15
          exact gx_cV (As := [.int (x3)]) (rest := []) (b := b16) hX (tX6_fits w (gx_A X) (gx_l X) (b16) (σ1) (x3) hr15) (lw_V q1216 q1217 q1218 q101 q1237) ⟨rfl, dsX6_fits⟩ (by decide) (Nat.le_of_ble_eq_true rfl) (xk_rc hX (ci := 6) (by decide) (by decide) c6) (by rw [eb]; rfl) (gx_w8 gx_k0 (Nat.le_of_ble_eq_true rfl)) dX0_act_38 ⟨Nat.le_refl _, Nat.le_refl _⟩ rfl hk
        rw [if_neg c6] at hr15
        by_cases c7 : xk_k (σ1) b16 = 8
        · rw [if_pos c7] at hr15
          exact gx_cU (As := [.int (x3)]) (rest := []) (b := b16) hX (tX7_fits w (gx_A X) (gx_l X) (b16) (σ1) (x3) hr15) (gx_gO (owner := "ShellBeach$Way") q1216 q1219 q1217 q1229 q1230 q102 q1231) q1237 ⟨by decide, by decide, dsX7_fits.2.2⟩ (by decide) (Nat.le_of_ble_eq_true rfl) (xk_rc hX (ci := 7) (by decide) (by decide) c7) (by rw [eb]; rfl) (gx_w8 gx_k0 (Nat.le_of_ble_eq_true rfl)) dX0_act_38 ⟨Nat.le_refl _, Nat.le_refl _⟩ rfl hk
        rw [if_neg c7] at hr15
        by_cases c8 : xk_k (σ1) b16 = 9
        · rw [if_pos c8] at hr15
          exact gx_cU (As := [.int (x3)]) (rest := []) (b := b16) hX (tX6_fits w (gx_A X) (gx_l X) (b16) (σ1) (x3) hr15) (gx_gO (owner := "ShellBeach$Way") q1216 q1219 q1217 q1220 q1217 q101 q1237) q1237 ⟨by decide, by decide, dsX6_fits.2.2⟩ (by decide) (Nat.le_of_ble_eq_true rfl) (xk_rc hX (ci := 8) (by decide) (by decide) c8) (by rw [eb]; rfl) (gx_w8 gx_k0 (Nat.le_of_ble_eq_true rfl)) dX0_act_38 ⟨Nat.le_refl _, Nat.le_refl _⟩ rfl hk
        rw [if_neg c8] at hr15
        by_cases c9 : xk_k (σ1) b16 = 10
        · rw [if_pos c9] at hr15
          exact gx_cU (As := [.int (x3)]) (rest := []) (b := b16) hX (tX7_fits w (gx_A X) (gx_l X) (b16) (σ1) (x3) hr15) (gx_gO (owner := "ShellBeach$Way") q1216 q1219 q1217 q1236 q1230 q102 q1231) q1237 ⟨by decide, by decide, dsX7_fits.2.2⟩ (by decide) (Nat.le_of_ble_eq_true rfl) (xk_rc hX (ci := 9) (by decide) (by decide) c9) (by rw [eb]; rfl) (gx_w8 gx_k0 (Nat.le_of_ble_eq_true rfl)) dX0_act_38 ⟨Nat.le_refl _, Nat.le_refl _⟩ rfl hk
        rw [if_neg c9] at hr15
        by_cases c10 : xk_k (σ1) b16 = 11
        · rw [if_pos c10] at hr15
          exact gx_cU (As := [.int (x3)]) (rest := []) (b := b16) hX (tX7_fits w (gx_A X) (gx_l X) (b16) (σ1) (x3) hr15) (gx_gO (owner := "ShellBeach$Way") q1216 q1219 q1217 q1235 q1230 q102 q1231) q1237 ⟨by decide, by decide, dsX7_fits.2.2⟩ (by decide) (Nat.le_of_ble_eq_true rfl) (xk_rc hX (ci := 10) (by decide) (by decide) c10) (by rw [eb]; rfl) (gx_w8 gx_k0 (Nat.le_of_ble_eq_true rfl)) dX0_act_38 ⟨Nat.le_refl _, Nat.le_refl _⟩ rfl hk
        rw [if_neg c10] at hr15
        by_cases c11 : xk_k (σ1) b16 = 12
        · rw [if_pos c11] at hr15
          exact gx_cU (As := [.int (x3)]) (rest := []) (b := b16) hX (tX7_fits w (gx_A X) (gx_l X) (b16) (σ1) (x3) hr15) (gx_gO (owner := "ShellBeach$Way") q1216 q1219 q1217 q1234 q1230 q102 q1231) q1237 ⟨by decide, by decide, dsX7_fits.2.2⟩ (by decide) (Nat.le_of_ble_eq_true rfl) (xk_rc hX (ci := 11) (by decide) (by decide) c11) (by rw [eb]; rfl) (gx_w8 gx_k0 (Nat.le_of_ble_eq_true rfl)) dX0_act_38 ⟨Nat.le_refl _, Nat.le_refl _⟩ rfl hk
        rw [if_neg c11] at hr15
        by_cases c12 : xk_k (σ1) b16 = 13
        · rw [if_pos c12] at hr15
          exact gx_cU (As := [.int (x3)]) (rest := []) (b := b16) hX (tX12_fits w (gx_A X) (gx_l X) (b16) (σ1) (x3) hr15) (gx_gO (owner := "ShellBeach$Way") q1216 q1219 q1217 q1221 q1222 q107 q1223) q1237 ⟨by decide, by decide, dsX12_fits.2.2⟩ (by decide) (Nat.le_of_ble_eq_true rfl) (xk_rc hX (ci := 12) (by decide) (by decide) c12) (by rw [eb]; rfl) (gx_w8 gx_k0 (Nat.le_of_ble_eq_true rfl)) dX0_act_38 ⟨Nat.le_refl _, Nat.le_refl _⟩ rfl hk
        rw [if_neg c12] at hr15
        cases hr15
      · refine gx_iload_n hX dX0_act_44 rfl ?_
        refine gx_iconst (v := 1) hX dX0_act_45 (by decide) ?_
        refine gx_icmp_ne (tgt := 61) hX dX0_act_46 (by decide) h (fun h => ?_) (fun h => ?_)
        · refine gx_aload hX dX0_act_49 rfl ?_
          obtain ⟨b10, hb, h⟩ := gx_bs h
          obtain ⟨eb, hkb⟩ := xk_isS hb
          obtain ⟨r9, hr9, h⟩ := gx_bs h
          refine gx_cV (As := []) (rest := []) (b := b10) hX (tX5_way w (gx_A X) (gx_l X) N (b10) (σ1)  hr9) (lw_V q643 q644 q645 q100 q646) ⟨rfl, dsX5_way⟩ (by decide) (Nat.le_of_ble_eq_true rfl) (xk_rc hX (ci := 5) (by decide) (by decide) hkb) (by rw [eb]; rfl) (gx_w8 gx_k0 (Nat.le_of_ble_eq_true rfl)) dX0_act_51 ⟨Nat.le_refl _, Nat.le_refl _⟩ rfl ?_
          refine gx_iload_n hX dX0_act_54 rfl ?_
          obtain ⟨b12, hb, h⟩ := gx_bs h
          obtain ⟨eb, -⟩ := xk_ioS hb
          obtain ⟨r11, hr11, h⟩ := gx_bs h
          have hk : gx_G X (xk_P (gx_A X) w (r11.1)) 0 0 [some (va_rf (some x0)), some (.int (x1)), some (.int (x2)), some (.int (x3)), some (va_rf (r2))] 58 [.int (r11.2)] := by
            refine gx_goto (tgt := 70) hX dX0_act_58 (by decide) ?_
            cases h
            exact gx_iret hX rfl dX0_act_70 rfl ⟨rfl, rfl⟩ (fun _ h => h)
          unfold fV_X6_asks at hr11
          by_cases c6 : xk_k (σ1) b12 = 7
          · rw [if_pos c6] at hr11
            exact gx_cV (As := [.int (x3)]) (rest := []) (b := b12) hX (tX6_asks w (gx_A X) (gx_l X) (b12) (σ1) (x3) hr11) (lw_V q1239 q1240 q1241 q101 q1263) ⟨rfl, dsX6_asks⟩ (by decide) (Nat.le_of_ble_eq_true rfl) (xk_rc hX (ci := 6) (by decide) (by decide) c6) (by rw [eb]; rfl) (gx_w8 gx_k0 (Nat.le_of_ble_eq_true rfl)) dX0_act_55 ⟨Nat.le_refl _, Nat.le_refl _⟩ rfl hk
          rw [if_neg c6] at hr11
          by_cases c7 : xk_k (σ1) b12 = 8
          · rw [if_pos c7] at hr11
            exact gx_cU (As := [.int (x3)]) (rest := []) (b := b12) hX (tX6_asks w (gx_A X) (gx_l X) (b12) (σ1) (x3) hr11) (gx_gO (owner := "ShellBeach$Way") q1239 q1242 q1240 q1245 q1240 q101 q1263) q1263 ⟨by decide, by decide, dsX6_asks.2.2⟩ (by decide) (Nat.le_of_ble_eq_true rfl) (xk_rc hX (ci := 7) (by decide) (by decide) c7) (by rw [eb]; rfl) (gx_w8 gx_k0 (Nat.le_of_ble_eq_true rfl)) dX0_act_55 ⟨Nat.le_refl _, Nat.le_refl _⟩ rfl hk
          rw [if_neg c7] at hr11
          by_cases c8 : xk_k (σ1) b12 = 9
          · rw [if_pos c8] at hr11
            exact gx_cU (As := [.int (x3)]) (rest := []) (b := b12) hX (tX6_asks w (gx_A X) (gx_l X) (b12) (σ1) (x3) hr11) (gx_gO (owner := "ShellBeach$Way") q1239 q1242 q1240 q1243 q1240 q101 q1263) q1263 ⟨by decide, by decide, dsX6_asks.2.2⟩ (by decide) (Nat.le_of_ble_eq_true rfl) (xk_rc hX (ci := 8) (by decide) (by decide) c8) (by rw [eb]; rfl) (gx_w8 gx_k0 (Nat.le_of_ble_eq_true rfl)) dX0_act_55 ⟨Nat.le_refl _, Nat.le_refl _⟩ rfl hk
          rw [if_neg c8] at hr11
          by_cases c9 : xk_k (σ1) b12 = 10
          · rw [if_pos c9] at hr11
            exact gx_cU (As := [.int (x3)]) (rest := []) (b := b12) hX (tX9_asks w (gx_A X) (gx_l X) (b12) (σ1) (x3) hr11) (gx_gO (owner := "ShellBeach$Way") q1239 q1242 q1240 q1262 q1252 q104 q1253) q1263 ⟨by decide, by decide, dsX9_asks.2.2⟩ (by decide) (Nat.le_of_ble_eq_true rfl) (xk_rc hX (ci := 9) (by decide) (by decide) c9) (by rw [eb]; rfl) (gx_w8 gx_k0 (Nat.le_of_ble_eq_true rfl)) dX0_act_55 ⟨Nat.le_refl _, Nat.le_refl _⟩ rfl hk
          rw [if_neg c9] at hr11
          by_cases c10 : xk_k (σ1) b12 = 11
          · rw [if_pos c10] at hr11
            exact gx_cU (As := [.int (x3)]) (rest := []) (b := b12) hX (tX10_asks w (gx_A X) (gx_l X) (b12) (σ1) (x3) hr11) (gx_gO (owner := "ShellBeach$Way") q1239 q1242 q1240 q1247 q1248 q105 q1249) q1263 ⟨by decide, by decide, dsX10_asks.2.2⟩ (by decide) (Nat.le_of_ble_eq_true rfl) (xk_rc hX (ci := 10) (by decide) (by decide) c10) (by rw [eb]; rfl) (gx_w8 gx_k0 (Nat.le_of_ble_eq_true rfl)) dX0_act_55 ⟨Nat.le_refl _, Nat.le_refl _⟩ rfl hk
          rw [if_neg c10] at hr11
          by_cases c11 : xk_k (σ1) b12 = 12
          · rw [if_pos c11] at hr11
            exact gx_cU (As := [.int (x3)]) (rest := []) (b := b12) hX (tX6_asks w (gx_A X) (gx_l X) (b12) (σ1) (x3) hr11) (gx_gO (owner := "ShellBeach$Way") q1239 q1242 q1240 q1246 q1240 q101 q1263) q1263 ⟨by decide, by decide, dsX6_asks.2.2⟩ (by decide) (Nat.le_of_ble_eq_true rfl) (xk_rc hX (ci := 11) (by decide) (by decide) c11) (by rw [eb]; rfl) (gx_w8 gx_k0 (Nat.le_of_ble_eq_true rfl)) dX0_act_55 ⟨Nat.le_refl _, Nat.le_refl _⟩ rfl hk
          rw [if_neg c11] at hr11
          by_cases c12 : xk_k (σ1) b12 = 13
          · rw [if_pos c12] at hr11
            exact gx_cU (As := [.int (x3)]) (rest := []) (b := b12) hX (tX6_asks w (gx_A X) (gx_l X) (b12) (σ1) (x3) hr11) (gx_gO (owner := "ShellBeach$Way") q1239 q1242 q1240 q1244 q1240 q101 q1263) q1263 ⟨by decide, by decide, dsX6_asks.2.2⟩ (by decide) (Nat.le_of_ble_eq_true rfl) (xk_rc hX (ci := 12) (by decide) (by decide) c12) (by rw [eb]; rfl) (gx_w8 gx_k0 (Nat.le_of_ble_eq_true rfl)) dX0_act_55 ⟨Nat.le_refl _, Nat.le_refl _⟩ rfl hk
          rw [if_neg c12] at hr11
          cases hr11
        · refine gx_aload hX dX0_act_61 rfl ?_
          obtain ⟨b6, hb, h⟩ := gx_bs h
          obtain ⟨eb, hkb⟩ := xk_isS hb
          obtain ⟨r5, hr5, h⟩ := gx_bs h
          refine gx_cV (As := []) (rest := []) (b := b6) hX (tX5_way w (gx_A X) (gx_l X) N (b6) (σ1)  hr5) (lw_V q643 q644 q645 q100 q646) ⟨rfl, dsX5_way⟩ (by decide) (Nat.le_of_ble_eq_true rfl) (xk_rc hX (ci := 5) (by decide) (by decide) hkb) (by rw [eb]; rfl) (gx_w8 gx_k0 (Nat.le_of_ble_eq_true rfl)) dX0_act_63 ⟨Nat.le_refl _, Nat.le_refl _⟩ rfl ?_
          refine gx_iload_n hX dX0_act_66 rfl ?_
          obtain ⟨b8, hb, h⟩ := gx_bs h
          obtain ⟨eb, -⟩ := xk_ioS hb
          obtain ⟨r7, hr7, h⟩ := gx_bs h
          have hk : gx_G X (xk_P (gx_A X) w (r7.1)) 0 0 [some (va_rf (some x0)), some (.int (x1)), some (.int (x2)), some (.int (x3)), some (va_rf (r2))] 70 [.int (r7.2)] := by
            cases h
            exact gx_iret hX rfl dX0_act_70 rfl ⟨rfl, rfl⟩ (fun _ h => h)
          unfold fV_X6_moves at hr7
          by_cases c6 : xk_k (σ1) b8 = 7
          · rw [if_pos c6] at hr7
            exact gx_cV (As := [.int (x3)]) (rest := []) (b := b8) hX (tX6_moves w (gx_A X) (gx_l X) (b8) (σ1) (x3) hr7) (lw_V q1265 q1266 q1267 q101 q1285) ⟨rfl, dsX6_moves⟩ (by decide) (Nat.le_of_ble_eq_true rfl) (xk_rc hX (ci := 6) (by decide) (by decide) c6) (by rw [eb]; rfl) (gx_w8 gx_k0 (Nat.le_of_ble_eq_true rfl)) dX0_act_67 ⟨Nat.le_refl _, Nat.le_refl _⟩ rfl hk
          rw [if_neg c6] at hr7
          by_cases c7 : xk_k (σ1) b8 = 8
          · rw [if_pos c7] at hr7
            exact gx_cU (As := [.int (x3)]) (rest := []) (b := b8) hX (tX6_moves w (gx_A X) (gx_l X) (b8) (σ1) (x3) hr7) (gx_gO (owner := "ShellBeach$Way") q1265 q1268 q1266 q1275 q1266 q101 q1285) q1285 ⟨by decide, by decide, dsX6_moves.2.2⟩ (by decide) (Nat.le_of_ble_eq_true rfl) (xk_rc hX (ci := 7) (by decide) (by decide) c7) (by rw [eb]; rfl) (gx_w8 gx_k0 (Nat.le_of_ble_eq_true rfl)) dX0_act_67 ⟨Nat.le_refl _, Nat.le_refl _⟩ rfl hk
          rw [if_neg c7] at hr7
          by_cases c8 : xk_k (σ1) b8 = 9
          · rw [if_pos c8] at hr7
            exact gx_cU (As := [.int (x3)]) (rest := []) (b := b8) hX (tX8_moves w (gx_A X) (gx_l X) (b8) (σ1) (x3) hr7) (gx_gO (owner := "ShellBeach$Way") q1265 q1268 q1266 q1269 q1270 q103 q1271) q1285 ⟨by decide, by decide, dsX8_moves.2.2⟩ (by decide) (Nat.le_of_ble_eq_true rfl) (xk_rc hX (ci := 8) (by decide) (by decide) c8) (by rw [eb]; rfl) (gx_w8 gx_k0 (Nat.le_of_ble_eq_true rfl)) dX0_act_67 ⟨Nat.le_refl _, Nat.le_refl _⟩ rfl hk
          rw [if_neg c8] at hr7
          by_cases c9 : xk_k (σ1) b8 = 10
          · rw [if_pos c9] at hr7
            exact gx_cU (As := [.int (x3)]) (rest := []) (b := b8) hX (tX6_moves w (gx_A X) (gx_l X) (b8) (σ1) (x3) hr7) (gx_gO (owner := "ShellBeach$Way") q1265 q1268 q1266 q1284 q1266 q101 q1285) q1285 ⟨by decide, by decide, dsX6_moves.2.2⟩ (by decide) (Nat.le_of_ble_eq_true rfl) (xk_rc hX (ci := 9) (by decide) (by decide) c9) (by rw [eb]; rfl) (gx_w8 gx_k0 (Nat.le_of_ble_eq_true rfl)) dX0_act_67 ⟨Nat.le_refl _, Nat.le_refl _⟩ rfl hk
          rw [if_neg c9] at hr7
          by_cases c10 : xk_k (σ1) b8 = 11
          · rw [if_pos c10] at hr7
            exact gx_cU (As := [.int (x3)]) (rest := []) (b := b8) hX (tX6_moves w (gx_A X) (gx_l X) (b8) (σ1) (x3) hr7) (gx_gO (owner := "ShellBeach$Way") q1265 q1268 q1266 q1283 q1266 q101 q1285) q1285 ⟨by decide, by decide, dsX6_moves.2.2⟩ (by decide) (Nat.le_of_ble_eq_true rfl) (xk_rc hX (ci := 10) (by decide) (by decide) c10) (by rw [eb]; rfl) (gx_w8 gx_k0 (Nat.le_of_ble_eq_true rfl)) dX0_act_67 ⟨Nat.le_refl _, Nat.le_refl _⟩ rfl hk
          rw [if_neg c10] at hr7
          by_cases c11 : xk_k (σ1) b8 = 12
          · rw [if_pos c11] at hr7
            exact gx_cU (As := [.int (x3)]) (rest := []) (b := b8) hX (tX11_moves w (gx_A X) (gx_l X) (b8) (σ1) (x3) hr7) (gx_gO (owner := "ShellBeach$Way") q1265 q1268 q1266 q1276 q1277 q106 q1278) q1285 ⟨by decide, by decide, dsX11_moves.2.2⟩ (by decide) (Nat.le_of_ble_eq_true rfl) (xk_rc hX (ci := 11) (by decide) (by decide) c11) (by rw [eb]; rfl) (gx_w8 gx_k0 (Nat.le_of_ble_eq_true rfl)) dX0_act_67 ⟨Nat.le_refl _, Nat.le_refl _⟩ rfl hk
          rw [if_neg c11] at hr7
          by_cases c12 : xk_k (σ1) b8 = 13
          · rw [if_pos c12] at hr7
            exact gx_cU (As := [.int (x3)]) (rest := []) (b := b8) hX (tX6_moves w (gx_A X) (gx_l X) (b8) (σ1) (x3) hr7) (gx_gO (owner := "ShellBeach$Way") q1265 q1268 q1266 q1274 q1266 q101 q1285) q1285 ⟨by decide, by decide, dsX6_moves.2.2⟩ (by decide) (Nat.le_of_ble_eq_true rfl) (xk_rc hX (ci := 12) (by decide) (by decide) c12) (by rw [eb]; rfl) (gx_w8 gx_k0 (Nat.le_of_ble_eq_true rfl)) dX0_act_67 ⟨Nat.le_refl _, Nat.le_refl _⟩ rfl hk
          rw [if_neg c12] at hr7
          cases hr7
abbrev iX0_trace : gx_M := (RX0, "trace", cX0_trace, 2, some .int)
theorem dsX0_trace : gx_ds yX0_trace 1 := by decide +kernel
def fX0_trace (x0 : Nat) (σ : xk_C) (x1 : Int32) : Option (Int32) := (xk_gr (σ) 2 (some x0)).bind fun v1 => (xk_al (σ) 0 (v1)).bind fun v2 => (fX0_in  (x1) (0) ((v2) - (1))).bind fun r3 => if r3 = 0 then some ((-1)) else (xk_gi (σ) 1 (some x0)).bind fun v4 => if (v4) ≤ x1 then some ((-1)) else (xk_gr (σ) 2 (some x0)).bind fun v5 => (xk_ld (σ) 0 (v5) (x1)).bind fun v6 => some (v6)
set_option maxHeartbeats 4000000 in
theorem tX0_trace (w : gw_W) (A : Nat → Prop) (l : Launch) (x0 : Nat) (σ : xk_C) (x1 : Int32) {r : Int32} (h : fX0_trace x0 σ x1 = some r) : gx_T (gw_I w A) A l yX0_trace iX0_trace 2 [va_rf (some x0), .int (x1)] (xk_P A w σ) 0 0 (xk_P A w σ) (.returned (some (.int r))) := by
  refine gx_T.of (gw_I.inv w A) (by decide) ⟨rfl, rfl⟩ (gx_kR (gx_kI gx_k0)) (Nat.le_of_ble_eq_true rfl) (fun X hl hAx hX => ?_)
  subst hl
  subst hAx
  show gx_G X (xk_P (gx_A X) w (σ)) 0 0 [some (va_rf (some x0)), some (.int (x1))] 0 []
  unfold fX0_trace at h
  refine gx_iload_n hX dX0_trace_0 rfl ?_
  refine gx_iconst (v := 0) hX dX0_trace_1 (by decide) ?_
  refine gx_aload_n hX dX0_trace_2 rfl ?_
  refine xk_getr hX 2 q212 (fun _ h => h) rfl dX0_trace_3 h (fun v1 h => ?_)
  refine xk_alen hX 0 (by decide) dX0_trace_6 h (fun v2 h => ?_)
  refine gx_iconst (v := 1) hX dX0_trace_7 (by decide) ?_
  refine gx_isub hX dX0_trace_8 ?_
  obtain ⟨r3, hr3, h⟩ := gx_bs h
  refine gx_cS (As := [.int (x1), .int (0), .int ((v2) - (1))]) (rest := []) hX (tX0_in w (gx_A X) (gx_l X) (xk_P (gx_A X) w (σ)) (x1) (0) ((v2) - (1)) hr3) (lw_S q311 q312 q86 q313) dsX0_in (by decide) (Nat.le_of_ble_eq_true rfl) rfl (gx_w8 gx_k0 (Nat.le_of_ble_eq_true rfl)) dX0_trace_9 ⟨Nat.le_refl _, Nat.le_refl _⟩ rfl ?_
  refine gx_if_eq (tgt := 32) hX dX0_trace_12 (by decide) h (fun h => ?_) (fun h => ?_)
  · refine gx_iconst (v := (-1)) hX dX0_trace_32 (by decide) ?_
    cases h
    exact gx_iret hX rfl dX0_trace_33 rfl ⟨rfl, rfl⟩ (fun _ h => h)
  · refine gx_iload_n hX dX0_trace_15 rfl ?_
    refine gx_aload_n hX dX0_trace_16 rfl ?_
    refine xk_geti hX 1 q211 (fun _ h => h) rfl dX0_trace_17 h (fun v4 h => ?_)
    refine gx_icmp_ge (tgt := 32) hX dX0_trace_20 (by decide) h (fun h => ?_) (fun h => ?_)
    · refine gx_iconst (v := (-1)) hX dX0_trace_32 (by decide) ?_
      cases h
      exact gx_iret hX rfl dX0_trace_33 rfl ⟨rfl, rfl⟩ (fun _ h => h)
    · refine gx_aload_n hX dX0_trace_23 rfl ?_
      refine xk_getr hX 2 q212 (fun _ h => h) rfl dX0_trace_24 h (fun v5 h => ?_)
      refine gx_iload_n hX dX0_trace_27 rfl ?_
      refine xk_iaload hX dX0_trace_28 h (fun v6 h => ?_)
      refine gx_goto (tgt := 33) hX dX0_trace_29 (by decide) ?_
      cases h
      exact gx_iret hX rfl dX0_trace_33 rfl ⟨rfl, rfl⟩ (fun _ h => h)
abbrev iX6_isUnder : gx_M := (RX6, "isUnder", cX6_isUnder, 2, some .boolean)
theorem dsX6_isUnder : gx_ds yX6_isUnder 1 := by decide +kernel
def fX6_isUnder (x0 : Nat) (σ : xk_C) (x1 : Int32) : Option (Int32) := if x1 = 0 then some (1) else some (0)
set_option maxHeartbeats 4000000 in
theorem tX6_isUnder (w : gw_W) (A : Nat → Prop) (l : Launch) (x0 : Nat) (σ : xk_C) (x1 : Int32) {r : Int32} (h : fX6_isUnder x0 σ x1 = some r) : gx_T (gw_I w A) A l yX6_isUnder iX6_isUnder 1 [va_rf (some x0), .int (x1)] (xk_P A w σ) 0 0 (xk_P A w σ) (.returned (some (.int r))) := by
  refine gx_T.of (gw_I.inv w A) (by decide) ⟨rfl, rfl⟩ (gx_kR (gx_kI gx_k0)) (Nat.le_of_ble_eq_true rfl) (fun X hl hAx hX => ?_)
  subst hl
  subst hAx
  show gx_G X (xk_P (gx_A X) w (σ)) 0 0 [some (va_rf (some x0)), some (.int (x1))] 0 []
  unfold fX6_isUnder at h
  refine gx_iload_n hX dX6_isUnder_0 rfl ?_
  refine gx_if_ne (tgt := 8) hX dX6_isUnder_1 (by decide) h (fun h => ?_) (fun h => ?_)
  · refine gx_iconst (v := 1) hX dX6_isUnder_4 (by decide) ?_
    refine gx_goto (tgt := 9) hX dX6_isUnder_5 (by decide) ?_
    cases h
    exact gx_zret hX rfl rfl dX6_isUnder_9 rfl ⟨rfl, rfl⟩ (fun _ h => h)
  · refine gx_iconst (v := 0) hX dX6_isUnder_8 (by decide) ?_
    cases h
    exact gx_zret hX rfl rfl dX6_isUnder_9 rfl ⟨rfl, rfl⟩ (fun _ h => h)
abbrev iX8_isUnder : gx_M := (RX8, "isUnder", cX8_isUnder, 2, some .boolean)
theorem dsX8_isUnder : gx_ds yX8_isUnder 1 := by decide +kernel
def fX8_isUnder_B13 (x0 : Nat) (σ : xk_C)    : Option (Int32) := some (1)
set_option maxHeartbeats 4000000 in
theorem tX8_isUnder_B13 {w : gw_W} {X : gx_X} {x0 : Nat} {σ : xk_C} {r : Int32} (hX : gx_O (gw_I w (gx_A X)) X iX8_isUnder 2 0 0 (xk_P (gx_A X) w σ) (.returned (some (.int r))))   (h : fX8_isUnder_B13 x0 σ = some r) : gx_G X (xk_P (gx_A X) w (σ)) 0 0 [none, none] 13 [] := by
  unfold fX8_isUnder_B13 at h
  refine gx_iconst (v := 1) hX dX8_isUnder_13 (by decide) ?_
  refine gx_goto (tgt := 18) hX dX8_isUnder_14 (by decide) ?_
  cases h
  exact gx_zret hX rfl rfl dX8_isUnder_18 rfl ⟨rfl, rfl⟩ (fun _ h => h)
def fX8_isUnder (x0 : Nat) (σ : xk_C) (x1 : Int32) : Option (Int32) := if x1 = 2 then fX8_isUnder_B13 x0 σ else (xk_io (σ) (some x0)).bind fun b2 => (fX6_isUnder (b2) (σ) (x1)).bind fun r1 => if r1 = 0 then some (0) else fX8_isUnder_B13 x0 σ
set_option maxHeartbeats 4000000 in
theorem tX8_isUnder (w : gw_W) (A : Nat → Prop) (l : Launch) (x0 : Nat) (σ : xk_C) (x1 : Int32) {r : Int32} (h : fX8_isUnder x0 σ x1 = some r) : gx_T (gw_I w A) A l yX8_isUnder iX8_isUnder 2 [va_rf (some x0), .int (x1)] (xk_P A w σ) 0 0 (xk_P A w σ) (.returned (some (.int r))) := by
  refine gx_T.of (gw_I.inv w A) (by decide) ⟨rfl, rfl⟩ (gx_kR (gx_kI gx_k0)) (Nat.le_of_ble_eq_true rfl) (fun X hl hAx hX => ?_)
  subst hl
  subst hAx
  show gx_G X (xk_P (gx_A X) w (σ)) 0 0 [some (va_rf (some x0)), some (.int (x1))] 0 []
  unfold fX8_isUnder at h
  refine gx_iload_n hX dX8_isUnder_0 rfl ?_
  refine gx_iconst (v := 2) hX dX8_isUnder_1 (by decide) ?_
  refine gx_icmp_eq (tgt := 13) hX dX8_isUnder_2 (by decide) h (fun h => ?_) (fun h => ?_)
  · refine gx_sub hX (lv' := [none, none]) ⟨Or.inl rfl, ⟨Or.inl rfl, trivial⟩⟩ ?_
    exact tX8_isUnder_B13 hX  h
  · refine gx_aload_n hX dX8_isUnder_5 rfl ?_
    refine gx_iload_n hX dX8_isUnder_6 rfl ?_
    obtain ⟨b2, hb, h⟩ := gx_bs h
    obtain ⟨eb, ci, hci, hc3, hkb⟩ := xk_ioS hb
    obtain ⟨r1, hr1, h⟩ := gx_bs h
    refine gx_cSU (As := [.int (x1)]) (rest := []) (b := b2) hX (hX.2.2.2.2.2.2.2.1.1.1 ci _ (xk_at ci hci)).2 (tX6_isUnder w (gx_A X) (gx_l X) (b2) (σ) (x1) hr1) (gx_gSU q1302 q1298 q493 q1296 q101 q1323) ⟨by decide, dsX6_isUnder.2.2⟩ (by decide) (Nat.le_of_ble_eq_true rfl) (xk_rc hX hci hc3 hkb) (by rw [eb]; rfl) (gx_w8 gx_k0 (Nat.le_of_ble_eq_true rfl)) dX8_isUnder_7 ⟨Nat.le_refl _, Nat.le_refl _⟩ rfl ?_
    refine gx_if_eq (tgt := 17) hX dX8_isUnder_10 (by decide) h (fun h => ?_) (fun h => ?_)
    · refine gx_iconst (v := 0) hX dX8_isUnder_17 (by decide) ?_
      cases h
      exact gx_zret hX rfl rfl dX8_isUnder_18 rfl ⟨rfl, rfl⟩ (fun _ h => h)
    · refine gx_sub hX (lv' := [none, none]) ⟨Or.inl rfl, ⟨Or.inl rfl, trivial⟩⟩ ?_
      exact tX8_isUnder_B13 hX  h
abbrev iX12_isUnder : gx_M := (RX12, "isUnder", cX12_isUnder, 2, some .boolean)
theorem dsX12_isUnder : gx_ds yX12_isUnder 1 := by decide +kernel
def fX12_isUnder_B14 (x0 : Nat) (σ : xk_C)    : Option (Int32) := some (1)
set_option maxHeartbeats 4000000 in
theorem tX12_isUnder_B14 {w : gw_W} {X : gx_X} {x0 : Nat} {σ : xk_C} {r : Int32} (hX : gx_O (gw_I w (gx_A X)) X iX12_isUnder 2 0 0 (xk_P (gx_A X) w σ) (.returned (some (.int r))))   (h : fX12_isUnder_B14 x0 σ = some r) : gx_G X (xk_P (gx_A X) w (σ)) 0 0 [none, none] 14 [] := by
  unfold fX12_isUnder_B14 at h
  refine gx_iconst (v := 1) hX dX12_isUnder_14 (by decide) ?_
  refine gx_goto (tgt := 19) hX dX12_isUnder_15 (by decide) ?_
  cases h
  exact gx_zret hX rfl rfl dX12_isUnder_19 rfl ⟨rfl, rfl⟩ (fun _ h => h)
def fX12_isUnder (x0 : Nat) (σ : xk_C) (x1 : Int32) : Option (Int32) := if x1 = nI 6 then fX12_isUnder_B14 x0 σ else (xk_io (σ) (some x0)).bind fun b2 => (fX6_isUnder (b2) (σ) (x1)).bind fun r1 => if r1 = 0 then some (0) else fX12_isUnder_B14 x0 σ
set_option maxHeartbeats 4000000 in
theorem tX12_isUnder (w : gw_W) (A : Nat → Prop) (l : Launch) (x0 : Nat) (σ : xk_C) (x1 : Int32) {r : Int32} (h : fX12_isUnder x0 σ x1 = some r) : gx_T (gw_I w A) A l yX12_isUnder iX12_isUnder 2 [va_rf (some x0), .int (x1)] (xk_P A w σ) 0 0 (xk_P A w σ) (.returned (some (.int r))) := by
  refine gx_T.of (gw_I.inv w A) (by decide) ⟨rfl, rfl⟩ (gx_kR (gx_kI gx_k0)) (Nat.le_of_ble_eq_true rfl) (fun X hl hAx hX => ?_)
  subst hl
  subst hAx
  show gx_G X (xk_P (gx_A X) w (σ)) 0 0 [some (va_rf (some x0)), some (.int (x1))] 0 []
  unfold fX12_isUnder at h
  refine gx_iload_n hX dX12_isUnder_0 rfl ?_
  refine gx_bipush (v := nI 6) hX dX12_isUnder_1 (by decide) ?_
  refine gx_icmp_eq (tgt := 14) hX dX12_isUnder_3 (by decide) h (fun h => ?_) (fun h => ?_)
  · refine gx_sub hX (lv' := [none, none]) ⟨Or.inl rfl, ⟨Or.inl rfl, trivial⟩⟩ ?_
    exact tX12_isUnder_B14 hX  h
  · refine gx_aload_n hX dX12_isUnder_6 rfl ?_
    refine gx_iload_n hX dX12_isUnder_7 rfl ?_
    obtain ⟨b2, hb, h⟩ := gx_bs h
    obtain ⟨eb, ci, hci, hc3, hkb⟩ := xk_ioS hb
    obtain ⟨r1, hr1, h⟩ := gx_bs h
    refine gx_cSU (As := [.int (x1)]) (rest := []) (b := b2) hX (hX.2.2.2.2.2.2.2.1.1.1 ci _ (xk_at ci hci)).2 (tX6_isUnder w (gx_A X) (gx_l X) (b2) (σ) (x1) hr1) (gx_gSU q1306 q1298 q545 q1296 q101 q1323) ⟨by decide, dsX6_isUnder.2.2⟩ (by decide) (Nat.le_of_ble_eq_true rfl) (xk_rc hX hci hc3 hkb) (by rw [eb]; rfl) (gx_w8 gx_k0 (Nat.le_of_ble_eq_true rfl)) dX12_isUnder_8 ⟨Nat.le_refl _, Nat.le_refl _⟩ rfl ?_
    refine gx_if_eq (tgt := 18) hX dX12_isUnder_11 (by decide) h (fun h => ?_) (fun h => ?_)
    · refine gx_iconst (v := 0) hX dX12_isUnder_18 (by decide) ?_
      cases h
      exact gx_zret hX rfl rfl dX12_isUnder_19 rfl ⟨rfl, rfl⟩ (fun _ h => h)
    · refine gx_sub hX (lv' := [none, none]) ⟨Or.inl rfl, ⟨Or.inl rfl, trivial⟩⟩ ?_
      exact tX12_isUnder_B14 hX  h
abbrev iX7_isUnder : gx_M := (RX7, "isUnder", cX7_isUnder, 2, some .boolean)
theorem dsX7_isUnder : gx_ds yX7_isUnder 1 := by decide +kernel
def fX7_isUnder_B13 (x0 : Nat) (σ : xk_C)    : Option (Int32) := some (1)
set_option maxHeartbeats 4000000 in
theorem tX7_isUnder_B13 {w : gw_W} {X : gx_X} {x0 : Nat} {σ : xk_C} {r : Int32} (hX : gx_O (gw_I w (gx_A X)) X iX7_isUnder 2 0 0 (xk_P (gx_A X) w σ) (.returned (some (.int r))))   (h : fX7_isUnder_B13 x0 σ = some r) : gx_G X (xk_P (gx_A X) w (σ)) 0 0 [none, none] 13 [] := by
  unfold fX7_isUnder_B13 at h
  refine gx_iconst (v := 1) hX dX7_isUnder_13 (by decide) ?_
  refine gx_goto (tgt := 18) hX dX7_isUnder_14 (by decide) ?_
  cases h
  exact gx_zret hX rfl rfl dX7_isUnder_18 rfl ⟨rfl, rfl⟩ (fun _ h => h)
def fX7_isUnder (x0 : Nat) (σ : xk_C) (x1 : Int32) : Option (Int32) := if x1 = 1 then fX7_isUnder_B13 x0 σ else (xk_io (σ) (some x0)).bind fun b2 => (fX6_isUnder (b2) (σ) (x1)).bind fun r1 => if r1 = 0 then some (0) else fX7_isUnder_B13 x0 σ
set_option maxHeartbeats 4000000 in
theorem tX7_isUnder (w : gw_W) (A : Nat → Prop) (l : Launch) (x0 : Nat) (σ : xk_C) (x1 : Int32) {r : Int32} (h : fX7_isUnder x0 σ x1 = some r) : gx_T (gw_I w A) A l yX7_isUnder iX7_isUnder 2 [va_rf (some x0), .int (x1)] (xk_P A w σ) 0 0 (xk_P A w σ) (.returned (some (.int r))) := by
  refine gx_T.of (gw_I.inv w A) (by decide) ⟨rfl, rfl⟩ (gx_kR (gx_kI gx_k0)) (Nat.le_of_ble_eq_true rfl) (fun X hl hAx hX => ?_)
  subst hl
  subst hAx
  show gx_G X (xk_P (gx_A X) w (σ)) 0 0 [some (va_rf (some x0)), some (.int (x1))] 0 []
  unfold fX7_isUnder at h
  refine gx_iload_n hX dX7_isUnder_0 rfl ?_
  refine gx_iconst (v := 1) hX dX7_isUnder_1 (by decide) ?_
  refine gx_icmp_eq (tgt := 13) hX dX7_isUnder_2 (by decide) h (fun h => ?_) (fun h => ?_)
  · refine gx_sub hX (lv' := [none, none]) ⟨Or.inl rfl, ⟨Or.inl rfl, trivial⟩⟩ ?_
    exact tX7_isUnder_B13 hX  h
  · refine gx_aload_n hX dX7_isUnder_5 rfl ?_
    refine gx_iload_n hX dX7_isUnder_6 rfl ?_
    obtain ⟨b2, hb, h⟩ := gx_bs h
    obtain ⟨eb, ci, hci, hc3, hkb⟩ := xk_ioS hb
    obtain ⟨r1, hr1, h⟩ := gx_bs h
    refine gx_cSU (As := [.int (x1)]) (rest := []) (b := b2) hX (hX.2.2.2.2.2.2.2.1.1.1 ci _ (xk_at ci hci)).2 (tX6_isUnder w (gx_A X) (gx_l X) (b2) (σ) (x1) hr1) (gx_gSU q1310 q1298 q481 q1296 q101 q1323) ⟨by decide, dsX6_isUnder.2.2⟩ (by decide) (Nat.le_of_ble_eq_true rfl) (xk_rc hX hci hc3 hkb) (by rw [eb]; rfl) (gx_w8 gx_k0 (Nat.le_of_ble_eq_true rfl)) dX7_isUnder_7 ⟨Nat.le_refl _, Nat.le_refl _⟩ rfl ?_
    refine gx_if_eq (tgt := 17) hX dX7_isUnder_10 (by decide) h (fun h => ?_) (fun h => ?_)
    · refine gx_iconst (v := 0) hX dX7_isUnder_17 (by decide) ?_
      cases h
      exact gx_zret hX rfl rfl dX7_isUnder_18 rfl ⟨rfl, rfl⟩ (fun _ h => h)
    · refine gx_sub hX (lv' := [none, none]) ⟨Or.inl rfl, ⟨Or.inl rfl, trivial⟩⟩ ?_
      exact tX7_isUnder_B13 hX  h
abbrev iX11_isUnder : gx_M := (RX11, "isUnder", cX11_isUnder, 2, some .boolean)
theorem dsX11_isUnder : gx_ds yX11_isUnder 1 := by decide +kernel
def fX11_isUnder_B13 (x0 : Nat) (σ : xk_C)    : Option (Int32) := some (1)
set_option maxHeartbeats 4000000 in
theorem tX11_isUnder_B13 {w : gw_W} {X : gx_X} {x0 : Nat} {σ : xk_C} {r : Int32} (hX : gx_O (gw_I w (gx_A X)) X iX11_isUnder 3 0 0 (xk_P (gx_A X) w σ) (.returned (some (.int r))))   (h : fX11_isUnder_B13 x0 σ = some r) : gx_G X (xk_P (gx_A X) w (σ)) 0 0 [none, none] 13 [] := by
  unfold fX11_isUnder_B13 at h
  refine gx_iconst (v := 1) hX dX11_isUnder_13 (by decide) ?_
  refine gx_goto (tgt := 18) hX dX11_isUnder_14 (by decide) ?_
  cases h
  exact gx_zret hX rfl rfl dX11_isUnder_18 rfl ⟨rfl, rfl⟩ (fun _ h => h)
def fX11_isUnder (x0 : Nat) (σ : xk_C) (x1 : Int32) : Option (Int32) := if x1 = 5 then fX11_isUnder_B13 x0 σ else (xk_io (σ) (some x0)).bind fun b2 => (fX7_isUnder (b2) (σ) (x1)).bind fun r1 => if r1 = 0 then some (0) else fX11_isUnder_B13 x0 σ
set_option maxHeartbeats 4000000 in
theorem tX11_isUnder (w : gw_W) (A : Nat → Prop) (l : Launch) (x0 : Nat) (σ : xk_C) (x1 : Int32) {r : Int32} (h : fX11_isUnder x0 σ x1 = some r) : gx_T (gw_I w A) A l yX11_isUnder iX11_isUnder 3 [va_rf (some x0), .int (x1)] (xk_P A w σ) 0 0 (xk_P A w σ) (.returned (some (.int r))) := by
  refine gx_T.of (gw_I.inv w A) (by decide) ⟨rfl, rfl⟩ (gx_kR (gx_kI gx_k0)) (Nat.le_of_ble_eq_true rfl) (fun X hl hAx hX => ?_)
  subst hl
  subst hAx
  show gx_G X (xk_P (gx_A X) w (σ)) 0 0 [some (va_rf (some x0)), some (.int (x1))] 0 []
  unfold fX11_isUnder at h
  refine gx_iload_n hX dX11_isUnder_0 rfl ?_
  refine gx_iconst (v := 5) hX dX11_isUnder_1 (by decide) ?_
  refine gx_icmp_eq (tgt := 13) hX dX11_isUnder_2 (by decide) h (fun h => ?_) (fun h => ?_)
  · refine gx_sub hX (lv' := [none, none]) ⟨Or.inl rfl, ⟨Or.inl rfl, trivial⟩⟩ ?_
    exact tX11_isUnder_B13 hX  h
  · refine gx_aload_n hX dX11_isUnder_5 rfl ?_
    refine gx_iload_n hX dX11_isUnder_6 rfl ?_
    obtain ⟨b2, hb, h⟩ := gx_bs h
    obtain ⟨eb, ci, hci, hc3, hkb⟩ := xk_ioS hb
    obtain ⟨r1, hr1, h⟩ := gx_bs h
    refine gx_cSU (As := [.int (x1)]) (rest := []) (b := b2) hX (hX.2.2.2.2.2.2.2.1.1.1 ci _ (xk_at ci hci)).2 (tX7_isUnder w (gx_A X) (gx_l X) (b2) (σ) (x1) hr1) (gx_gSU q1314 q1870 q533 q1308 q102 q1309) ⟨by decide, dsX7_isUnder.2.2⟩ (by decide) (Nat.le_of_ble_eq_true rfl) (xk_rc hX hci hc3 hkb) (by rw [eb]; rfl) (gx_w8 gx_k0 (Nat.le_of_ble_eq_true rfl)) dX11_isUnder_7 ⟨Nat.le_refl _, Nat.le_refl _⟩ rfl ?_
    refine gx_if_eq (tgt := 17) hX dX11_isUnder_10 (by decide) h (fun h => ?_) (fun h => ?_)
    · refine gx_iconst (v := 0) hX dX11_isUnder_17 (by decide) ?_
      cases h
      exact gx_zret hX rfl rfl dX11_isUnder_18 rfl ⟨rfl, rfl⟩ (fun _ h => h)
    · refine gx_sub hX (lv' := [none, none]) ⟨Or.inl rfl, ⟨Or.inl rfl, trivial⟩⟩ ?_
      exact tX11_isUnder_B13 hX  h
abbrev iX9_isUnder : gx_M := (RX9, "isUnder", cX9_isUnder, 2, some .boolean)
theorem dsX9_isUnder : gx_ds yX9_isUnder 1 := by decide +kernel
def fX9_isUnder_B13 (x0 : Nat) (σ : xk_C)    : Option (Int32) := some (1)
set_option maxHeartbeats 4000000 in
theorem tX9_isUnder_B13 {w : gw_W} {X : gx_X} {x0 : Nat} {σ : xk_C} {r : Int32} (hX : gx_O (gw_I w (gx_A X)) X iX9_isUnder 3 0 0 (xk_P (gx_A X) w σ) (.returned (some (.int r))))   (h : fX9_isUnder_B13 x0 σ = some r) : gx_G X (xk_P (gx_A X) w (σ)) 0 0 [none, none] 13 [] := by
  unfold fX9_isUnder_B13 at h
  refine gx_iconst (v := 1) hX dX9_isUnder_13 (by decide) ?_
  refine gx_goto (tgt := 18) hX dX9_isUnder_14 (by decide) ?_
  cases h
  exact gx_zret hX rfl rfl dX9_isUnder_18 rfl ⟨rfl, rfl⟩ (fun _ h => h)
def fX9_isUnder (x0 : Nat) (σ : xk_C) (x1 : Int32) : Option (Int32) := if x1 = 3 then fX9_isUnder_B13 x0 σ else (xk_io (σ) (some x0)).bind fun b2 => (fX7_isUnder (b2) (σ) (x1)).bind fun r1 => if r1 = 0 then some (0) else fX9_isUnder_B13 x0 σ
set_option maxHeartbeats 4000000 in
theorem tX9_isUnder (w : gw_W) (A : Nat → Prop) (l : Launch) (x0 : Nat) (σ : xk_C) (x1 : Int32) {r : Int32} (h : fX9_isUnder x0 σ x1 = some r) : gx_T (gw_I w A) A l yX9_isUnder iX9_isUnder 3 [va_rf (some x0), .int (x1)] (xk_P A w σ) 0 0 (xk_P A w σ) (.returned (some (.int r))) := by
  refine gx_T.of (gw_I.inv w A) (by decide) ⟨rfl, rfl⟩ (gx_kR (gx_kI gx_k0)) (Nat.le_of_ble_eq_true rfl) (fun X hl hAx hX => ?_)
  subst hl
  subst hAx
  show gx_G X (xk_P (gx_A X) w (σ)) 0 0 [some (va_rf (some x0)), some (.int (x1))] 0 []
  unfold fX9_isUnder at h
  refine gx_iload_n hX dX9_isUnder_0 rfl ?_
  refine gx_iconst (v := 3) hX dX9_isUnder_1 (by decide) ?_
  refine gx_icmp_eq (tgt := 13) hX dX9_isUnder_2 (by decide) h (fun h => ?_) (fun h => ?_)
  · refine gx_sub hX (lv' := [none, none]) ⟨Or.inl rfl, ⟨Or.inl rfl, trivial⟩⟩ ?_
    exact tX9_isUnder_B13 hX  h
  · refine gx_aload_n hX dX9_isUnder_5 rfl ?_
    refine gx_iload_n hX dX9_isUnder_6 rfl ?_
    obtain ⟨b2, hb, h⟩ := gx_bs h
    obtain ⟨eb, ci, hci, hc3, hkb⟩ := xk_ioS hb
    obtain ⟨r1, hr1, h⟩ := gx_bs h
    refine gx_cSU (As := [.int (x1)]) (rest := []) (b := b2) hX (hX.2.2.2.2.2.2.2.1.1.1 ci _ (xk_at ci hci)).2 (tX7_isUnder w (gx_A X) (gx_l X) (b2) (σ) (x1) hr1) (gx_gSU q1321 q1870 q506 q1308 q102 q1309) ⟨by decide, dsX7_isUnder.2.2⟩ (by decide) (Nat.le_of_ble_eq_true rfl) (xk_rc hX hci hc3 hkb) (by rw [eb]; rfl) (gx_w8 gx_k0 (Nat.le_of_ble_eq_true rfl)) dX9_isUnder_7 ⟨Nat.le_refl _, Nat.le_refl _⟩ rfl ?_
    refine gx_if_eq (tgt := 17) hX dX9_isUnder_10 (by decide) h (fun h => ?_) (fun h => ?_)
    · refine gx_iconst (v := 0) hX dX9_isUnder_17 (by decide) ?_
      cases h
      exact gx_zret hX rfl rfl dX9_isUnder_18 rfl ⟨rfl, rfl⟩ (fun _ h => h)
    · refine gx_sub hX (lv' := [none, none]) ⟨Or.inl rfl, ⟨Or.inl rfl, trivial⟩⟩ ?_
      exact tX9_isUnder_B13 hX  h
abbrev iX10_isUnder : gx_M := (RX10, "isUnder", cX10_isUnder, 2, some .boolean)
theorem dsX10_isUnder : gx_ds yX10_isUnder 1 := by decide +kernel
def fX10_isUnder_B13 (x0 : Nat) (σ : xk_C)    : Option (Int32) := some (1)
set_option maxHeartbeats 4000000 in
theorem tX10_isUnder_B13 {w : gw_W} {X : gx_X} {x0 : Nat} {σ : xk_C} {r : Int32} (hX : gx_O (gw_I w (gx_A X)) X iX10_isUnder 4 0 0 (xk_P (gx_A X) w σ) (.returned (some (.int r))))   (h : fX10_isUnder_B13 x0 σ = some r) : gx_G X (xk_P (gx_A X) w (σ)) 0 0 [none, none] 13 [] := by
  unfold fX10_isUnder_B13 at h
  refine gx_iconst (v := 1) hX dX10_isUnder_13 (by decide) ?_
  refine gx_goto (tgt := 18) hX dX10_isUnder_14 (by decide) ?_
  cases h
  exact gx_zret hX rfl rfl dX10_isUnder_18 rfl ⟨rfl, rfl⟩ (fun _ h => h)
def fX10_isUnder (x0 : Nat) (σ : xk_C) (x1 : Int32) : Option (Int32) := if x1 = 4 then fX10_isUnder_B13 x0 σ else (xk_io (σ) (some x0)).bind fun b2 => (fX9_isUnder (b2) (σ) (x1)).bind fun r1 => if r1 = 0 then some (0) else fX10_isUnder_B13 x0 σ
set_option maxHeartbeats 4000000 in
theorem tX10_isUnder (w : gw_W) (A : Nat → Prop) (l : Launch) (x0 : Nat) (σ : xk_C) (x1 : Int32) {r : Int32} (h : fX10_isUnder x0 σ x1 = some r) : gx_T (gw_I w A) A l yX10_isUnder iX10_isUnder 4 [va_rf (some x0), .int (x1)] (xk_P A w σ) 0 0 (xk_P A w σ) (.returned (some (.int r))) := by
  refine gx_T.of (gw_I.inv w A) (by decide) ⟨rfl, rfl⟩ (gx_kR (gx_kI gx_k0)) (Nat.le_of_ble_eq_true rfl) (fun X hl hAx hX => ?_)
  subst hl
  subst hAx
  show gx_G X (xk_P (gx_A X) w (σ)) 0 0 [some (va_rf (some x0)), some (.int (x1))] 0 []
  unfold fX10_isUnder at h
  refine gx_iload_n hX dX10_isUnder_0 rfl ?_
  refine gx_iconst (v := 4) hX dX10_isUnder_1 (by decide) ?_
  refine gx_icmp_eq (tgt := 13) hX dX10_isUnder_2 (by decide) h (fun h => ?_) (fun h => ?_)
  · refine gx_sub hX (lv' := [none, none]) ⟨Or.inl rfl, ⟨Or.inl rfl, trivial⟩⟩ ?_
    exact tX10_isUnder_B13 hX  h
  · refine gx_aload_n hX dX10_isUnder_5 rfl ?_
    refine gx_iload_n hX dX10_isUnder_6 rfl ?_
    obtain ⟨b2, hb, h⟩ := gx_bs h
    obtain ⟨eb, ci, hci, hc3, hkb⟩ := xk_ioS hb
    obtain ⟨r1, hr1, h⟩ := gx_bs h
    refine gx_cSU (As := [.int (x1)]) (rest := []) (b := b2) hX (hX.2.2.2.2.2.2.2.1.1.1 ci _ (xk_at ci hci)).2 (tX9_isUnder w (gx_A X) (gx_l X) (b2) (σ) (x1) hr1) (gx_gSU q1318 q1871 q520 q1319 q104 q1320) ⟨by decide, dsX9_isUnder.2.2⟩ (by decide) (Nat.le_of_ble_eq_true rfl) (xk_rc hX hci hc3 hkb) (by rw [eb]; rfl) (gx_w8 gx_k0 (Nat.le_of_ble_eq_true rfl)) dX10_isUnder_7 ⟨Nat.le_refl _, Nat.le_refl _⟩ rfl ?_
    refine gx_if_eq (tgt := 17) hX dX10_isUnder_10 (by decide) h (fun h => ?_) (fun h => ?_)
    · refine gx_iconst (v := 0) hX dX10_isUnder_17 (by decide) ?_
      cases h
      exact gx_zret hX rfl rfl dX10_isUnder_18 rfl ⟨rfl, rfl⟩ (fun _ h => h)
    · refine gx_sub hX (lv' := [none, none]) ⟨Or.inl rfl, ⟨Or.inl rfl, trivial⟩⟩ ?_
      exact tX10_isUnder_B13 hX  h
abbrev iX0_as : gx_M := (RX0, "as", cX0_as, 4, some .int)
theorem dsX0_as : gx_ds yX0_as 2 := by decide +kernel
def fV_X6_isUnder (b : Nat) (σ : xk_C) (x1 : Int32) : Option (Int32) := if xk_k σ b = 7 then fX6_isUnder b σ x1 else if xk_k σ b = 8 then fX7_isUnder b σ x1 else if xk_k σ b = 9 then fX8_isUnder b σ x1 else if xk_k σ b = 10 then fX9_isUnder b σ x1 else if xk_k σ b = 11 then fX10_isUnder b σ x1 else if xk_k σ b = 12 then fX11_isUnder b σ x1 else if xk_k σ b = 13 then fX12_isUnder b σ x1 else none
def fX0_as (N : Nat) (x0 : Nat) (σ : xk_C) (x1 : Int32) (x2 : Int32) : Option (Int32) := (xk_is (σ) 1 (some x0)).bind fun b2 => (fX0_crabAt (b2) (σ) (x1)).bind fun r1 => if r1 = none then some ((-1)) else (fX0_in  (x2) (0) (nI 6)).bind fun r3 => if r3 = 0 then some ((-1)) else (xk_is (σ) 6 (r1)).bind fun b5 => (fX5_way N (b5) (σ)).bind fun r4 => (xk_io (σ) (r4)).bind fun b7 => (fV_X6_isUnder b7 (σ) (x2)).bind fun r6 => if r6 = 0 then some ((-6)) else (xk_gi (σ) 47 (r1)).bind fun v8 => some (v8)
set_option maxHeartbeats 4000000 in
theorem tX0_as (w : gw_W) (A : Nat → Prop) (l : Launch) (N : Nat) (x0 : Nat) (σ : xk_C) (x1 : Int32) (x2 : Int32) {r : Int32} (h : fX0_as N x0 σ x1 x2 = some r) : gx_T (gw_I w A) A l yX0_as iX0_as 7 [va_rf (some x0), .int (x1), .int (x2)] (xk_P A w σ) 0 0 (xk_P A w σ) (.returned (some (.int r))) := by
  refine gx_T.of (gw_I.inv w A) (by decide) ⟨rfl, rfl⟩ (gx_kR (gx_kI (gx_kI gx_k0))) (Nat.le_of_ble_eq_true rfl) (fun X hl hAx hX => ?_)
  subst hl
  subst hAx
  show gx_G X (xk_P (gx_A X) w (σ)) 0 0 [some (va_rf (some x0)), some (.int (x1)), some (.int (x2)), none] 0 []
  unfold fX0_as at h
  refine gx_aload_n hX dX0_as_0 rfl ?_
  refine gx_iload_n hX dX0_as_1 rfl ?_
  obtain ⟨b2, hb, h⟩ := gx_bs h
  obtain ⟨eb, hkb⟩ := xk_isS hb
  obtain ⟨r1, hr1, h⟩ := gx_bs h
  refine gx_cV (As := [.int (x1)]) (rest := []) (b := b2) hX (tX0_crabAt w (gx_A X) (gx_l X) (b2) (σ) (x1) hr1) (lw_V q622 q624 qs4 q86 q625) ⟨rfl, dsX0_crabAt⟩ (by decide) (Nat.le_of_ble_eq_true rfl) (xk_rc hX (ci := 0) (by decide) (by decide) hkb) (by rw [eb]; rfl) (gx_w8 gx_k0 (Nat.le_of_ble_eq_true rfl)) dX0_as_2 ⟨Nat.le_refl _, Nat.le_refl _⟩ rfl ?_
  refine gx_astore_n hX dX0_as_5 (Nat.le_of_ble_eq_true rfl) gx_c1i (lv' := [some (va_rf (some x0)), some (.int (x1)), some (.int (x2)), some (va_rf (r1))]) rfl ?_
  refine gx_aload_n hX dX0_as_6 rfl ?_
  refine gx_ifnull (tgt := 20) hX dX0_as_7 (by decide) h (fun h => ?_) (fun h => ?_)
  · refine gx_iconst (v := (-1)) hX dX0_as_20 (by decide) ?_
    cases h
    exact gx_iret hX rfl dX0_as_21 rfl ⟨rfl, rfl⟩ (fun _ h => h)
  · refine gx_iload_n hX dX0_as_10 rfl ?_
    refine gx_iconst (v := 0) hX dX0_as_11 (by decide) ?_
    refine gx_bipush (v := nI 6) hX dX0_as_12 (by decide) ?_
    obtain ⟨r3, hr3, h⟩ := gx_bs h
    refine gx_cS (As := [.int (x2), .int (0), .int (nI 6)]) (rest := []) hX (tX0_in w (gx_A X) (gx_l X) (xk_P (gx_A X) w (σ)) (x2) (0) (nI 6) hr3) (lw_S q311 q312 q86 q313) dsX0_in (by decide) (Nat.le_of_ble_eq_true rfl) rfl (gx_w8 gx_k0 (Nat.le_of_ble_eq_true rfl)) dX0_as_14 ⟨Nat.le_refl _, Nat.le_refl _⟩ rfl ?_
    refine gx_if_ne (tgt := 22) hX dX0_as_17 (by decide) h (fun h => ?_) (fun h => ?_)
    · refine gx_iconst (v := (-1)) hX dX0_as_20 (by decide) ?_
      cases h
      exact gx_iret hX rfl dX0_as_21 rfl ⟨rfl, rfl⟩ (fun _ h => h)
    · refine gx_aload_n hX dX0_as_22 rfl ?_
      obtain ⟨b5, hb, h⟩ := gx_bs h
      obtain ⟨eb, hkb⟩ := xk_isS hb
      obtain ⟨r4, hr4, h⟩ := gx_bs h
      refine gx_cV (As := []) (rest := []) (b := b5) hX (tX5_way w (gx_A X) (gx_l X) N (b5) (σ)  hr4) (lw_V q643 q644 q645 q100 q646) ⟨rfl, dsX5_way⟩ (by decide) (Nat.le_of_ble_eq_true rfl) (xk_rc hX (ci := 5) (by decide) (by decide) hkb) (by rw [eb]; rfl) (gx_w8 gx_k0 (Nat.le_of_ble_eq_true rfl)) dX0_as_23 ⟨Nat.le_refl _, Nat.le_refl _⟩ rfl ?_
      refine gx_iload_n hX dX0_as_26 rfl ?_
      obtain ⟨b7, hb, h⟩ := gx_bs h
      obtain ⟨eb, -⟩ := xk_ioS hb
      obtain ⟨r6, hr6, h⟩ := gx_bs h
      have hk : gx_G X (xk_P (gx_A X) w (σ)) 0 0 [some (va_rf (some x0)), some (.int (x1)), some (.int (x2)), some (va_rf (r1))] 30 [.int (r6)] := by
        refine gx_if_eq (tgt := 40) hX dX0_as_30 (by decide) h (fun h => ?_) (fun h => ?_)
        · refine gx_bipush (v := (-6)) hX dX0_as_40 (by decide) ?_
          cases h
          exact gx_iret hX rfl dX0_as_42 rfl ⟨rfl, rfl⟩ (fun _ h => h)
        · refine gx_aload_n hX dX0_as_33 rfl ?_
          refine xk_getiN hX 47 q557 rfl dX0_as_34 h (fun v8 h => ?_)
          refine gx_goto (tgt := 42) hX dX0_as_37 (by decide) ?_
          cases h
          exact gx_iret hX rfl dX0_as_42 rfl ⟨rfl, rfl⟩ (fun _ h => h)
      unfold fV_X6_isUnder at hr6
      by_cases c6 : xk_k (σ) b7 = 7
      · rw [if_pos c6] at hr6
        exact gx_cV (As := [.int (x2)]) (rest := []) (b := b7) hX (tX6_isUnder w (gx_A X) (gx_l X) (b7) (σ) (x2) hr6) (lw_V q1295 q1296 q1297 q101 q1323) ⟨rfl, dsX6_isUnder⟩ (by decide) (Nat.le_of_ble_eq_true rfl) (xk_rc hX (ci := 6) (by decide) (by decide) c6) (by rw [eb]; rfl) (gx_w8 gx_k0 (Nat.le_of_ble_eq_true rfl)) dX0_as_27 ⟨Nat.le_refl _, Nat.le_refl _⟩ rfl hk
      rw [if_neg c6] at hr6
      by_cases c7 : xk_k (σ) b7 = 8
      · rw [if_pos c7] at hr6
        exact gx_cU (As := [.int (x2)]) (rest := []) (b := b7) hX (tX7_isUnder w (gx_A X) (gx_l X) (b7) (σ) (x2) hr6) (gx_gO (owner := "ShellBeach$Way") q1295 q1298 q1296 q1307 q1308 q102 q1309) q1323 ⟨by decide, by decide, dsX7_isUnder.2.2⟩ (by decide) (Nat.le_of_ble_eq_true rfl) (xk_rc hX (ci := 7) (by decide) (by decide) c7) (by rw [eb]; rfl) (gx_w8 gx_k0 (Nat.le_of_ble_eq_true rfl)) dX0_as_27 ⟨Nat.le_refl _, Nat.le_refl _⟩ rfl hk
      rw [if_neg c7] at hr6
      by_cases c8 : xk_k (σ) b7 = 9
      · rw [if_pos c8] at hr6
        exact gx_cU (As := [.int (x2)]) (rest := []) (b := b7) hX (tX8_isUnder w (gx_A X) (gx_l X) (b7) (σ) (x2) hr6) (gx_gO (owner := "ShellBeach$Way") q1295 q1298 q1296 q1299 q1300 q103 q1301) q1323 ⟨by decide, by decide, dsX8_isUnder.2.2⟩ (by decide) (Nat.le_of_ble_eq_true rfl) (xk_rc hX (ci := 8) (by decide) (by decide) c8) (by rw [eb]; rfl) (gx_w8 gx_k0 (Nat.le_of_ble_eq_true rfl)) dX0_as_27 ⟨Nat.le_refl _, Nat.le_refl _⟩ rfl hk
      rw [if_neg c8] at hr6
      by_cases c9 : xk_k (σ) b7 = 10
      · rw [if_pos c9] at hr6
        exact gx_cU (As := [.int (x2)]) (rest := []) (b := b7) hX (tX9_isUnder w (gx_A X) (gx_l X) (b7) (σ) (x2) hr6) (gx_gO (owner := "ShellBeach$Way") q1295 q1298 q1296 q1322 q1319 q104 q1320) q1323 ⟨by decide, by decide, dsX9_isUnder.2.2⟩ (by decide) (Nat.le_of_ble_eq_true rfl) (xk_rc hX (ci := 9) (by decide) (by decide) c9) (by rw [eb]; rfl) (gx_w8 gx_k0 (Nat.le_of_ble_eq_true rfl)) dX0_as_27 ⟨Nat.le_refl _, Nat.le_refl _⟩ rfl hk
      rw [if_neg c9] at hr6
      by_cases c10 : xk_k (σ) b7 = 11
      · rw [if_pos c10] at hr6
        exact gx_cU (As := [.int (x2)]) (rest := []) (b := b7) hX (tX10_isUnder w (gx_A X) (gx_l X) (b7) (σ) (x2) hr6) (gx_gO (owner := "ShellBeach$Way") q1295 q1298 q1296 q1315 q1316 q105 q1317) q1323 ⟨by decide, by decide, dsX10_isUnder.2.2⟩ (by decide) (Nat.le_of_ble_eq_true rfl) (xk_rc hX (ci := 10) (by decide) (by decide) c10) (by rw [eb]; rfl) (gx_w8 gx_k0 (Nat.le_of_ble_eq_true rfl)) dX0_as_27 ⟨Nat.le_refl _, Nat.le_refl _⟩ rfl hk
      rw [if_neg c10] at hr6
      by_cases c11 : xk_k (σ) b7 = 12
      · rw [if_pos c11] at hr6
        exact gx_cU (As := [.int (x2)]) (rest := []) (b := b7) hX (tX11_isUnder w (gx_A X) (gx_l X) (b7) (σ) (x2) hr6) (gx_gO (owner := "ShellBeach$Way") q1295 q1298 q1296 q1311 q1312 q106 q1313) q1323 ⟨by decide, by decide, dsX11_isUnder.2.2⟩ (by decide) (Nat.le_of_ble_eq_true rfl) (xk_rc hX (ci := 11) (by decide) (by decide) c11) (by rw [eb]; rfl) (gx_w8 gx_k0 (Nat.le_of_ble_eq_true rfl)) dX0_as_27 ⟨Nat.le_refl _, Nat.le_refl _⟩ rfl hk
      rw [if_neg c11] at hr6
      by_cases c12 : xk_k (σ) b7 = 13
      · rw [if_pos c12] at hr6
        exact gx_cU (As := [.int (x2)]) (rest := []) (b := b7) hX (tX12_isUnder w (gx_A X) (gx_l X) (b7) (σ) (x2) hr6) (gx_gO (owner := "ShellBeach$Way") q1295 q1298 q1296 q1303 q1304 q107 q1305) q1323 ⟨by decide, by decide, dsX12_isUnder.2.2⟩ (by decide) (Nat.le_of_ble_eq_true rfl) (xk_rc hX (ci := 12) (by decide) (by decide) c12) (by rw [eb]; rfl) (gx_w8 gx_k0 (Nat.le_of_ble_eq_true rfl)) dX0_as_27 ⟨Nat.le_refl _, Nat.le_refl _⟩ rfl hk
      rw [if_neg c12] at hr6
      cases hr6
abbrev iX0_image : gx_M := (RX0, "image", cX0_image, 1, some .int)
theorem dsX0_image : gx_ds yX0_image 0 := by decide +kernel
def fX0_image (N : Nat) (x0 : Nat) (σ : xk_C)  : Option (xk_C × Int32) := (xk_nw (σ) 19).bind fun σ1 => (fX19_init N ((xk_n (σ))) (σ1) (some x0)).bind fun r2 => (xk_pr (r2.1) 26 (some x0) (some (xk_n (σ)))).bind fun σ3 => (xk_gi (σ3) 4 (some x0)).bind fun v4 => some (σ3, v4)
set_option maxHeartbeats 4000000 in
theorem mX0_image {N : Nat} {x0 : Nat} {σ : xk_C}  : ∀ p, fX0_image N x0 σ = some p → xk_n σ ≤ xk_n p.1 ∧ xk_s σ ≤ xk_s p.1 := fun r => show xk_lr r σ (fX0_image N x0 σ) from by
  unfold fX0_image
  exact (xk_lr_op xk_m_nw (fun _ => (xk_lr_ca (mX19_init) (fun _ => (xk_lr_op xk_m_pr (fun _ => (xk_lr_rd (fun _ => xk_lr_ret))))))))
set_option maxHeartbeats 4000000 in
theorem tX0_image (w : gw_W) (A : Nat → Prop) (l : Launch) (N : Nat) (x0 : Nat) (σ : xk_C)  {r : xk_C × Int32} (h : fX0_image N x0 σ = some r) : gx_T (gw_I w A) A l yX0_image iX0_image 6 [va_rf (some x0)] (xk_P A w σ) (xk_n r.1 - xk_n σ) (xk_s r.1 - xk_s σ) (xk_P A w r.1) (.returned (some (.int r.2))) := by
  refine gx_T.of (gw_I.inv w A) (by decide) ⟨rfl, rfl⟩ (gx_kR gx_k0) (Nat.le_of_ble_eq_true rfl) (fun X hl hAx hX => ?_)
  subst hl
  subst hAx
  show gx_G X (xk_P (gx_A X) w (σ)) 0 0 [some (va_rf (some x0))] 0 []
  have hu := mX0_image _ h
  unfold fX0_image at h
  refine xk_G0 (a := xk_n σ) (b := xk_s σ) ?_
  have hm : xk_n σ ≤ xk_n σ ∧ xk_s σ ≤ xk_s σ := ⟨Nat.le_refl _, Nat.le_refl _⟩
  refine gx_aload_n hX dX0_image_0 rfl ?_
  refine xk_new hX 19 ⟨by decide, by decide⟩ ⟨q1135, q1136, q120⟩ dX0_image_1 h (fun σ1 hτ h => ?_)
  have hu := xk_use (C := σ1) h (xk_lr_ca (mX19_init) (fun _ => (xk_lr_op xk_m_pr (fun _ => (xk_lr_rd (fun _ => xk_lr_ret))))))
  refine ⟨xk_hfm hm hτ hu, xk_Gm hm hτ ?_⟩
  have hm := xk_hmm hm hτ
  refine gx_dup hX dX0_image_4 (gx_cat _) ?_
  refine gx_aload_n hX dX0_image_5 rfl ?_
  obtain ⟨r2, hr2, h⟩ := gx_bs h
  have hl := (mX19_init) _ hr2
  have hu := xk_use (C := r2.1) h (xk_lr_op xk_m_pr (fun _ => (xk_lr_rd (fun _ => xk_lr_ret))))
  refine gx_cI (As := [va_rf (some x0)]) (rest := [va_rf (some (xk_n (σ))), va_rf (some x0)]) (b := (xk_n (σ))) (C2 := RX19) (nm2 := "<init>") hX (tX19_init w (gx_A X) (gx_l X) N ((xk_n (σ))) (σ1) (some x0) hr2) (lw_meth q1139) ⟨q120, q1137, q1138⟩ ⟨rfl, dsX19_init⟩ (by decide) (Nat.le_of_ble_eq_true rfl) rfl (gx_w8 (gx_kR (gx_kR gx_k0)) (Nat.le_of_ble_eq_true rfl)) dX0_image_6 (xk_hfc hm hl hu) rfl (xk_Gc hm hl ?_)
  have hm := xk_hmc hm hl
  refine xk_putr hX 26 xk_ty26 (Or.inl ⟨_, rfl⟩) q248 (fun _ h => h) rfl rfl dX0_image_9 h (fun σ3 hτ h => xk_Gt hτ ?_)
  have hm := xk_hme hm hτ
  have hu := xk_hue hu hτ
  refine gx_aload_n hX dX0_image_12 rfl ?_
  refine xk_geti hX 4 q217 (fun _ h => h) rfl dX0_image_13 h (fun v4 h => ?_)
  cases h
  exact gx_iret hX rfl dX0_image_16 rfl ⟨rfl, rfl⟩ (fun _ h => h)
abbrev iX0_undo : gx_M := (RX0, "undo", cX0_undo, 1, some .int)
theorem dsX0_undo : gx_ds yX0_undo 0 := by decide +kernel
def fX0_undo (N : Nat) (x0 : Nat) (σ : xk_C)  : Option (xk_C × Int32) := (xk_gr (σ) 26 (some x0)).bind fun v1 => if v1 = none then some (σ, (-3)) else (xk_gr (σ) 26 (some x0)).bind fun v2 => (xk_is (σ) 20 (v2)).bind fun b4 => (fX19_putBack N (b4) (σ)).bind fun r3 => (xk_gi (r3.1) 4 (some x0)).bind fun v5 => some (r3.1, v5)
set_option maxHeartbeats 4000000 in
theorem tX0_undo (w : gw_W) (A : Nat → Prop) (l : Launch) (N : Nat) (x0 : Nat) (σ : xk_C)  {r : xk_C × Int32} (h : fX0_undo N x0 σ = some r) : gx_T (gw_I w A) A l yX0_undo iX0_undo 7 [va_rf (some x0)] (xk_P A w σ) 0 0 (xk_P A w r.1) (.returned (some (.int r.2))) := by
  refine gx_T.of (gw_I.inv w A) (by decide) ⟨rfl, rfl⟩ (gx_kR gx_k0) (Nat.le_of_ble_eq_true rfl) (fun X hl hAx hX => ?_)
  subst hl
  subst hAx
  show gx_G X (xk_P (gx_A X) w (σ)) 0 0 [some (va_rf (some x0))] 0 []
  unfold fX0_undo at h
  refine gx_aload_n hX dX0_undo_0 rfl ?_
  refine xk_getr hX 26 q248 (fun _ h => h) rfl dX0_undo_1 h (fun v1 h => ?_)
  refine gx_ifnonnull (tgt := 10) hX dX0_undo_4 (by decide) h (fun h => ?_) (fun h => ?_)
  · refine gx_bipush (v := (-3)) hX dX0_undo_7 (by decide) ?_
    cases h
    exact gx_iret hX rfl dX0_undo_9 rfl ⟨rfl, rfl⟩ (fun _ h => h)
  · refine gx_aload_n hX dX0_undo_10 rfl ?_
    refine xk_getr hX 26 q248 (fun _ h => h) rfl dX0_undo_11 h (fun v2 h => ?_)
    obtain ⟨b4, hb, h⟩ := gx_bs h
    obtain ⟨eb, hkb⟩ := xk_isS hb
    obtain ⟨r3, hr3, h⟩ := gx_bs h
    refine gx_cV (As := []) (rest := []) (b := b4) hX (tX19_putBack w (gx_A X) (gx_l X) N (b4) (σ)  hr3) (lw_V q1190 q1191 q1192 q120 q1193) ⟨rfl, dsX19_putBack⟩ (by decide) (Nat.le_of_ble_eq_true rfl) (xk_rc hX (ci := 19) (by decide) (by decide) hkb) (by rw [eb]; rfl) (gx_w8 gx_k0 (Nat.le_of_ble_eq_true rfl)) dX0_undo_14 ⟨Nat.le_refl _, Nat.le_refl _⟩ rfl ?_
    refine gx_aload_n hX dX0_undo_17 rfl ?_
    refine xk_geti hX 4 q217 (fun _ h => h) rfl dX0_undo_18 h (fun v5 h => ?_)
    cases h
    exact gx_iret hX rfl dX0_undo_21 rfl ⟨rfl, rfl⟩ (fun _ h => h)
