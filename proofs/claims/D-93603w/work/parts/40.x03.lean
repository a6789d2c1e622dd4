set_option maxRecDepth 100000
abbrev iX7_kind : gx_M := (RX7, "kind", cX7_kind, 1, some .int)
theorem dsX7_kind : gx_ds yX7_kind 0 := by decide +kernel
def fX7_kind (x0 : Nat) (σ : xk_C)  : Option (Int32) := some (1)
set_option maxHeartbeats 4000000 in
theorem tX7_kind (w : gw_W) (A : Nat → Prop) (l : Launch) (x0 : Nat) (σ : xk_C)  {r : Int32} (h : fX7_kind x0 σ = some r) : gx_T (gw_I w A) A l yX7_kind iX7_kind 1 [va_rf (some x0)] (xk_P A w σ) 0 0 (xk_P A w σ) (.returned (some (.int r))) := by
  refine gx_T.of (gw_I.inv w A) (by decide) ⟨rfl, rfl⟩ (gx_kR gx_k0) (Nat.le_of_ble_eq_true rfl) (fun X hl hAx hX => ?_)
  subst hl
  subst hAx
  show gx_G X (xk_P (gx_A X) w (σ)) 0 0 [some (va_rf (some x0))] 0 []
  unfold fX7_kind at h
  refine gx_iconst (v := 1) hX dX7_kind_0 (by decide) ?_
  cases h
  exact gx_iret hX rfl dX7_kind_1 rfl ⟨rfl, rfl⟩ (fun _ h => h)
abbrev iX11_kind : gx_M := (RX11, "kind", cX11_kind, 1, some .int)
theorem dsX11_kind : gx_ds yX11_kind 0 := by decide +kernel
def fX11_kind (x0 : Nat) (σ : xk_C)  : Option (Int32) := some (5)
set_option maxHeartbeats 4000000 in
theorem tX11_kind (w : gw_W) (A : Nat → Prop) (l : Launch) (x0 : Nat) (σ : xk_C)  {r : Int32} (h : fX11_kind x0 σ = some r) : gx_T (gw_I w A) A l yX11_kind iX11_kind 1 [va_rf (some x0)] (xk_P A w σ) 0 0 (xk_P A w σ) (.returned (some (.int r))) := by
  refine gx_T.of (gw_I.inv w A) (by decide) ⟨rfl, rfl⟩ (gx_kR gx_k0) (Nat.le_of_ble_eq_true rfl) (fun X hl hAx hX => ?_)
  subst hl
  subst hAx
  show gx_G X (xk_P (gx_A X) w (σ)) 0 0 [some (va_rf (some x0))] 0 []
  unfold fX11_kind at h
  refine gx_iconst (v := 5) hX dX11_kind_0 (by decide) ?_
  cases h
  exact gx_iret hX rfl dX11_kind_1 rfl ⟨rfl, rfl⟩ (fun _ h => h)
abbrev iX10_kind : gx_M := (RX10, "kind", cX10_kind, 1, some .int)
theorem dsX10_kind : gx_ds yX10_kind 0 := by decide +kernel
def fX10_kind (x0 : Nat) (σ : xk_C)  : Option (Int32) := some (4)
set_option maxHeartbeats 4000000 in
theorem tX10_kind (w : gw_W) (A : Nat → Prop) (l : Launch) (x0 : Nat) (σ : xk_C)  {r : Int32} (h : fX10_kind x0 σ = some r) : gx_T (gw_I w A) A l yX10_kind iX10_kind 1 [va_rf (some x0)] (xk_P A w σ) 0 0 (xk_P A w σ) (.returned (some (.int r))) := by
  refine gx_T.of (gw_I.inv w A) (by decide) ⟨rfl, rfl⟩ (gx_kR gx_k0) (Nat.le_of_ble_eq_true rfl) (fun X hl hAx hX => ?_)
  subst hl
  subst hAx
  show gx_G X (xk_P (gx_A X) w (σ)) 0 0 [some (va_rf (some x0))] 0 []
  unfold fX10_kind at h
  refine gx_iconst (v := 4) hX dX10_kind_0 (by decide) ?_
  cases h
  exact gx_iret hX rfl dX10_kind_1 rfl ⟨rfl, rfl⟩ (fun _ h => h)
abbrev iX9_kind : gx_M := (RX9, "kind", cX9_kind, 1, some .int)
theorem dsX9_kind : gx_ds yX9_kind 0 := by decide +kernel
def fX9_kind (x0 : Nat) (σ : xk_C)  : Option (Int32) := some (3)
set_option maxHeartbeats 4000000 in
theorem tX9_kind (w : gw_W) (A : Nat → Prop) (l : Launch) (x0 : Nat) (σ : xk_C)  {r : Int32} (h : fX9_kind x0 σ = some r) : gx_T (gw_I w A) A l yX9_kind iX9_kind 1 [va_rf (some x0)] (xk_P A w σ) 0 0 (xk_P A w σ) (.returned (some (.int r))) := by
  refine gx_T.of (gw_I.inv w A) (by decide) ⟨rfl, rfl⟩ (gx_kR gx_k0) (Nat.le_of_ble_eq_true rfl) (fun X hl hAx hX => ?_)
  subst hl
  subst hAx
  show gx_G X (xk_P (gx_A X) w (σ)) 0 0 [some (va_rf (some x0))] 0 []
  unfold fX9_kind at h
  refine gx_iconst (v := 3) hX dX9_kind_0 (by decide) ?_
  cases h
  exact gx_iret hX rfl dX9_kind_1 rfl ⟨rfl, rfl⟩ (fun _ h => h)
abbrev iX6_kind : gx_M := (RX6, "kind", cX6_kind, 1, some .int)
theorem dsX6_kind : gx_ds yX6_kind 0 := by decide +kernel
def fX6_kind (x0 : Nat) (σ : xk_C)  : Option (Int32) := some (0)
set_option maxHeartbeats 4000000 in
theorem tX6_kind (w : gw_W) (A : Nat → Prop) (l : Launch) (x0 : Nat) (σ : xk_C)  {r : Int32} (h : fX6_kind x0 σ = some r) : gx_T (gw_I w A) A l yX6_kind iX6_kind 1 [va_rf (some x0)] (xk_P A w σ) 0 0 (xk_P A w σ) (.returned (some (.int r))) := by
  refine gx_T.of (gw_I.inv w A) (by decide) ⟨rfl, rfl⟩ (gx_kR gx_k0) (Nat.le_of_ble_eq_true rfl) (fun X hl hAx hX => ?_)
  subst hl
  subst hAx
  show gx_G X (xk_P (gx_A X) w (σ)) 0 0 [some (va_rf (some x0))] 0 []
  unfold fX6_kind at h
  refine gx_iconst (v := 0) hX dX6_kind_0 (by decide) ?_
  cases h
  exact gx_iret hX rfl dX6_kind_1 rfl ⟨rfl, rfl⟩ (fun _ h => h)
abbrev iX0_about : gx_M := (RX0, "about", cX0_about, 4, some .int)
theorem dsX0_about : gx_ds yX0_about 2 := by decide +kernel
def fV_X6_kind (b : Nat) (σ : xk_C)  : Option (Int32) := if xk_k σ b = 7 then fX6_kind b σ  else if xk_k σ b = 8 then fX7_kind b σ  else if xk_k σ b = 9 then fX8_kind b σ  else if xk_k σ b = 10 then fX9_kind b σ  else if xk_k σ b = 11 then fX10_kind b σ  else if xk_k σ b = 12 then fX11_kind b σ  else if xk_k σ b = 13 then fX12_kind b σ  else none
def fX0_about (N : Nat) (x0 : Nat) (σ : xk_C) (x1 : Int32) (x2 : Int32) : Option (Int32) := (xk_is (σ) 1 (some x0)).bind fun b2 => (fX0_crabAt (b2) (σ) (x1)).bind fun r1 => if r1 = none then some ((-1)) else if x2 = 0 then (xk_is (σ) 6 (r1)).bind fun b4 => (fX5_way N (b4) (σ)).bind fun r3 => (xk_io (σ) (r3)).bind fun b6 => (fV_X6_kind b6 (σ)).bind fun r5 => some (r5) else if x2 = 1 then (xk_gi (σ) 46 (r1)).bind fun v7 => some (v7) else if x2 = 2 then (xk_gi (σ) 47 (r1)).bind fun v8 => some (v8) else if x2 = 3 then (xk_gr (σ) 53 (r1)).bind fun v9 => if v9 = none then some ((-5)) else (xk_gr (σ) 53 (r1)).bind fun v10 => (xk_gi (σ) 37 (v10)).bind fun v11 => some (v11) else if x2 = 4 then (xk_gi (σ) 48 (r1)).bind fun v12 => some (v12) else if x2 = 5 then (xk_is (σ) 6 (r1)).bind fun b14 => (fX5_fit (b14) (σ)).bind fun r13 => some (r13) else if x2 = nI 6 then (xk_gi (σ) 49 (r1)).bind fun v15 => some (v15) else if x2 = nI 7 then (xk_gr (σ) 54 (r1)).bind fun v16 => if v16 = none then some ((-5)) else (xk_gr (σ) 54 (r1)).bind fun v17 => (xk_gi (σ) 44 (v17)).bind fun v18 => some (v18) else some ((-1))
set_option maxHeartbeats 4000000 in
theorem tX0_about (w : gw_W) (A : Nat → Prop) (l : Launch) (N : Nat) (x0 : Nat) (σ : xk_C) (x1 : Int32) (x2 : Int32) {r : Int32} (h : fX0_about N x0 σ x1 x2 = some r) : gx_T (gw_I w A) A l yX0_about iX0_about 7 [va_rf (some x0), .int (x1), .int (x2)] (xk_P A w σ) 0 0 (xk_P A w σ) (.returned (some (.int r))) := by
  refine gx_T.of (gw_I.inv w A) (by decide) ⟨rfl, rfl⟩ (gx_kR (gx_kI (gx_kI gx_k0))) (Nat.le_of_ble_eq_true rfl) (fun X hl hAx hX => ?_)
  subst hl
  subst hAx
  show gx_G X (xk_P (gx_A X) w (σ)) 0 0 [some (va_rf (some x0)), some (.int (x1)), some (.int (x2)), none] 0 []
  unfold fX0_about at h
  refine gx_aload_n hX dX0_about_0 rfl ?_
  refine gx_iload_n hX dX0_about_1 rfl ?_
  obtain ⟨b2, hb, h⟩ := gx_bs h
  obtain ⟨eb, hkb⟩ := xk_isS hb
  obtain ⟨r1, hr1, h⟩ := gx_bs h
  refine gx_cV (As := [.int (x1)]) (rest := []) (b := b2) hX (tX0_crabAt w (gx_A X) (gx_l X) (b2) (σ) (x1) hr1) (lw_V q622 q624 qs4 q86 q625) ⟨rfl, dsX0_crabAt⟩ (by decide) (Nat.le_of_ble_eq_true rfl) (xk_rc hX (ci := 0) (by decide) (by decide) hkb) (by rw [eb]; rfl) (gx_w8 gx_k0 (Nat.le_of_ble_eq_true rfl)) dX0_about_2 ⟨Nat.le_refl _, Nat.le_refl _⟩ rfl ?_
  refine gx_astore_n hX dX0_about_5 (Nat.le_of_ble_eq_true rfl) gx_c1i (lv' := [some (va_rf (some x0)), some (.int (x1)), some (.int (x2)), some (va_rf (r1))]) rfl ?_
  refine gx_aload_n hX dX0_about_6 rfl ?_
  refine gx_ifnonnull (tgt := 12) hX dX0_about_7 (by decide) h (fun h => ?_) (fun h => ?_)
  · refine gx_iconst (v := (-1)) hX dX0_about_10 (by decide) ?_
    cases h
    exact gx_iret hX rfl dX0_about_11 rfl ⟨rfl, rfl⟩ (fun _ h => h)
  · refine gx_iload_n hX dX0_about_12 rfl ?_
    by_cases c0 : x2 = 0
    · rw [if_pos c0] at h
      refine gx_tsw (off := 47) (tgt := 60) hX dX0_about_13 (by decide) (by rw [c0]; decide) (by decide) ?_
      refine gx_aload_n hX dX0_about_60 rfl ?_
      obtain ⟨b4, hb, h⟩ := gx_bs h
      obtain ⟨eb, hkb⟩ := xk_isS hb
      obtain ⟨r3, hr3, h⟩ := gx_bs h
      refine gx_cV (As := []) (rest := []) (b := b4) hX (tX5_way w (gx_A X) (gx_l X) N (b4) (σ)  hr3) (lw_V q643 q644 q645 q100 q646) ⟨rfl, dsX5_way⟩ (by decide) (Nat.le_of_ble_eq_true rfl) (xk_rc hX (ci := 5) (by decide) (by decide) hkb) (by rw [eb]; rfl) (gx_w8 gx_k0 (Nat.le_of_ble_eq_true rfl)) dX0_about_61 ⟨Nat.le_refl _, Nat.le_refl _⟩ rfl ?_
      obtain ⟨b6, hb, h⟩ := gx_bs h
      obtain ⟨eb, -⟩ := xk_ioS hb
      obtain ⟨r5, hr5, h⟩ := gx_bs h
      have hk : gx_G X (xk_P (gx_A X) w (σ)) 0 0 [some (va_rf (some x0)), some (.int (x1)), some (.int (x2)), some (va_rf (r1))] 67 [.int (r5)] := by
        cases h
        exact gx_iret hX rfl dX0_about_67 rfl ⟨rfl, rfl⟩ (fun _ h => h)
      unfold fV_X6_kind at hr5
      by_cases c6 : xk_k (σ) b6 = 7
      · rw [if_pos c6] at hr5
        exact gx_cV (As := []) (rest := []) (b := b6) hX (tX6_kind w (gx_A X) (gx_l X) (b6) (σ)  hr5) (lw_V q663 q664 q665 q101 q685) ⟨rfl, dsX6_kind⟩ (by decide) (Nat.le_of_ble_eq_true rfl) (xk_rc hX (ci := 6) (by decide) (by decide) c6) (by rw [eb]; rfl) (gx_w8 gx_k0 (Nat.le_of_ble_eq_true rfl)) dX0_about_64 ⟨Nat.le_refl _, Nat.le_refl _⟩ rfl hk
      rw [if_neg c6] at hr5
      by_cases c7 : xk_k (σ) b6 = 8
      · rw [if_pos c7] at hr5
        exact gx_cU (As := []) (rest := []) (b := b6) hX (tX7_kind w (gx_A X) (gx_l X) (b6) (σ)  hr5) (gx_gO (owner := "ShellBeach$Way") q663 q666 q664 q673 q674 q102 q675) q685 ⟨by decide, by decide, dsX7_kind.2.2⟩ (by decide) (Nat.le_of_ble_eq_true rfl) (xk_rc hX (ci := 7) (by decide) (by decide) c7) (by rw [eb]; rfl) (gx_w8 gx_k0 (Nat.le_of_ble_eq_true rfl)) dX0_about_64 ⟨Nat.le_refl _, Nat.le_refl _⟩ rfl hk
      rw [if_neg c7] at hr5
      by_cases c8 : xk_k (σ) b6 = 9
      · rw [if_pos c8] at hr5
        exact gx_cU (As := []) (rest := []) (b := b6) hX (tX8_kind w (gx_A X) (gx_l X) (b6) (σ)  hr5) (gx_gO (owner := "ShellBeach$Way") q663 q666 q664 q667 q668 q103 q669) q685 ⟨by decide, by decide, dsX8_kind.2.2⟩ (by decide) (Nat.le_of_ble_eq_true rfl) (xk_rc hX (ci := 8) (by decide) (by decide) c8) (by rw [eb]; rfl) (gx_w8 gx_k0 (Nat.le_of_ble_eq_true rfl)) dX0_about_64 ⟨Nat.le_refl _, Nat.le_refl _⟩ rfl hk
      rw [if_neg c8] at hr5
      by_cases c9 : xk_k (σ) b6 = 10
      · rw [if_pos c9] at hr5
        exact gx_cU (As := []) (rest := []) (b := b6) hX (tX9_kind w (gx_A X) (gx_l X) (b6) (σ)  hr5) (gx_gO (owner := "ShellBeach$Way") q663 q666 q664 q682 q683 q104 q684) q685 ⟨by decide, by decide, dsX9_kind.2.2⟩ (by decide) (Nat.le_of_ble_eq_true rfl) (xk_rc hX (ci := 9) (by decide) (by decide) c9) (by rw [eb]; rfl) (gx_w8 gx_k0 (Nat.le_of_ble_eq_true rfl)) dX0_about_64 ⟨Nat.le_refl _, Nat.le_refl _⟩ rfl hk
      rw [if_neg c9] at hr5
      by_cases c10 : xk_k (σ) b6 = 11
      · rw [if_pos c10] at hr5
        exact gx_cU (As := []) (rest := []) (b := b6) hX (tX10_kind w (gx_A X) (gx_l X) (b6) (σ)  hr5) (gx_gO (owner := "ShellBeach$Way") q663 q666 q664 q679 q680 q105 q681) q685 ⟨by decide, by decide, dsX10_kind.2.2⟩ (by decide) (Nat.le_of_ble_eq_true rfl) (xk_rc hX (ci := 10) (by decide) (by decide) c10) (by rw [eb]; rfl) (gx_w8 gx_k0 (Nat.le_of_ble_eq_true rfl)) dX0_about_64 ⟨Nat.le_refl _, Nat.le_refl _⟩ rfl hk
      rw [if_neg c10] at hr5
      by_cases c11 : xk_k (σ) b6 = 12
      · rw [if_pos c11] at hr5
        exact gx_cU (As := []) (rest := []) (b := b6) hX (tX11_kind w (gx_A X) (gx_l X) (b6) (σ)  hr5) (gx_gO (owner := "ShellBeach$Way") q663 q666 q664 q676 q677 q106 q678) q685 ⟨by decide, by decide, dsX11_kind.2.2⟩ (by decide) (Nat.le_of_ble_eq_true rfl) (xk_rc hX (ci := 11) (by decide) (by decide) c11) (by rw [eb]; rfl) (gx_w8 gx_k0 (Nat.le_of_ble_eq_true rfl)) dX0_about_64 ⟨Nat.le_refl _, Nat.le_refl _⟩ rfl hk
      rw [if_neg c11] at hr5
      by_cases c12 : xk_k (σ) b6 = 13
      · rw [if_pos c12] at hr5
        exact gx_cU (As := []) (rest := []) (b := b6) hX (tX12_kind w (gx_A X) (gx_l X) (b6) (σ)  hr5) (gx_gO (owner := "ShellBeach$Way") q663 q666 q664 q670 q671 q107 q672) q685 ⟨by decide, by decide, dsX12_kind.2.2⟩ (by decide) (Nat.le_of_ble_eq_true rfl) (xk_rc hX (ci := 12) (by decide) (by decide) c12) (by rw [eb]; rfl) (gx_w8 gx_k0 (Nat.le_of_ble_eq_true rfl)) dX0_about_64 ⟨Nat.le_refl _, Nat.le_refl _⟩ rfl hk
      rw [if_neg c12] at hr5
      cases hr5
    · rw [if_neg c0] at h
      by_cases c1 : x2 = 1
      · rw [if_pos c1] at h
        refine gx_tsw (off := 55) (tgt := 68) hX dX0_about_13 (by decide) (by rw [c1]; decide) (by decide) ?_
        refine gx_aload_n hX dX0_about_68 rfl ?_
        refine xk_getiN hX 46 q553 rfl dX0_about_69 h (fun v7 h => ?_)
        cases h
        exact gx_iret hX rfl dX0_about_72 rfl ⟨rfl, rfl⟩ (fun _ h => h)
      · rw [if_neg c1] at h
        by_cases c2 : x2 = 2
        · rw [if_pos c2] at h
          refine gx_tsw (off := 60) (tgt := 73) hX dX0_about_13 (by decide) (by rw [c2]; decide) (by decide) ?_
          refine gx_aload_n hX dX0_about_73 rfl ?_
          refine xk_getiN hX 47 q557 rfl dX0_about_74 h (fun v8 h => ?_)
          cases h
          exact gx_iret hX rfl dX0_about_77 rfl ⟨rfl, rfl⟩ (fun _ h => h)
        · rw [if_neg c2] at h
          by_cases c3 : x2 = 3
          · rw [if_pos c3] at h
            refine gx_tsw (off := 65) (tgt := 78) hX dX0_about_13 (by decide) (by rw [c3]; decide) (by decide) ?_
            refine gx_aload_n hX dX0_about_78 rfl ?_
            refine xk_getrN hX 53 q575 rfl dX0_about_79 h (fun v9 h => ?_)
            refine gx_ifnonnull (tgt := 90) hX dX0_about_82 (by decide) h (fun h => ?_) (fun h => ?_)
            · refine gx_bipush (v := (-5)) hX dX0_about_85 (by decide) ?_
              refine gx_goto (tgt := 97) hX dX0_about_87 (by decide) ?_
              cases h
              exact gx_iret hX rfl dX0_about_97 rfl ⟨rfl, rfl⟩ (fun _ h => h)
            · refine gx_aload_n hX dX0_about_90 rfl ?_
              refine xk_getrN hX 53 q575 rfl dX0_about_91 h (fun v10 h => ?_)
              refine xk_getiN hX 37 q325 rfl dX0_about_94 h (fun v11 h => ?_)
              cases h
              exact gx_iret hX rfl dX0_about_97 rfl ⟨rfl, rfl⟩ (fun _ h => h)
          · rw [if_neg c3] at h
            by_cases c4 : x2 = 4
            · rw [if_pos c4] at h
              refine gx_tsw (off := 85) (tgt := 98) hX dX0_about_13 (by decide) (by rw [c4]; decide) (by decide) ?_
              refine gx_aload_n hX dX0_about_98 rfl ?_
              refine xk_getiN hX 48 q560 rfl dX0_about_99 h (fun v12 h => ?_)
              cases h
              exact gx_iret hX rfl dX0_about_102 rfl ⟨rfl, rfl⟩ (fun _ h => h)
            · rw [if_neg c4] at h
              by_cases c5 : x2 = 5
              · rw [if_pos c5] at h
                refine gx_tsw (off := 90) (tgt := 103) hX dX0_about_13 (by decide) (by rw [c5]; decide) (by decide) ?_
                refine gx_aload_n hX dX0_about_103 rfl ?_
                obtain ⟨b14, hb, h⟩ := gx_bs h
                obtain ⟨eb, hkb⟩ := xk_isS hb
                obtain ⟨r13, hr13, h⟩ := gx_bs h
                refine gx_cV (As := []) (rest := []) (b := b14) hX (tX5_fit w (gx_A X) (gx_l X) (b14) (σ)  hr13) (lw_V q686 q687 q688 q100 q689) ⟨rfl, dsX5_fit⟩ (by decide) (Nat.le_of_ble_eq_true rfl) (xk_rc hX (ci := 5) (by decide) (by decide) hkb) (by rw [eb]; rfl) (gx_w8 gx_k0 (Nat.le_of_ble_eq_true rfl)) dX0_about_104 ⟨Nat.le_refl _, Nat.le_refl _⟩ rfl ?_
                cases h
                exact gx_iret hX rfl dX0_about_107 rfl ⟨rfl, rfl⟩ (fun _ h => h)
              · rw [if_neg c5] at h
                by_cases c6 : x2 = nI 6
                · rw [if_pos c6] at h
                  refine gx_tsw (off := 95) (tgt := 108) hX dX0_about_13 (by decide) (by rw [c6]; decide) (by decide) ?_
                  refine gx_aload_n hX dX0_about_108 rfl ?_
                  refine xk_getiN hX 49 q562 rfl dX0_about_109 h (fun v15 h => ?_)
                  cases h
                  exact gx_iret hX rfl dX0_about_112 rfl ⟨rfl, rfl⟩ (fun _ h => h)
                · rw [if_neg c6] at h
                  by_cases c7 : x2 = nI 7
                  · rw [if_pos c7] at h
                    refine gx_tsw (off := 100) (tgt := 113) hX dX0_about_13 (by decide) (by rw [c7]; decide) (by decide) ?_
                    refine gx_aload_n hX dX0_about_113 rfl ?_
                    refine xk_getrN hX 54 q577 rfl dX0_about_114 h (fun v16 h => ?_)
                    refine gx_ifnonnull (tgt := 125) hX dX0_about_117 (by decide) h (fun h => ?_) (fun h => ?_)
                    · refine gx_bipush (v := (-5)) hX dX0_about_120 (by decide) ?_
                      refine gx_goto (tgt := 132) hX dX0_about_122 (by decide) ?_
                      cases h
                      exact gx_iret hX rfl dX0_about_132 rfl ⟨rfl, rfl⟩ (fun _ h => h)
                    · refine gx_aload_n hX dX0_about_125 rfl ?_
                      refine xk_getrN hX 54 q577 rfl dX0_about_126 h (fun v17 h => ?_)
                      refine xk_getiN hX 44 q549 rfl dX0_about_129 h (fun v18 h => ?_)
                      cases h
                      exact gx_iret hX rfl dX0_about_132 rfl ⟨rfl, rfl⟩ (fun _ h => h)
                  · rw [if_neg c7] at h
                    have e0 : (x2).toInt ≠ 0 := gx_nei c0
                    have e1 : (x2).toInt ≠ 1 := gx_nei c1
                    have e2 : (x2).toInt ≠ 2 := gx_nei c2
                    have e3 : (x2).toInt ≠ 3 := gx_nei c3
                    have e4 : (x2).toInt ≠ 4 := gx_nei c4
                    have e5 : (x2).toInt ≠ 5 := gx_nei c5
                    have e6 : (x2).toInt ≠ 6 := gx_nei c6
                    have e7 : (x2).toInt ≠ 7 := gx_nei c7
                    refine gx_tsw (off := 120) (tgt := 133) hX dX0_about_13 (by decide) (by unfold gx_to; rw [if_pos (by omega)]) (by decide) ?_
                    refine gx_iconst (v := (-1)) hX dX0_about_133 (by decide) ?_
                    cases h
                    exact gx_iret hX rfl dX0_about_134 rfl ⟨rfl, rfl⟩ (fun _ h => h)
abbrev iX0_fit : gx_M := (RX0, "fit", cX0_fit, 4, some .int)
theorem dsX0_fit : gx_ds yX0_fit 2 := by decide +kernel
def fX0_fit (x0 : Nat) (σ : xk_C) (x1 : Int32) (x2 : Int32) : Option (Int32) := (xk_is (σ) 1 (some x0)).bind fun b2 => (fX0_shellAt (b2) (σ) (x1)).bind fun r1 => if r1 = none then some ((-1)) else (fX0_in  (x2) (1) (nI 40)).bind fun r3 => if r3 = 0 then some ((-2)) else (xk_is (σ) 5 (r1)).bind fun b5 => (fX4_fit (b5) (σ) (x2)).bind fun r4 => some (r4)
set_option maxHeartbeats 4000000 in
theorem tX0_fit (w : gw_W) (A : Nat → Prop) (l : Launch) (x0 : Nat) (σ : xk_C) (x1 : Int32) (x2 : Int32) {r : Int32} (h : fX0_fit x0 σ x1 x2 = some r) : gx_T (gw_I w A) A l yX0_fit iX0_fit 6 [va_rf (some x0), .int (x1), .int (x2)] (xk_P A w σ) 0 0 (xk_P A w σ) (.returned (some (.int r))) := by
  refine gx_T.of (gw_I.inv w A) (by decide) ⟨rfl, rfl⟩ (gx_kR (gx_kI (gx_kI gx_k0))) (Nat.le_of_ble_eq_true rfl) (fun X hl hAx hX => ?_)
  subst hl
  subst hAx
  show gx_G X (xk_P (gx_A X) w (σ)) 0 0 [some (va_rf (some x0)), some (.int (x1)), some (.int (x2)), none] 0 []
  unfold fX0_fit at h
  refine gx_aload_n hX dX0_fit_0 rfl ?_
  refine gx_iload_n hX dX0_fit_1 rfl ?_
  obtain ⟨b2, hb, h⟩ := gx_bs h
  obtain ⟨eb, hkb⟩ := xk_isS hb
  obtain ⟨r1, hr1, h⟩ := gx_bs h
  refine gx_cV (As := [.int (x1)]) (rest := []) (b := b2) hX (tX0_shellAt w (gx_A X) (gx_l X) (b2) (σ) (x1) hr1) (lw_V q429 q431 qs3 q86 q432) ⟨rfl, dsX0_shellAt⟩ (by decide) (Nat.le_of_ble_eq_true rfl) (xk_rc hX (ci := 0) (by decide) (by decide) hkb) (by rw [eb]; rfl) (gx_w8 gx_k0 (Nat.le_of_ble_eq_true rfl)) dX0_fit_2 ⟨Nat.le_refl _, Nat.le_refl _⟩ rfl ?_
  refine gx_astore_n hX dX0_fit_5 (Nat.le_of_ble_eq_true rfl) gx_c1i (lv' := [some (va_rf (some x0)), some (.int (x1)), some (.int (x2)), some (va_rf (r1))]) rfl ?_
  refine gx_aload_n hX dX0_fit_6 rfl ?_
  refine gx_ifnonnull (tgt := 12) hX dX0_fit_7 (by decide) h (fun h => ?_) (fun h => ?_)
  · refine gx_iconst (v := (-1)) hX dX0_fit_10 (by decide) ?_
    cases h
    exact gx_iret hX rfl dX0_fit_11 rfl ⟨rfl, rfl⟩ (fun _ h => h)
  · refine gx_iload_n hX dX0_fit_12 rfl ?_
    refine gx_iconst (v := 1) hX dX0_fit_13 (by decide) ?_
    refine gx_bipush (v := nI 40) hX dX0_fit_14 (by decide) ?_
    obtain ⟨r3, hr3, h⟩ := gx_bs h
    refine gx_cS (As := [.int (x2), .int (1), .int (nI 40)]) (rest := []) hX (tX0_in w (gx_A X) (gx_l X) (xk_P (gx_A X) w (σ)) (x2) (1) (nI 40) hr3) (lw_S q311 q312 q86 q313) dsX0_in (by decide) (Nat.le_of_ble_eq_true rfl) rfl (gx_w8 gx_k0 (Nat.le_of_ble_eq_true rfl)) dX0_fit_16 ⟨Nat.le_refl _, Nat.le_refl _⟩ rfl ?_
    refine gx_if_eq (tgt := 30) hX dX0_fit_19 (by decide) h (fun h => ?_) (fun h => ?_)
    · refine gx_bipush (v := (-2)) hX dX0_fit_30 (by decide) ?_
      cases h
      exact gx_iret hX rfl dX0_fit_32 rfl ⟨rfl, rfl⟩ (fun _ h => h)
    · refine gx_aload_n hX dX0_fit_22 rfl ?_
      refine gx_iload_n hX dX0_fit_23 rfl ?_
      obtain ⟨b5, hb, h⟩ := gx_bs h
      obtain ⟨eb, hkb⟩ := xk_isS hb
      obtain ⟨r4, hr4, h⟩ := gx_bs h
      refine gx_cV (As := [.int (x2)]) (rest := []) (b := b5) hX (tX4_fit w (gx_A X) (gx_l X) (b5) (σ) (x2) hr4) (lw_V q698 q691 q692 q93 q693) ⟨rfl, dsX4_fit⟩ (by decide) (Nat.le_of_ble_eq_true rfl) (xk_rc hX (ci := 4) (by decide) (by decide) hkb) (by rw [eb]; rfl) (gx_w8 gx_k0 (Nat.le_of_ble_eq_true rfl)) dX0_fit_24 ⟨Nat.le_refl _, Nat.le_refl _⟩ rfl ?_
      refine gx_goto (tgt := 32) hX dX0_fit_27 (by decide) ?_
      cases h
      exact gx_iret hX rfl dX0_fit_32 rfl ⟨rfl, rfl⟩ (fun _ h => h)
abbrev iX5_lose : gx_M := (RX5, "lose", cX5_lose, 1, none)
theorem dsX5_lose : gx_ds yX5_lose 0 := by decide +kernel
def fX5_lose (x0 : Nat) (σ : xk_C)  : Option (xk_C × Unit) := (xk_pr (σ) 53 (some x0) (none)).bind fun σ1 => (xk_pi (σ1) 48 (some x0) (0)).bind fun σ2 => some (σ2, ())
set_option maxHeartbeats 4000000 in
theorem tX5_lose (w : gw_W) (A : Nat → Prop) (l : Launch) (x0 : Nat) (σ : xk_C)  {r : xk_C × Unit} (h : fX5_lose x0 σ = some r) : gx_T (gw_I w A) A l yX5_lose iX5_lose 1 [va_rf (some x0)] (xk_P A w σ) 0 0 (xk_P A w r.1) (.returned none) := by
  refine gx_T.of (gw_I.inv w A) (by decide) ⟨rfl, rfl⟩ (gx_kR gx_k0) (Nat.le_of_ble_eq_true rfl) (fun X hl hAx hX => ?_)
  subst hl
  subst hAx
  show gx_G X (xk_P (gx_A X) w (σ)) 0 0 [some (va_rf (some x0))] 0 []
  unfold fX5_lose at h
  refine gx_aload_n hX dX5_lose_0 rfl ?_
  refine gx_null hX dX5_lose_1 ?_
  refine xk_putr hX 53 xk_ty53 (Or.inl ⟨_, rfl⟩) q574 (fun _ h => h) rfl rfl dX5_lose_2 h (fun σ1 hτ h => ?_)
  refine gx_aload_n hX dX5_lose_5 rfl ?_
  refine gx_iconst (v := 0) hX dX5_lose_6 (by decide) ?_
  refine xk_puti hX 48 xk_ty48 rfl q559 (fun _ h => h) rfl rfl dX5_lose_7 h (fun σ2 hτ h => ?_)
  cases h
  exact gx_vret hX rfl dX5_lose_10 rfl ⟨rfl, rfl⟩ (fun _ h => h)
abbrev iX0_end : gx_M := (RX0, "end", cX0_end, 5, some .int)
theorem dsX0_end : gx_ds yX0_end 2 := by decide +kernel
def fX0_end_B90 (x0 : Nat)   (σ : xk_C) (x4 : Int32) (y0 : Int32) (y1 : Option Nat) : Option (xk_C × Int32) := (xk_is (σ) 5 (y1)).bind fun b7 => (fX4_become (b7) (σ) (y0) (none)).bind fun r6 => some (r6.1, x4)
set_option maxHeartbeats 4000000 in
theorem tX0_end_B90 {w : gw_W} {X : gx_X} {x0 : Nat} {r : xk_C × Int32} (hX : gx_O (gw_I w (gx_A X)) X iX0_end 6 0 0 (xk_P (gx_A X) w r.1) (.returned (some (.int r.2))))  {σ : xk_C} {x4 : Int32} {y0 : Int32} {y1 : Option Nat} (h : fX0_end_B90 x0 σ x4 y0 y1 = some r) : gx_G X (xk_P (gx_A X) w (σ)) 0 0 [none, none, none, none, some (.int (x4))] 90 [.int (y0), va_rf (y1)] := by
  unfold fX0_end_B90 at h
  refine gx_null hX dX0_end_90 ?_
  obtain ⟨b7, hb, h⟩ := gx_bs h
  obtain ⟨eb, hkb⟩ := xk_isS hb
  obtain ⟨r6, hr6, h⟩ := gx_bs h
  refine gx_cV (As := [.int (y0), va_rf (none)]) (rest := []) (b := b7) hX (tX4_become w (gx_A X) (gx_l X) (b7) (σ) (y0) (none) hr6) (lw_V q707 q615 q616 q93 q617) ⟨rfl, dsX4_become⟩ (by decide) (Nat.le_of_ble_eq_true rfl) (xk_rc hX (ci := 4) (by decide) (by decide) hkb) (by rw [eb]; rfl) (gx_w8 gx_k0 (Nat.le_of_ble_eq_true rfl)) dX0_end_91 ⟨Nat.le_refl _, Nat.le_refl _⟩ rfl ?_
  refine gx_iload hX dX0_end_94 rfl ?_
  cases h
  exact gx_iret hX rfl dX0_end_96 rfl ⟨rfl, rfl⟩ (fun _ h => h)
def fX0_end_B71 (x0 : Nat)   (σ : xk_C) (x2 : Int32) (x3 : Option Nat) (x4 : Int32) : Option (xk_C × Int32) := if x2 = 0 then fX0_end_B90 x0 (σ) (x4) (4) (x3) else if x2 = 1 then fX0_end_B90 x0 (σ) (x4) (3) (x3) else fX0_end_B90 x0 (σ) (x4) (0) (x3)
set_option maxHeartbeats 4000000 in
theorem tX0_end_B71 {w : gw_W} {X : gx_X} {x0 : Nat} {r : xk_C × Int32} (hX : gx_O (gw_I w (gx_A X)) X iX0_end 6 0 0 (xk_P (gx_A X) w r.1) (.returned (some (.int r.2))))  {σ : xk_C} {x2 : Int32} {x3 : Option Nat} {x4 : Int32} (h : fX0_end_B71 x0 σ x2 x3 x4 = some r) : gx_G X (xk_P (gx_A X) w (σ)) 0 0 [none, none, some (.int (x2)), some (va_rf (x3)), some (.int (x4))] 71 [] := by
  unfold fX0_end_B71 at h
  refine gx_aload_n hX dX0_end_71 rfl ?_
  refine gx_iload_n hX dX0_end_72 rfl ?_
  refine gx_if_ne (tgt := 80) hX dX0_end_73 (by decide) h (fun h => ?_) (fun h => ?_)
  · refine gx_iconst (v := 4) hX dX0_end_76 (by decide) ?_
    refine gx_goto (tgt := 90) hX dX0_end_77 (by decide) ?_
    refine gx_sub hX (lv' := [none, none, none, none, some (.int (x4))]) ⟨Or.inr rfl, ⟨Or.inr rfl, ⟨Or.inl rfl, ⟨Or.inl rfl, ⟨Or.inr rfl, trivial⟩⟩⟩⟩⟩ ?_
    exact tX0_end_B90 hX  h
  · refine gx_iload_n hX dX0_end_80 rfl ?_
    refine gx_iconst (v := 1) hX dX0_end_81 (by decide) ?_
    refine gx_icmp_ne (tgt := 89) hX dX0_end_82 (by decide) h (fun h => ?_) (fun h => ?_)
    · refine gx_iconst (v := 3) hX dX0_end_85 (by decide) ?_
      refine gx_goto (tgt := 90) hX dX0_end_86 (by decide) ?_
      refine gx_sub hX (lv' := [none, none, none, none, some (.int (x4))]) ⟨Or.inr rfl, ⟨Or.inr rfl, ⟨Or.inl rfl, ⟨Or.inl rfl, ⟨Or.inr rfl, trivial⟩⟩⟩⟩⟩ ?_
      exact tX0_end_B90 hX  h
    · refine gx_iconst (v := 0) hX dX0_end_89 (by decide) ?_
      refine gx_sub hX (lv' := [none, none, none, none, some (.int (x4))]) ⟨Or.inr rfl, ⟨Or.inr rfl, ⟨Or.inl rfl, ⟨Or.inl rfl, ⟨Or.inr rfl, trivial⟩⟩⟩⟩⟩ ?_
      exact tX0_end_B90 hX  h
def fX0_end_B57 (x0 : Nat)   (σ : xk_C) (x2 : Int32) (x3 : Option Nat) (x4 : Int32) : Option (xk_C × Int32) := (xk_gr (σ) 43 (x3)).bind fun v5 => if v5 = none then fX0_end_B71 x0 (σ) (x2) (x3) (x4) else (xk_gr (σ) 43 (x3)).bind fun v8 => (xk_is (σ) 6 (v8)).bind fun b10 => (fX5_lose (b10) (σ)).bind fun r9 => fX0_end_B71 x0 (r9.1) (x2) (x3) (x4)
set_option maxHeartbeats 4000000 in
theorem tX0_end_B57 {w : gw_W} {X : gx_X} {x0 : Nat} {r : xk_C × Int32} (hX : gx_O (gw_I w (gx_A X)) X iX0_end 6 0 0 (xk_P (gx_A X) w r.1) (.returned (some (.int r.2))))  {σ : xk_C} {x2 : Int32} {x3 : Option Nat} {x4 : Int32} (h : fX0_end_B57 x0 σ x2 x3 x4 = some r) : gx_G X (xk_P (gx_A X) w (σ)) 0 0 [none, none, some (.int (x2)), some (va_rf (x3)), some (.int (x4))] 57 [] := by
  unfold fX0_end_B57 at h
  refine gx_aload_n hX dX0_end_57 rfl ?_
  refine xk_getrN hX 43 q341 rfl dX0_end_58 h (fun v5 h => ?_)
  refine gx_ifnull (tgt := 71) hX dX0_end_61 (by decide) h (fun h => ?_) (fun h => ?_)
  · exact tX0_end_B71 hX  h
  · refine gx_aload_n hX dX0_end_64 rfl ?_
    refine xk_getrN hX 43 q341 rfl dX0_end_65 h (fun v8 h => ?_)
    obtain ⟨b10, hb, h⟩ := gx_bs h
    obtain ⟨eb, hkb⟩ := xk_isS hb
    obtain ⟨r9, hr9, h⟩ := gx_bs h
    refine gx_cV (As := []) (rest := []) (b := b10) hX (tX5_lose w (gx_A X) (gx_l X) (b10) (σ)  hr9) (lw_V q703 q704 q705 q100 q706) ⟨rfl, dsX5_lose⟩ (by decide) (Nat.le_of_ble_eq_true rfl) (xk_rc hX (ci := 5) (by decide) (by decide) hkb) (by rw [eb]; rfl) (gx_w8 gx_k0 (Nat.le_of_ble_eq_true rfl)) dX0_end_68 ⟨Nat.le_refl _, Nat.le_refl _⟩ rfl ?_
    exact tX0_end_B71 hX  h
def fX0_end_B43 (x0 : Nat)   (σ : xk_C) (x2 : Int32) (x3 : Option Nat) (x4 : Int32) : Option (xk_C × Int32) := if x2 = 2 then if x4 = 3 then fX0_end_B57 x0 (σ) (x2) (x3) (x4) else some (σ, (-3)) else fX0_end_B57 x0 (σ) (x2) (x3) (x4)
set_option maxHeartbeats 4000000 in
theorem tX0_end_B43 {w : gw_W} {X : gx_X} {x0 : Nat} {r : xk_C × Int32} (hX : gx_O (gw_I w (gx_A X)) X iX0_end 6 0 0 (xk_P (gx_A X) w r.1) (.returned (some (.int r.2))))  {σ : xk_C} {x2 : Int32} {x3 : Option Nat} {x4 : Int32} (h : fX0_end_B43 x0 σ x2 x3 x4 = some r) : gx_G X (xk_P (gx_A X) w (σ)) 0 0 [none, none, some (.int (x2)), some (va_rf (x3)), some (.int (x4))] 43 [] := by
  unfold fX0_end_B43 at h
  refine gx_iload_n hX dX0_end_43 rfl ?_
  refine gx_iconst (v := 2) hX dX0_end_44 (by decide) ?_
  refine gx_icmp_ne (tgt := 57) hX dX0_end_45 (by decide) h (fun h => ?_) (fun h => ?_)
  · refine gx_iload hX dX0_end_48 rfl ?_
    refine gx_iconst (v := 3) hX dX0_end_50 (by decide) ?_
    refine gx_icmp_eq (tgt := 57) hX dX0_end_51 (by decide) h (fun h => ?_) (fun h => ?_)
    · exact tX0_end_B57 hX  h
    · refine gx_bipush (v := (-3)) hX dX0_end_54 (by decide) ?_
      cases h
      exact gx_iret hX rfl dX0_end_56 rfl ⟨rfl, rfl⟩ (fun _ h => h)
  · exact tX0_end_B57 hX  h
def fX0_end (x0 : Nat) (σ : xk_C) (x1 : Int32) (x2 : Int32) : Option (xk_C × Int32) := (xk_is (σ) 1 (some x0)).bind fun b2 => (fX0_shellAt (b2) (σ) (x1)).bind fun r1 => if r1 = none then some (σ, (-1)) else (fX0_in  (x2) (0) (2)).bind fun r3 => if r3 = 0 then some (σ, (-1)) else (xk_gi (σ) 42 (r1)).bind fun v4 => if v4 = 4 then some (σ, (-3)) else if x2 = 1 then if v4 = 0 then fX0_end_B43 x0 (σ) (x2) (r1) (v4) else some (σ, (-3)) else fX0_end_B43 x0 (σ) (x2) (r1) (v4)
set_option maxHeartbeats 4000000 in
theorem tX0_end (w : gw_W) (A : Nat → Prop) (l : Launch) (x0 : Nat) (σ : xk_C) (x1 : Int32) (x2 : Int32) {r : xk_C × Int32} (h : fX0_end x0 σ x1 x2 = some r) : gx_T (gw_I w A) A l yX0_end iX0_end 6 [va_rf (some x0), .int (x1), .int (x2)] (xk_P A w σ) 0 0 (xk_P A w r.1) (.returned (some (.int r.2))) := by
  refine gx_T.of (gw_I.inv w A) (by decide) ⟨rfl, rfl⟩ (gx_kR (gx_kI (gx_kI gx_k0))) (Nat.le_of_ble_eq_true rfl) (fun X hl hAx hX => ?_)
  subst hl
  subst hAx
  show gx_G X (xk_P (gx_A X) w (σ)) 0 0 [some (va_rf (some x0)), some (.int (x1)), some (.int (x2)), none, none] 0 []
  unfold fX0_end at h
  refine gx_aload_n hX dX0_end_0 rfl ?_
  refine gx_iload_n hX dX0_end_1 rfl ?_
  obtain ⟨b2, hb, h⟩ := gx_bs h
  obtain ⟨eb, hkb⟩ := xk_isS hb
  obtain ⟨r1, hr1, h⟩ := gx_bs h
  refine gx_cV (As := [.int (x1)]) (rest := []) (b := b2) hX (tX0_shellAt w (gx_A X) (gx_l X) (b2) (σ) (x1) hr1) (lw_V q429 q431 qs3 q86 q432) ⟨rfl, dsX0_shellAt⟩ (by decide) (Nat.le_of_ble_eq_true rfl) (xk_rc hX (ci := 0) (by decide) (by decide) hkb) (by rw [eb]; rfl) (gx_w8 gx_k0 (Nat.le_of_ble_eq_true rfl)) dX0_end_2 ⟨Nat.le_refl _, Nat.le_refl _⟩ rfl ?_
  refine gx_astore_n hX dX0_end_5 (Nat.le_of_ble_eq_true rfl) gx_c1i (lv' := [some (va_rf (some x0)), some (.int (x1)), some (.int (x2)), some (va_rf (r1)), none]) rfl ?_
  refine gx_aload_n hX dX0_end_6 rfl ?_
  refine gx_ifnull (tgt := 19) hX dX0_end_7 (by decide) h (fun h => ?_) (fun h => ?_)
  · refine gx_iconst (v := (-1)) hX dX0_end_19 (by decide) ?_
    cases h
    exact gx_iret hX rfl dX0_end_20 rfl ⟨rfl, rfl⟩ (fun _ h => h)
  · refine gx_iload_n hX dX0_end_10 rfl ?_
    refine gx_iconst (v := 0) hX dX0_end_11 (by decide) ?_
    refine gx_iconst (v := 2) hX dX0_end_12 (by decide) ?_
    obtain ⟨r3, hr3, h⟩ := gx_bs h
    refine gx_cS (As := [.int (x2), .int (0), .int (2)]) (rest := []) hX (tX0_in w (gx_A X) (gx_l X) (xk_P (gx_A X) w (σ)) (x2) (0) (2) hr3) (lw_S q311 q312 q86 q313) dsX0_in (by decide) (Nat.le_of_ble_eq_true rfl) rfl (gx_w8 gx_k0 (Nat.le_of_ble_eq_true rfl)) dX0_end_13 ⟨Nat.le_refl _, Nat.le_refl _⟩ rfl ?_
    refine gx_if_ne (tgt := 21) hX dX0_end_16 (by decide) h (fun h => ?_) (fun h => ?_)
    · refine gx_iconst (v := (-1)) hX dX0_end_19 (by decide) ?_
      cases h
      exact gx_iret hX rfl dX0_end_20 rfl ⟨rfl, rfl⟩ (fun _ h => h)
    · refine gx_aload_n hX dX0_end_21 rfl ?_
      refine xk_getiN hX 42 q338 rfl dX0_end_22 h (fun v4 h => ?_)
      refine gx_istore hX dX0_end_25 (Nat.le_of_ble_eq_true rfl) gx_c1r (lv' := [some (va_rf (some x0)), some (.int (x1)), some (.int (x2)), some (va_rf (r1)), some (.int (v4))]) rfl ?_
      refine gx_iload hX dX0_end_27 rfl ?_
      refine gx_iconst (v := 4) hX dX0_end_29 (by decide) ?_
      refine gx_icmp_eq (tgt := 54) hX dX0_end_30 (by decide) h (fun h => ?_) (fun h => ?_)
      · refine gx_bipush (v := (-3)) hX dX0_end_54 (by decide) ?_
        cases h
        exact gx_iret hX rfl dX0_end_56 rfl ⟨rfl, rfl⟩ (fun _ h => h)
      · refine gx_iload_n hX dX0_end_33 rfl ?_
        refine gx_iconst (v := 1) hX dX0_end_34 (by decide) ?_
        refine gx_icmp_ne (tgt := 43) hX dX0_end_35 (by decide) h (fun h => ?_) (fun h => ?_)
        · refine gx_iload hX dX0_end_38 rfl ?_
          refine gx_if_ne (tgt := 54) hX dX0_end_40 (by decide) h (fun h => ?_) (fun h => ?_)
          · refine gx_sub hX (lv' := [none, none, some (.int (x2)), some (va_rf (r1)), some (.int (v4))]) ⟨Or.inl rfl, ⟨Or.inl rfl, ⟨Or.inr rfl, ⟨Or.inr rfl, ⟨Or.inr rfl, trivial⟩⟩⟩⟩⟩ ?_
            exact tX0_end_B43 hX  h
          · refine gx_bipush (v := (-3)) hX dX0_end_54 (by decide) ?_
            cases h
            exact gx_iret hX rfl dX0_end_56 rfl ⟨rfl, rfl⟩ (fun _ h => h)
        · refine gx_sub hX (lv' := [none, none, some (.int (x2)), some (va_rf (r1)), some (.int (v4))]) ⟨Or.inl rfl, ⟨Or.inl rfl, ⟨Or.inr rfl, ⟨Or.inr rfl, ⟨Or.inr rfl, trivial⟩⟩⟩⟩⟩ ?_
          exact tX0_end_B43 hX  h
abbrev iX5_isBare : gx_M := (RX5, "isBare", cX5_isBare, 1, some .boolean)
theorem dsX5_isBare : gx_ds yX5_isBare 0 := by decide +kernel
def fX5_isBare (x0 : Nat) (σ : xk_C)  : Option (Int32) := (xk_gi (σ) 50 (some x0)).bind fun v1 => if v1 = 0 then (xk_is (σ) 6 (some x0)).bind fun b3 => (fX5_isHoused (b3) (σ)).bind fun r2 => if r2 = 0 then some (1) else some (0) else some (0)
set_option maxHeartbeats 4000000 in
theorem tX5_isBare (w : gw_W) (A : Nat → Prop) (l : Launch) (x0 : Nat) (σ : xk_C)  {r : Int32} (h : fX5_isBare x0 σ = some r) : gx_T (gw_I w A) A l yX5_isBare iX5_isBare 2 [va_rf (some x0)] (xk_P A w σ) 0 0 (xk_P A w σ) (.returned (some (.int r))) := by
  refine gx_T.of (gw_I.inv w A) (by decide) ⟨rfl, rfl⟩ (gx_kR gx_k0) (Nat.le_of_ble_eq_true rfl) (fun X hl hAx hX => ?_)
  subst hl
  subst hAx
  show gx_G X (xk_P (gx_A X) w (σ)) 0 0 [some (va_rf (some x0))] 0 []
  unfold fX5_isBare at h
  refine gx_aload_n hX dX5_isBare_0 rfl ?_
  refine xk_geti hX 50 q565 (fun _ h => h) rfl dX5_isBare_1 h (fun v1 h => ?_)
  refine gx_if_ne (tgt := 18) hX dX5_isBare_4 (by decide) h (fun h => ?_) (fun h => ?_)
  · refine gx_aload_n hX dX5_isBare_7 rfl ?_
    obtain ⟨b3, hb, h⟩ := gx_bs h
    obtain ⟨eb, hkb⟩ := xk_isS hb
    obtain ⟨r2, hr2, h⟩ := gx_bs h
    refine gx_cV (As := []) (rest := []) (b := b3) hX (tX5_isHoused w (gx_A X) (gx_l X) (b3) (σ)  hr2) (lw_V q647 q648 q649 q100 q650) ⟨rfl, dsX5_isHoused⟩ (by decide) (Nat.le_of_ble_eq_true rfl) (xk_rc hX (ci := 5) (by decide) (by decide) hkb) (by rw [eb]; rfl) (gx_w8 gx_k0 (Nat.le_of_ble_eq_true rfl)) dX5_isBare_8 ⟨Nat.le_refl _, Nat.le_refl _⟩ rfl ?_
    refine gx_if_ne (tgt := 18) hX dX5_isBare_11 (by decide) h (fun h => ?_) (fun h => ?_)
    · refine gx_iconst (v := 1) hX dX5_isBare_14 (by decide) ?_
      refine gx_goto (tgt := 19) hX dX5_isBare_15 (by decide) ?_
      cases h
      exact gx_zret hX rfl rfl dX5_isBare_19 rfl ⟨rfl, rfl⟩ (fun _ h => h)
    · refine gx_iconst (v := 0) hX dX5_isBare_18 (by decide) ?_
      cases h
      exact gx_zret hX rfl rfl dX5_isBare_19 rfl ⟨rfl, rfl⟩ (fun _ h => h)
  · refine gx_iconst (v := 0) hX dX5_isBare_18 (by decide) ?_
    cases h
    exact gx_zret hX rfl rfl dX5_isBare_19 rfl ⟨rfl, rfl⟩ (fun _ h => h)
abbrev iX0_eat : gx_M := (RX0, "eat", cX0_eat, 5, some .int)
theorem dsX0_eat : gx_ds yX0_eat 1 := by decide +kernel
def fX0_eat_B89 (N : Nat) (x0 : Nat)  (K13 : xk_C → Int32 → Int32 → Int32 → Option (xk_C × Int32)) (σ : xk_C) (x1 : Int32) (x2 : Int32) (x3 : Int32) : Option (xk_C × Int32) := K13 (σ) (x1) (x2) ((x3) + 1)
set_option maxHeartbeats 4000000 in
theorem tX0_eat_B89 {w : gw_W} {X : gx_X} {N : Nat} {x0 : Nat} {r : xk_C × Int32} (hX : gx_O (gw_I w (gx_A X)) X iX0_eat 5 0 0 (xk_P (gx_A X) w r.1) (.returned (some (.int r.2)))) {K13 : xk_C → Int32 → Int32 → Int32 → Option (xk_C × Int32)} (hK13 : ∀ (σ : xk_C) (x1 : Int32) (x2 : Int32) (x3 : Int32), K13 σ x1 x2 x3 = some r → gx_G X (xk_P (gx_A X) w (σ)) 0 0 [some (va_rf (some x0)), some (.int (x1)), some (.int (x2)), some (.int (x3)), none] 13 []) {σ : xk_C} {x1 : Int32} {x2 : Int32} {x3 : Int32} (h : fX0_eat_B89 N x0 K13 σ x1 x2 x3 = some r) : gx_G X (xk_P (gx_A X) w (σ)) 0 0 [some (va_rf (some x0)), some (.int (x1)), some (.int (x2)), some (.int (x3)), none] 89 [] := by
  unfold fX0_eat_B89 at h
  refine gx_iinc (v := 1) hX dX0_eat_89 rfl (by decide) gx_c1i (lv' := [some (va_rf (some x0)), some (.int (x1)), some (.int (x2)), some (.int ((x3) + 1)), none]) rfl ?_
  refine gx_goto (tgt := 13) hX dX0_eat_92 (by decide) ?_
  exact hK13 _ _ _ _ h
def fX0_eat_B75 (N : Nat) (x0 : Nat)  (K13 : xk_C → Int32 → Int32 → Int32 → Option (xk_C × Int32)) (σ : xk_C) (x1 : Int32) (x2 : Int32) (x3 : Int32) (x4 : Option Nat) : Option (xk_C × Int32) := (xk_is (σ) 6 (x4)).bind fun b14 => (fX5_lose (b14) (σ)).bind fun r13 => (xk_pz (r13.1) 50 (x4) (1)).bind fun σ15 => fX0_eat_B89 N x0 K13 (σ15) (x1) ((x2) + 1) (x3)
set_option maxHeartbeats 4000000 in
theorem tX0_eat_B75 {w : gw_W} {X : gx_X} {N : Nat} {x0 : Nat} {r : xk_C × Int32} (hX : gx_O (gw_I w (gx_A X)) X iX0_eat 5 0 0 (xk_P (gx_A X) w r.1) (.returned (some (.int r.2)))) {K13 : xk_C → Int32 → Int32 → Int32 → Option (xk_C × Int32)} (hK13 : ∀ (σ : xk_C) (x1 : Int32) (x2 : Int32) (x3 : Int32), K13 σ x1 x2 x3 = some r → gx_G X (xk_P (gx_A X) w (σ)) 0 0 [some (va_rf (some x0)), some (.int (x1)), some (.int (x2)), some (.int (x3)), none] 13 []) {σ : xk_C} {x1 : Int32} {x2 : Int32} {x3 : Int32} {x4 : Option Nat} (h : fX0_eat_B75 N x0 K13 σ x1 x2 x3 x4 = some r) : gx_G X (xk_P (gx_A X) w (σ)) 0 0 [some (va_rf (some x0)), some (.int (x1)), some (.int (x2)), some (.int (x3)), some (va_rf (x4))] 75 [] := by
  unfold fX0_eat_B75 at h
  refine gx_aload hX dX0_eat_75 rfl ?_
  obtain ⟨b14, hb, h⟩ := gx_bs h
  obtain ⟨eb, hkb⟩ := xk_isS hb
  obtain ⟨r13, hr13, h⟩ := gx_bs h
  refine gx_cV (As := []) (rest := []) (b := b14) hX (tX5_lose w (gx_A X) (gx_l X) (b14) (σ)  hr13) (lw_V q703 q704 q705 q100 q706) ⟨rfl, dsX5_lose⟩ (by decide) (Nat.le_of_ble_eq_true rfl) (xk_rc hX (ci := 5) (by decide) (by decide) hkb) (by rw [eb]; rfl) (gx_w8 gx_k0 (Nat.le_of_ble_eq_true rfl)) dX0_eat_77 ⟨Nat.le_refl _, Nat.le_refl _⟩ rfl ?_
  refine gx_aload hX dX0_eat_80 rfl ?_
  refine gx_iconst (v := 1) hX dX0_eat_82 (by decide) ?_
  refine xk_putzN hX 50 xk_ty50 rfl q566 rfl rfl dX0_eat_83 h (fun σ15 hτ h => ?_)
  refine gx_iinc (v := 1) hX dX0_eat_86 rfl (by decide) gx_c1i (lv' := [some (va_rf (some x0)), some (.int (x1)), some (.int ((x2) + 1)), some (.int (x3)), some (va_rf (x4))]) rfl ?_
  refine gx_sub hX (lv' := [some (va_rf (some x0)), some (.int (x1)), some (.int ((x2) + 1)), some (.int (x3)), none]) ⟨Or.inr rfl, ⟨Or.inr rfl, ⟨Or.inr rfl, ⟨Or.inr rfl, ⟨Or.inl rfl, trivial⟩⟩⟩⟩⟩ ?_
  exact tX0_eat_B89 hX hK13 h
def fX0_eat_L13 (N : Nat) (x0 : Nat)   : Nat → xk_C → Int32 → Int32 → Int32 → Option (xk_C × Int32)
  | 0, _, _, _, _ => none
  | k + 1, σ, x1, x2, x3 => (xk_gr (σ) 3 (some x0)).bind fun v2 => (xk_is (σ) 21 (v2)).bind fun b4 => (fJ2_size (b4) (σ)).bind fun r3 => if (r3) ≤ x3 then some (σ, x2) else (xk_gr (σ) 3 (some x0)).bind fun v5 => (xk_is (σ) 21 (v5)).bind fun b7 => (fJ2_get (b7) (σ) (x3)).bind fun r6 => (xk_ck (σ) 6 (r6)).bind fun u8 => (xk_is (σ) 6 (r6)).bind fun b10 => (fX5_isBare (b10) (σ)).bind fun r9 => if r9 = 0 then fX0_eat_B89 N x0 (fX0_eat_L13 N x0 k) (σ) (x1) (x2) (x3) else (xk_gi (σ) 46 (r6)).bind fun v11 => if v11 = x1 then (xk_gr (σ) 53 (r6)).bind fun v12 => if v12 = none then fX0_eat_B75 N x0 (fX0_eat_L13 N x0 k) (σ) (x1) (x2) (x3) (r6) else (xk_gr (σ) 53 (r6)).bind fun v16 => (xk_is (σ) 5 (v16)).bind fun b18 => (fX4_become (b18) (σ) (0) (none)).bind fun r17 => fX0_eat_B75 N x0 (fX0_eat_L13 N x0 k) (r17.1) (x1) (x2) (x3) (r6) else fX0_eat_B89 N x0 (fX0_eat_L13 N x0 k) (σ) (x1) (x2) (x3)
set_option maxHeartbeats 4000000 in
theorem tX0_eat_L13 {w : gw_W} {X : gx_X} {N : Nat} {x0 : Nat} {r : xk_C × Int32} (hX : gx_O (gw_I w (gx_A X)) X iX0_eat 5 0 0 (xk_P (gx_A X) w r.1) (.returned (some (.int r.2))))  : ∀ (k : Nat) (σ : xk_C) (x1 : Int32) (x2 : Int32) (x3 : Int32), fX0_eat_L13 N x0 k σ x1 x2 x3 = some r → gx_G X (xk_P (gx_A X) w (σ)) 0 0 [some (va_rf (some x0)), some (.int (x1)), some (.int (x2)), some (.int (x3)), none] 13 [] := by
  intro k
  induction k with
  | zero =>
    intro σ x1 x2 x3 h
    unfold fX0_eat_L13 at h
    cases h
  | succ k ih =>
    intro σ x1 x2 x3 h
    unfold fX0_eat_L13 at h
    refine gx_iload_n hX dX0_eat_13 rfl ?_
    refine gx_aload_n hX dX0_eat_14 rfl ?_
    refine xk_getr hX 3 q214 (fun _ h => h) rfl dX0_eat_15 h (fun v2 h => ?_)
    obtain ⟨b4, hb, h⟩ := gx_bs h
    obtain ⟨eb, hkb⟩ := xk_isS hb
    obtain ⟨r3, hr3, h⟩ := gx_bs h
    refine gx_cV (As := []) (rest := [.int (x3)]) (b := b4) hX (tJ2_size w (gx_A X) (gx_l X) (b4) (σ)  hr3) (lw_V q314 q315 q316 q89 q317) ⟨rfl, dsJ2_size⟩ (by decide) (Nat.le_of_ble_eq_true rfl) (xk_rc hX (ci := 20) (by decide) (by decide) hkb) (by rw [eb]; rfl) (gx_w8 (gx_kI gx_k0) (Nat.le_of_ble_eq_true rfl)) dX0_eat_18 ⟨Nat.le_refl _, Nat.le_refl _⟩ rfl ?_
    refine gx_icmp_ge (tgt := 95) hX dX0_eat_21 (by decide) h (fun h => ?_) (fun h => ?_)
    · refine gx_iload_n hX dX0_eat_95 rfl ?_
      cases h
      exact gx_iret hX rfl dX0_eat_96 rfl ⟨rfl, rfl⟩ (fun _ h => h)
    · refine gx_aload_n hX dX0_eat_24 rfl ?_
      refine xk_getr hX 3 q214 (fun _ h => h) rfl dX0_eat_25 h (fun v5 h => ?_)
      refine gx_iload_n hX dX0_eat_28 rfl ?_
      obtain ⟨b7, hb, h⟩ := gx_bs h
      obtain ⟨eb, hkb⟩ := xk_isS hb
      obtain ⟨r6, hr6, h⟩ := gx_bs h
      refine gx_cV (As := [.int (x3)]) (rest := []) (b := b7) hX (tJ2_get w (gx_A X) (gx_l X) (b7) (σ) (x3) hr6) (lw_V q433 q434 q435 q89 q436) ⟨rfl, dsJ2_get⟩ (by decide) (Nat.le_of_ble_eq_true rfl) (xk_rc hX (ci := 20) (by decide) (by decide) hkb) (by rw [eb]; rfl) (gx_w8 gx_k0 (Nat.le_of_ble_eq_true rfl)) dX0_eat_29 ⟨Nat.le_refl _, Nat.le_refl _⟩ rfl ?_
      refine xk_castC hX 5 ⟨by decide, by decide⟩ q204 dX0_eat_32 h (fun h => ?_)
      refine gx_astore hX dX0_eat_35 (Nat.le_of_ble_eq_true rfl) gx_c1i (lv' := [some (va_rf (some x0)), some (.int (x1)), some (.int (x2)), some (.int (x3)), some (va_rf (r6))]) rfl ?_
      refine gx_aload hX dX0_eat_37 rfl ?_
      obtain ⟨b10, hb, h⟩ := gx_bs h
      obtain ⟨eb, hkb⟩ := xk_isS hb
      obtain ⟨r9, hr9, h⟩ := gx_bs h
      refine gx_cV (As := []) (rest := []) (b := b10) hX (tX5_isBare w (gx_A X) (gx_l X) (b10) (σ)  hr9) (lw_V q712 q713 q714 q100 q715) ⟨rfl, dsX5_isBare⟩ (by decide) (Nat.le_of_ble_eq_true rfl) (xk_rc hX (ci := 5) (by decide) (by decide) hkb) (by rw [eb]; rfl) (gx_w8 gx_k0 (Nat.le_of_ble_eq_true rfl)) dX0_eat_39 ⟨Nat.le_refl _, Nat.le_refl _⟩ rfl ?_
      refine gx_if_eq (tgt := 89) hX dX0_eat_42 (by decide) h (fun h => ?_) (fun h => ?_)
      · refine gx_sub hX (lv' := [some (va_rf (some x0)), some (.int (x1)), some (.int (x2)), some (.int (x3)), none]) ⟨Or.inr rfl, ⟨Or.inr rfl, ⟨Or.inr rfl, ⟨Or.inr rfl, ⟨Or.inl rfl, trivial⟩⟩⟩⟩⟩ ?_
        exact tX0_eat_B89 hX ih h
      · refine gx_aload hX dX0_eat_45 rfl ?_
        refine xk_getiN hX 46 q553 rfl dX0_eat_47 h (fun v11 h => ?_)
        refine gx_iload_n hX dX0_eat_50 rfl ?_
        refine gx_icmp_eq (tgt := 57) hX dX0_eat_51 (by decide) h (fun h => ?_) (fun h => ?_)
        · refine gx_aload hX dX0_eat_57 rfl ?_
          refine xk_getrN hX 53 q575 rfl dX0_eat_59 h (fun v12 h => ?_)
          refine gx_ifnull (tgt := 75) hX dX0_eat_62 (by decide) h (fun h => ?_) (fun h => ?_)
          · exact tX0_eat_B75 hX ih h
          · refine gx_aload hX dX0_eat_65 rfl ?_
            refine xk_getrN hX 53 q575 rfl dX0_eat_67 h (fun v16 h => ?_)
            refine gx_iconst (v := 0) hX dX0_eat_70 (by decide) ?_
            refine gx_null hX dX0_eat_71 ?_
            obtain ⟨b18, hb, h⟩ := gx_bs h
            obtain ⟨eb, hkb⟩ := xk_isS hb
            obtain ⟨r17, hr17, h⟩ := gx_bs h
            refine gx_cV (As := [.int (0), va_rf (none)]) (rest := []) (b := b18) hX (tX4_become w (gx_A X) (gx_l X) (b18) (σ) (0) (none) hr17) (lw_V q707 q615 q616 q93 q617) ⟨rfl, dsX4_become⟩ (by decide) (Nat.le_of_ble_eq_true rfl) (xk_rc hX (ci := 4) (by decide) (by decide) hkb) (by rw [eb]; rfl) (gx_w8 gx_k0 (Nat.le_of_ble_eq_true rfl)) dX0_eat_72 ⟨Nat.le_refl _, Nat.le_refl _⟩ rfl ?_
            exact tX0_eat_B75 hX ih h
        · refine gx_goto (tgt := 89) hX dX0_eat_54 (by decide) ?_
          refine gx_sub hX (lv' := [some (va_rf (some x0)), some (.int (x1)), some (.int (x2)), some (.int (x3)), none]) ⟨Or.inr rfl, ⟨Or.inr rfl, ⟨Or.inr rfl, ⟨Or.inr rfl, ⟨Or.inl rfl, trivial⟩⟩⟩⟩⟩ ?_
          exact tX0_eat_B89 hX ih h
def fX0_eat (N : Nat) (x0 : Nat) (σ : xk_C) (x1 : Int32) : Option (xk_C × Int32) := (fX0_isCell  (x1)).bind fun r1 => if r1 = 0 then some (σ, (-1)) else fX0_eat_L13 N x0 N (σ) (x1) (0) (0)
set_option maxHeartbeats 4000000 in
theorem tX0_eat (w : gw_W) (A : Nat → Prop) (l : Launch) (N : Nat) (x0 : Nat) (σ : xk_C) (x1 : Int32) {r : xk_C × Int32} (h : fX0_eat N x0 σ x1 = some r) : gx_T (gw_I w A) A l yX0_eat iX0_eat 5 [va_rf (some x0), .int (x1)] (xk_P A w σ) 0 0 (xk_P A w r.1) (.returned (some (.int r.2))) := by
  refine gx_T.of (gw_I.inv w A) (by decide) ⟨rfl, rfl⟩ (gx_kR (gx_kI gx_k0)) (Nat.le_of_ble_eq_true rfl) (fun X hl hAx hX => ?_)
  subst hl
  subst hAx
  show gx_G X (xk_P (gx_A X) w (σ)) 0 0 [some (va_rf (some x0)), some (.int (x1)), none, none, none] 0 []
  unfold fX0_eat at h
  refine gx_iload_n hX dX0_eat_0 rfl ?_
  obtain ⟨r1, hr1, h⟩ := gx_bs h
  refine gx_cS (As := [.int (x1)]) (rest := []) hX (tX0_isCell w (gx_A X) (gx_l X) (xk_P (gx_A X) w (σ)) (x1) hr1) (lw_S q308 q309 q86 q310) dsX0_isCell (by decide) (Nat.le_of_ble_eq_true rfl) rfl (gx_w8 gx_k0 (Nat.le_of_ble_eq_true rfl)) dX0_eat_1 ⟨Nat.le_refl _, Nat.le_refl _⟩ rfl ?_
  refine gx_if_ne (tgt := 9) hX dX0_eat_4 (by decide) h (fun h => ?_) (fun h => ?_)
  · refine gx_iconst (v := (-1)) hX dX0_eat_7 (by decide) ?_
    cases h
    exact gx_iret hX rfl dX0_eat_8 rfl ⟨rfl, rfl⟩ (fun _ h => h)
  · refine gx_iconst (v := 0) hX dX0_eat_9 (by decide) ?_
    refine gx_istore_n hX dX0_eat_10 (Nat.le_of_ble_eq_true rfl) gx_c1i (lv' := [some (va_rf (some x0)), some (.int (x1)), some (.int (0)), none, none]) rfl ?_
    refine gx_iconst (v := 0) hX dX0_eat_11 (by decide) ?_
    refine gx_istore_n hX dX0_eat_12 (Nat.le_of_ble_eq_true rfl) gx_c1i (lv' := [some (va_rf (some x0)), some (.int (x1)), some (.int (0)), some (.int (0)), none]) rfl ?_
    exact tX0_eat_L13 hX  N _ _ _ _ h
abbrev iX0_feed : gx_M := (RX0, "feed", cX0_feed, 5, some .int)
theorem dsX0_feed : gx_ds yX0_feed 2 := by decide +kernel
def fX0_feed_L32 (N : Nat) (x0 : Nat)   : Nat → xk_C → Int64 → Int32 → Option (xk_C × Int32)
  | 0, _, _, _ => none
  | k + 1, σ, x1, x4 => if (x4) < 0 then (xk_gi (σ) 9 (some x0)).bind fun v3 => some (σ, v3) else (xk_gr (σ) 8 (some x0)).bind fun v4 => (xk_gi (σ) 9 (some x0)).bind fun v5 => (xk_pi (σ) 9 (some x0) ((v5) + (1))).bind fun σ6 => (xk_st (σ6) 1 (v4) (v5) ((((x1) >>> (((nI 8) * (x4)).toInt64 &&& 63)).toInt32).toInt8.toInt32)).bind fun σ7 => (fX0_feed_L32 N x0 k) (σ7) (x1) ((x4) + (-1))
set_option maxHeartbeats 4000000 in
theorem tX0_feed_L32 {w : gw_W} {X : gx_X} {N : Nat} {x0 : Nat} {r : xk_C × Int32} (hX : gx_O (gw_I w (gx_A X)) X iX0_feed 2 0 0 (xk_P (gx_A X) w r.1) (.returned (some (.int r.2))))  : ∀ (k : Nat) (σ : xk_C) (x1 : Int64) (x4 : Int32), fX0_feed_L32 N x0 k σ x1 x4 = some r → gx_G X (xk_P (gx_A X) w (σ)) 0 0 [some (va_rf (some x0)), some (.long (x1)), none, none, some (.int (x4))] 32 [] := by
  intro k
  induction k with
  | zero =>
    intro σ x1 x4 h
    unfold fX0_feed_L32 at h
    cases h
  | succ k ih =>
    intro σ x1 x4 h
    unfold fX0_feed_L32 at h
    refine gx_iload hX dX0_feed_32 rfl ?_
    refine gx_if_lt (tgt := 68) hX dX0_feed_34 (by decide) h (fun h => ?_) (fun h => ?_)
    · refine gx_aload_n hX dX0_feed_68 rfl ?_
      refine xk_geti hX 9 q229 (fun _ h => h) rfl dX0_feed_69 h (fun v3 h => ?_)
      cases h
      exact gx_iret hX rfl dX0_feed_72 rfl ⟨rfl, rfl⟩ (fun _ h => h)
    · refine gx_aload_n hX dX0_feed_37 rfl ?_
      refine xk_getr hX 8 q227 (fun _ h => h) rfl dX0_feed_38 h (fun v4 h => ?_)
      refine gx_aload_n hX dX0_feed_41 rfl ?_
      refine gx_dup hX dX0_feed_42 (gx_cat _) ?_
      refine xk_geti hX 9 q229 (fun _ h => h) rfl dX0_feed_43 h (fun v5 h => ?_)
      refine gx_dup_x1 hX dX0_feed_46 rfl (gx_cat _) ?_
      refine gx_iconst (v := 1) hX dX0_feed_47 (by decide) ?_
      refine gx_iadd hX dX0_feed_48 ?_
      refine xk_puti hX 9 xk_ty9 rfl q229 (fun _ h => h) rfl rfl dX0_feed_49 h (fun σ6 hτ h => ?_)
      refine gx_lload_n hX dX0_feed_52 rfl ?_
      refine gx_bipush (v := nI 8) hX dX0_feed_53 (by decide) ?_
      refine gx_iload hX dX0_feed_55 rfl ?_
      refine gx_imul hX dX0_feed_57 ?_
      refine gx_lshr hX dX0_feed_58 ?_
      refine gx_l2i hX dX0_feed_59 ?_
      refine gx_i2b hX dX0_feed_60 ?_
      refine xk_bastore hX dX0_feed_61 h (fun σ7 hτ h => ?_)
      refine gx_iinc (v := (-1)) hX dX0_feed_62 rfl (by decide) gx_c1n (lv' := [some (va_rf (some x0)), some (.long (x1)), none, none, some (.int ((x4) + (-1)))]) rfl ?_
      refine gx_goto (tgt := 32) hX dX0_feed_65 (by decide) ?_
      exact ih _ _ _ h
def fX0_feed (N : Nat) (x0 : Nat) (σ : xk_C) (x1 : Int64) (x3 : Int32) : Option (xk_C × Int32) := (fX0_in  (x3) (1) (nI 8)).bind fun r1 => if r1 = 0 then some (σ, (-2)) else (xk_gi (σ) 9 (some x0)).bind fun v2 => if ((v2) + (x3)) ≤ nI 120 then fX0_feed_L32 N x0 N (σ) (x1) ((x3) - (1)) else some (σ, (-4))
set_option maxHeartbeats 4000000 in
theorem tX0_feed (w : gw_W) (A : Nat → Prop) (l : Launch) (N : Nat) (x0 : Nat) (σ : xk_C) (x1 : Int64) (x3 : Int32) {r : xk_C × Int32} (h : fX0_feed N x0 σ x1 x3 = some r) : gx_T (gw_I w A) A l yX0_feed iX0_feed 2 [va_rf (some x0), .long (x1), .int (x3)] (xk_P A w σ) 0 0 (xk_P A w r.1) (.returned (some (.int r.2))) := by
  refine gx_T.ofL (gw_I.inv w A) (by decide) ⟨rfl, rfl⟩ rfl (fun X hl hAx hX => ?_)
  subst hl
  subst hAx
  show gx_G X (xk_P (gx_A X) w (σ)) 0 0 [some (va_rf (some x0)), some (.long (x1)), none, some (.int (x3)), none] 0 []
  unfold fX0_feed at h
  refine gx_iload_n hX dX0_feed_0 rfl ?_
  refine gx_iconst (v := 1) hX dX0_feed_1 (by decide) ?_
  refine gx_bipush (v := nI 8) hX dX0_feed_2 (by decide) ?_
  obtain ⟨r1, hr1, h⟩ := gx_bs h
  refine gx_cS (As := [.int (x3), .int (1), .int (nI 8)]) (rest := []) hX (tX0_in w (gx_A X) (gx_l X) (xk_P (gx_A X) w (σ)) (x3) (1) (nI 8) hr1) (lw_S q311 q312 q86 q313) dsX0_in (by decide) (Nat.le_of_ble_eq_true rfl) rfl (gx_w8 gx_k0 (Nat.le_of_ble_eq_true rfl)) dX0_feed_4 ⟨Nat.le_refl _, Nat.le_refl _⟩ rfl ?_
  refine gx_if_ne (tgt := 13) hX dX0_feed_7 (by decide) h (fun h => ?_) (fun h => ?_)
  · refine gx_bipush (v := (-2)) hX dX0_feed_10 (by decide) ?_
    cases h
    exact gx_iret hX rfl dX0_feed_12 rfl ⟨rfl, rfl⟩ (fun _ h => h)
  · refine gx_aload_n hX dX0_feed_13 rfl ?_
    refine xk_geti hX 9 q229 (fun _ h => h) rfl dX0_feed_14 h (fun v2 h => ?_)
    refine gx_iload_n hX dX0_feed_17 rfl ?_
    refine gx_iadd hX dX0_feed_18 ?_
    refine gx_bipush (v := nI 120) hX dX0_feed_19 (by decide) ?_
    refine gx_icmp_le (tgt := 27) hX dX0_feed_21 (by decide) h (fun h => ?_) (fun h => ?_)
    · refine gx_iload_n hX dX0_feed_27 rfl ?_
      refine gx_iconst (v := 1) hX dX0_feed_28 (by decide) ?_
      refine gx_isub hX dX0_feed_29 ?_
      refine gx_istore hX dX0_feed_30 (Nat.le_of_ble_eq_true rfl) gx_c1i (lv' := [some (va_rf (some x0)), some (.long (x1)), none, some (.int (x3)), some (.int ((x3) - (1)))]) rfl ?_
      refine gx_sub hX (lv' := [some (va_rf (some x0)), some (.long (x1)), none, none, some (.int ((x3) - (1)))]) ⟨Or.inr rfl, ⟨Or.inr rfl, ⟨Or.inr rfl, ⟨Or.inl rfl, ⟨Or.inr rfl, trivial⟩⟩⟩⟩⟩ ?_
      exact tX0_feed_L32 hX  N _ _ _ h
    · refine gx_bipush (v := (-4)) hX dX0_feed_24 (by decide) ?_
      cases h
      exact gx_iret hX rfl dX0_feed_26 rfl ⟨rfl, rfl⟩ (fun _ h => h)
abbrev iX13_init : gx_M := (RX13, "<init>", cX13_init, 3, none)
theorem dsX13_init : gx_ds yX13_init 2 := by decide +kernel
def fX13_init (x0 : Nat) (σ : xk_C) (x1 : Option Nat) (x2 : Int32) : Option (xk_C × Unit) := (xk_pr (σ) 69 (some x0) (x1)).bind fun σ1 => (xk_nw (σ1) 20).bind fun σ2 => (fJ2_init ((xk_n (σ1))) (σ2)).bind fun r3 => (xk_pr (r3.1) 66 (some x0) (some (xk_n (σ1)))).bind fun σ4 => (xk_na (σ4) 0 (nI 8)).bind fun σ5 => (xk_pr (σ5) 67 (some x0) (some (xk_n (σ4)))).bind fun σ6 => (xk_nw (σ6) 20).bind fun σ7 => (fJ2_init ((xk_n (σ6))) (σ7)).bind fun r8 => (xk_pr (r8.1) 68 (some x0) (some (xk_n (σ6)))).bind fun σ9 => (xk_pi (σ9) 65 (some x0) (x2)).bind fun σ10 => some (σ10, ())
set_option maxHeartbeats 4000000 in
theorem mX13_init {x0 : Nat} {σ : xk_C} {x1 : Option Nat} {x2 : Int32} : ∀ p, fX13_init x0 σ x1 x2 = some p → xk_n σ ≤ xk_n p.1 ∧ xk_s σ ≤ xk_s p.1 := fun r => show xk_lr r σ (fX13_init x0 σ x1 x2) from by
  unfold fX13_init
  exact (xk_lr_op xk_m_pr (fun _ => (xk_lr_op xk_m_nw (fun _ => (xk_lr_ca (mJ2_init) (fun _ => (xk_lr_op xk_m_pr (fun _ => (xk_lr_op xk_m_na (fun _ => (xk_lr_op xk_m_pr (fun _ => (xk_lr_op xk_m_nw (fun _ => (xk_lr_ca (mJ2_init) (fun _ => (xk_lr_op xk_m_pr (fun _ => (xk_lr_op xk_m_pi (fun _ => xk_lr_ret))))))))))))))))))))
set_option maxHeartbeats 4000000 in
theorem tX13_init (w : gw_W) (A : Nat → Prop) (l : Launch) (x0 : Nat) (σ : xk_C) (x1 : Option Nat) (x2 : Int32) {r : xk_C × Unit} (h : fX13_init x0 σ x1 x2 = some r) : gx_T (gw_I w A) A l yX13_init iX13_init 5 [va_rf (some x0), va_rf (x1), .int (x2)] (xk_P A w σ) (xk_n r.1 - xk_n σ) (xk_s r.1 - xk_s σ) (xk_P A w r.1) (.returned none) := by
  refine gx_T.of (gw_I.inv w A) (by decide) ⟨rfl, rfl⟩ (gx_kR (gx_kR (gx_kI gx_k0))) (Nat.le_of_ble_eq_true rfl) (fun X hl hAx hX => ?_)
  subst hl
  subst hAx
  show gx_G X (xk_P (gx_A X) w (σ)) 0 0 [some (va_rf (some x0)), some (va_rf (x1)), some (.int (x2))] 0 []
  have hu := mX13_init _ h
  unfold fX13_init at h
  refine xk_G0 (a := xk_n σ) (b := xk_s σ) ?_
  have hm : xk_n σ ≤ xk_n σ ∧ xk_s σ ≤ xk_s σ := ⟨Nat.le_refl _, Nat.le_refl _⟩
  refine gx_aload_n hX dX13_init_0 rfl ?_
  refine gx_aload_n hX dX13_init_1 rfl ?_
  refine xk_putrF hX 69 xk_ty69 (Or.inl ⟨_, rfl⟩) q747 rfl ⟨rfl, rfl, rfl⟩ dX13_init_2 h (fun σ1 hτ h => xk_Gt hτ ?_)
  have hm := xk_hme hm hτ
  have hu := xk_hue hu hτ
  refine gx_aload_n hX dX13_init_5 rfl ?_
  refine gx_obj (b := x0) hX ⟨q735, q127, q128⟩ (by decide) (gx_w8 gx_k0 (Nat.le_of_ble_eq_true rfl)) dX13_init_6 rfl ?_
  refine gx_aload_n hX dX13_init_9 rfl ?_
  refine xk_new hX 20 ⟨by decide, by decide⟩ ⟨q736, q130, q89⟩ dX13_init_10 h (fun σ2 hτ h => ?_)
  have hu := xk_use (C := σ2) h (xk_lr_ca (mJ2_init) (fun _ => (xk_lr_op xk_m_pr (fun _ => (xk_lr_op xk_m_na (fun _ => (xk_lr_op xk_m_pr (fun _ => (xk_lr_op xk_m_nw (fun _ => (xk_lr_ca (mJ2_init) (fun _ => (xk_lr_op xk_m_pr (fun _ => (xk_lr_op xk_m_pi (fun _ => xk_lr_ret))))))))))))))))
  refine ⟨xk_hfm hm hτ hu, xk_Gm hm hτ ?_⟩
  have hm := xk_hmm hm hτ
  refine gx_dup hX dX13_init_13 (gx_cat _) ?_
  obtain ⟨r3, hr3, h⟩ := gx_bs h
  have he := eJ2_init _ hr3
  refine gx_cI (As := []) (rest := [va_rf (some (xk_n (σ1))), va_rf (some x0)]) (b := (xk_n (σ1))) (C2 := RJ2) (nm2 := "<init>") hX (tJ2_init w (gx_A X) (gx_l X) ((xk_n (σ1))) (σ2)  hr3) (lw_meth q133) ⟨q89, q737, q132⟩ ⟨rfl, dsJ2_init⟩ (by decide) (Nat.le_of_ble_eq_true rfl) rfl (gx_w8 (gx_kR (gx_kR gx_k0)) (Nat.le_of_ble_eq_true rfl)) dX13_init_14 (xk_hfe hu) rfl (xk_Ge he ?_)
  have hm := xk_hme hm he
  have hu := xk_hue hu he
  refine xk_putrF hX 66 xk_ty66 (Or.inl ⟨_, rfl⟩) q740 rfl ⟨rfl, rfl, rfl⟩ dX13_init_17 h (fun σ4 hτ h => xk_Gt hτ ?_)
  have hm := xk_hme hm hτ
  have hu := xk_hue hu hτ
  refine gx_aload_n hX dX13_init_20 rfl ?_
  refine gx_bipush (v := nI 8) hX dX13_init_21 (by decide) ?_
  refine xk_newa (atype := .int) hX 0 ⟨by decide, rfl, by decide, rfl, fun _ => rfl⟩ q177 dX13_init_23 h (fun σ5 hτ h => ?_)
  have hu := xk_use (C := σ5) h (xk_lr_op xk_m_pr (fun _ => (xk_lr_op xk_m_nw (fun _ => (xk_lr_ca (mJ2_init) (fun _ => (xk_lr_op xk_m_pr (fun _ => (xk_lr_op xk_m_pi (fun _ => xk_lr_ret))))))))))
  refine ⟨xk_hfm hm hτ hu, xk_Gm hm hτ ?_⟩
  have hm := xk_hmm hm hτ
  refine xk_putrF hX 67 xk_ty67 (Or.inr ⟨_, rfl⟩) q742 rfl ⟨rfl, rfl, rfl⟩ dX13_init_25 h (fun σ6 hτ h => xk_Gt hτ ?_)
  have hm := xk_hme hm hτ
  have hu := xk_hue hu hτ
  refine gx_aload_n hX dX13_init_28 rfl ?_
  refine xk_new hX 20 ⟨by decide, by decide⟩ ⟨q736, q130, q89⟩ dX13_init_29 h (fun σ7 hτ h => ?_)
  have hu := xk_use (C := σ7) h (xk_lr_ca (mJ2_init) (fun _ => (xk_lr_op xk_m_pr (fun _ => (xk_lr_op xk_m_pi (fun _ => xk_lr_ret))))))
  refine ⟨xk_hfm hm hτ hu, xk_Gm hm hτ ?_⟩
  have hm := xk_hmm hm hτ
  refine gx_dup hX dX13_init_32 (gx_cat _) ?_
  obtain ⟨r8, hr8, h⟩ := gx_bs h
  have he := eJ2_init _ hr8
  refine gx_cI (As := []) (rest := [va_rf (some (xk_n (σ6))), va_rf (some x0)]) (b := (xk_n (σ6))) (C2 := RJ2) (nm2 := "<init>") hX (tJ2_init w (gx_A X) (gx_l X) ((xk_n (σ6))) (σ7)  hr8) (lw_meth q133) ⟨q89, q737, q132⟩ ⟨rfl, dsJ2_init⟩ (by decide) (Nat.le_of_ble_eq_true rfl) rfl (gx_w8 (gx_kR (gx_kR gx_k0)) (Nat.le_of_ble_eq_true rfl)) dX13_init_33 (xk_hfe hu) rfl (xk_Ge he ?_)
  have hm := xk_hme hm he
  have hu := xk_hue hu he
  refine xk_putrF hX 68 xk_ty68 (Or.inl ⟨_, rfl⟩) q744 rfl ⟨rfl, rfl, rfl⟩ dX13_init_36 h (fun σ9 hτ h => xk_Gt hτ ?_)
  have hm := xk_hme hm hτ
  have hu := xk_hue hu hτ
  refine gx_aload_n hX dX13_init_39 rfl ?_
  refine gx_iload_n hX dX13_init_40 rfl ?_
  refine xk_putiF hX 65 xk_ty65 rfl q738 rfl ⟨rfl, rfl, rfl⟩ dX13_init_41 h (fun σ10 hτ h => xk_Gt hτ ?_)
  have hm := xk_hme hm hτ
  have hu := xk_hue hu hτ
  cases h
  exact gx_vret hX rfl dX13_init_44 rfl ⟨rfl, rfl⟩ (fun _ h => h)
abbrev iX2_next : gx_M := (RX2, "next", cX2_next, 1, some .int)
theorem dsX2_next : gx_ds yX2_next 0 := by decide +kernel
def fX2_next (x0 : Nat) (σ : xk_C)  : Option (Int32) := (xk_gi (σ) 33 (some x0)).bind fun v1 => (xk_gr (σ) 36 (some x0)).bind fun v2 => (xk_gi (σ) 9 (v2)).bind fun v3 => if (v3) ≤ v1 then some ((-1)) else (xk_gr (σ) 36 (some x0)).bind fun v4 => (xk_gr (σ) 8 (v4)).bind fun v5 => (xk_gi (σ) 33 (some x0)).bind fun v6 => (xk_ld (σ) 1 (v5) (v6)).bind fun v7 => some (v7)
set_option maxHeartbeats 4000000 in
theorem tX2_next (w : gw_W) (A : Nat → Prop) (l : Launch) (x0 : Nat) (σ : xk_C)  {r : Int32} (h : fX2_next x0 σ = some r) : gx_T (gw_I w A) A l yX2_next iX2_next 1 [va_rf (some x0)] (xk_P A w σ) 0 0 (xk_P A w σ) (.returned (some (.int r))) := by
  refine gx_T.of (gw_I.inv w A) (by decide) ⟨rfl, rfl⟩ (gx_kR gx_k0) (Nat.le_of_ble_eq_true rfl) (fun X hl hAx hX => ?_)
  subst hl
  subst hAx
  show gx_G X (xk_P (gx_A X) w (σ)) 0 0 [some (va_rf (some x0))] 0 []
  unfold fX2_next at h
  refine gx_aload_n hX dX2_next_0 rfl ?_
  refine xk_geti hX 33 q188 (fun _ h => h) rfl dX2_next_1 h (fun v1 h => ?_)
  refine gx_aload_n hX dX2_next_4 rfl ?_
  refine xk_getr hX 36 q191 (fun _ h => h) rfl dX2_next_5 h (fun v2 h => ?_)
  refine xk_getiN hX 9 q228 rfl dX2_next_8 h (fun v3 h => ?_)
  refine gx_icmp_ge (tgt := 29) hX dX2_next_11 (by decide) h (fun h => ?_) (fun h => ?_)
  · refine gx_iconst (v := (-1)) hX dX2_next_29 (by decide) ?_
    cases h
    exact gx_iret hX rfl dX2_next_30 rfl ⟨rfl, rfl⟩ (fun _ h => h)
  · refine gx_aload_n hX dX2_next_14 rfl ?_
    refine xk_getr hX 36 q191 (fun _ h => h) rfl dX2_next_15 h (fun v4 h => ?_)
    refine xk_getrN hX 8 q226 rfl dX2_next_18 h (fun v5 h => ?_)
    refine gx_aload_n hX dX2_next_21 rfl ?_
    refine xk_geti hX 33 q188 (fun _ h => h) rfl dX2_next_22 h (fun v6 h => ?_)
    refine xk_baload hX dX2_next_25 h (fun v7 h => ?_)
    refine gx_goto (tgt := 30) hX dX2_next_26 (by decide) ?_
    cases h
    exact gx_iret hX rfl dX2_next_30 rfl ⟨rfl, rfl⟩ (fun _ h => h)
abbrev iX17_init : gx_M := (RX17, "<init>", cX17_init, 4, none)
theorem dsX17_init : gx_ds yX17_init 3 := by decide +kernel
def fX17_init (x0 : Nat) (σ : xk_C) (x1 : Option Nat) (x2 : Option Nat) (x3 : Int32) : Option (xk_C × Unit) := (xk_pr (σ) 81 (some x0) (x1)).bind fun σ1 => (xk_pr (σ1) 82 (some x0) (x2)).bind fun σ2 => (xk_pz (σ2) 83 (some x0) (x3)).bind fun σ3 => some (σ3, ())
set_option maxHeartbeats 4000000 in
theorem eX17_init {x0 : Nat} {σ : xk_C} {x1 : Option Nat} {x2 : Option Nat} {x3 : Int32} : ∀ p, fX17_init x0 σ x1 x2 x3 = some p → xk_n p.1 = xk_n σ ∧ xk_s p.1 = xk_s σ := fun r => show xk_er r σ (fX17_init x0 σ x1 x2 x3) from by
  unfold fX17_init
  exact (xk_er_op xk_e_pr (fun _ => (xk_er_op xk_e_pr (fun _ => (xk_er_op xk_e_pz (fun _ => xk_er_ret))))))
theorem mX17_init {x0 : Nat} {σ : xk_C} {x1 : Option Nat} {x2 : Option Nat} {x3 : Int32} : ∀ p, fX17_init x0 σ x1 x2 x3 = some p → xk_n σ ≤ xk_n p.1 ∧ xk_s σ ≤ xk_s p.1 := fun p h => xk_le_of (eX17_init p h)
set_option maxHeartbeats 4000000 in
theorem tX17_init (w : gw_W) (A : Nat → Prop) (l : Launch) (x0 : Nat) (σ : xk_C) (x1 : Option Nat) (x2 : Option Nat) (x3 : Int32) {r : xk_C × Unit} (h : fX17_init x0 σ x1 x2 x3 = some r) : gx_T (gw_I w A) A l yX17_init iX17_init 2 [va_rf (some x0), va_rf (x1), va_rf (x2), .int (x3)] (xk_P A w σ) 0 0 (xk_P A w r.1) (.returned none) := by
  refine gx_T.of (gw_I.inv w A) (by decide) ⟨rfl, rfl⟩ (gx_kR (gx_kR (gx_kR (gx_kI gx_k0)))) (Nat.le_of_ble_eq_true rfl) (fun X hl hAx hX => ?_)
  subst hl
  subst hAx
  show gx_G X (xk_P (gx_A X) w (σ)) 0 0 [some (va_rf (some x0)), some (va_rf (x1)), some (va_rf (x2)), some (.int (x3))] 0 []
  unfold fX17_init at h
  refine gx_aload_n hX dX17_init_0 rfl ?_
  refine gx_obj (b := x0) hX ⟨q891, q127, q128⟩ (by decide) (gx_w8 gx_k0 (Nat.le_of_ble_eq_true rfl)) dX17_init_1 rfl ?_
  refine gx_aload_n hX dX17_init_4 rfl ?_
  refine gx_aload_n hX dX17_init_5 rfl ?_
  refine xk_putrF hX 81 xk_ty81 (Or.inl ⟨_, rfl⟩) q892 rfl ⟨rfl, rfl, rfl⟩ dX17_init_6 h (fun σ1 hτ h => ?_)
  refine gx_aload_n hX dX17_init_9 rfl ?_
  refine gx_aload_n hX dX17_init_10 rfl ?_
  refine xk_putrF hX 82 xk_ty82 (Or.inl ⟨_, rfl⟩) q893 rfl ⟨rfl, rfl, rfl⟩ dX17_init_11 h (fun σ2 hτ h => ?_)
  refine gx_aload_n hX dX17_init_14 rfl ?_
  refine gx_iload_n hX dX17_init_15 rfl ?_
  refine xk_putzF hX 83 xk_ty83 rfl q894 rfl ⟨rfl, rfl, rfl⟩ dX17_init_16 h (fun σ3 hτ h => ?_)
  cases h
  exact gx_vret hX rfl dX17_init_19 rfl ⟨rfl, rfl⟩ (fun _ h => h)
abbrev iX16_init : gx_M := (RX16, "<init>", cX16_init, 4, none)
theorem dsX16_init : gx_ds yX16_init 3 := by decide +kernel
def fX16_init (x0 : Nat) (σ : xk_C) (x1 : Int32) (x2 : Int32) (x3 : Int32) : Option (xk_C × Unit) := (xk_pi (σ) 78 (some x0) (x1)).bind fun σ1 => (xk_pi (σ1) 79 (some x0) (x2)).bind fun σ2 => (xk_pi (σ2) 80 (some x0) (x3)).bind fun σ3 => some (σ3, ())
set_option maxHeartbeats 4000000 in
theorem eX16_init {x0 : Nat} {σ : xk_C} {x1 : Int32} {x2 : Int32} {x3 : Int32} : ∀ p, fX16_init x0 σ x1 x2 x3 = some p → xk_n p.1 = xk_n σ ∧ xk_s p.1 = xk_s σ := fun r => show xk_er r σ (fX16_init x0 σ x1 x2 x3) from by
  unfold fX16_init
  exact (xk_er_op xk_e_pi (fun _ => (xk_er_op xk_e_pi (fun _ => (xk_er_op xk_e_pi (fun _ => xk_er_ret))))))
theorem mX16_init {x0 : Nat} {σ : xk_C} {x1 : Int32} {x2 : Int32} {x3 : Int32} : ∀ p, fX16_init x0 σ x1 x2 x3 = some p → xk_n σ ≤ xk_n p.1 ∧ xk_s σ ≤ xk_s p.1 := fun p h => xk_le_of (eX16_init p h)
set_option maxHeartbeats 4000000 in
theorem tX16_init (w : gw_W) (A : Nat → Prop) (l : Launch) (x0 : Nat) (σ : xk_C) (x1 : Int32) (x2 : Int32) (x3 : Int32) {r : xk_C × Unit} (h : fX16_init x0 σ x1 x2 x3 = some r) : gx_T (gw_I w A) A l yX16_init iX16_init 2 [va_rf (some x0), .int (x1), .int (x2), .int (x3)] (xk_P A w σ) 0 0 (xk_P A w r.1) (.returned none) := by
  refine gx_T.of (gw_I.inv w A) (by decide) ⟨rfl, rfl⟩ (gx_kR (gx_kI (gx_kI (gx_kI gx_k0)))) (Nat.le_of_ble_eq_true rfl) (fun X hl hAx hX => ?_)
  subst hl
  subst hAx
  show gx_G X (xk_P (gx_A X) w (σ)) 0 0 [some (va_rf (some x0)), some (.int (x1)), some (.int (x2)), some (.int (x3))] 0 []
  unfold fX16_init at h
  refine gx_aload_n hX dX16_init_0 rfl ?_
  refine gx_obj (b := x0) hX ⟨q873, q127, q128⟩ (by decide) (gx_w8 gx_k0 (Nat.le_of_ble_eq_true rfl)) dX16_init_1 rfl ?_
  refine gx_aload_n hX dX16_init_4 rfl ?_
  refine gx_iload_n hX dX16_init_5 rfl ?_
  refine xk_putiF hX 78 xk_ty78 rfl q874 rfl ⟨rfl, rfl, rfl⟩ dX16_init_6 h (fun σ1 hτ h => ?_)
  refine gx_aload_n hX dX16_init_9 rfl ?_
  refine gx_iload_n hX dX16_init_10 rfl ?_
  refine xk_putiF hX 79 xk_ty79 rfl q875 rfl ⟨rfl, rfl, rfl⟩ dX16_init_11 h (fun σ2 hτ h => ?_)
  refine gx_aload_n hX dX16_init_14 rfl ?_
  refine gx_iload_n hX dX16_init_15 rfl ?_
  refine xk_puti hX 80 xk_ty80 rfl q876 (fun _ h => h) rfl rfl dX16_init_16 h (fun σ3 hτ h => ?_)
  cases h
  exact gx_vret hX rfl dX16_init_19 rfl ⟨rfl, rfl⟩ (fun _ h => h)
abbrev iX15_init : gx_M := (RX15, "<init>", cX15_init, 2, none)
theorem dsX15_init : gx_ds yX15_init 1 := by decide +kernel
def fX15_init (x0 : Nat) (σ : xk_C) (x1 : Option Nat) : Option (xk_C × Unit) := (xk_pr (σ) 77 (some x0) (x1)).bind fun σ1 => some (σ1, ())
set_option maxHeartbeats 4000000 in
theorem eX15_init {x0 : Nat} {σ : xk_C} {x1 : Option Nat} : ∀ p, fX15_init x0 σ x1 = some p → xk_n p.1 = xk_n σ ∧ xk_s p.1 = xk_s σ := fun r => show xk_er r σ (fX15_init x0 σ x1) from by
  unfold fX15_init
  exact (xk_er_op xk_e_pr (fun _ => xk_er_ret))
theorem mX15_init {x0 : Nat} {σ : xk_C} {x1 : Option Nat} : ∀ p, fX15_init x0 σ x1 = some p → xk_n σ ≤ xk_n p.1 ∧ xk_s σ ≤ xk_s p.1 := fun p h => xk_le_of (eX15_init p h)
set_option maxHeartbeats 4000000 in
theorem tX15_init (w : gw_W) (A : Nat → Prop) (l : Launch) (x0 : Nat) (σ : xk_C) (x1 : Option Nat) {r : xk_C × Unit} (h : fX15_init x0 σ x1 = some r) : gx_T (gw_I w A) A l yX15_init iX15_init 2 [va_rf (some x0), va_rf (x1)] (xk_P A w σ) 0 0 (xk_P A w r.1) (.returned none) := by
  refine gx_T.of (gw_I.inv w A) (by decide) ⟨rfl, rfl⟩ (gx_kR (gx_kR gx_k0)) (Nat.le_of_ble_eq_true rfl) (fun X hl hAx hX => ?_)
  subst hl
  subst hAx
  show gx_G X (xk_P (gx_A X) w (σ)) 0 0 [some (va_rf (some x0)), some (va_rf (x1))] 0 []
  unfold fX15_init at h
  refine gx_aload_n hX dX15_init_0 rfl ?_
  refine gx_obj (b := x0) hX ⟨q859, q127, q128⟩ (by decide) (gx_w8 gx_k0 (Nat.le_of_ble_eq_true rfl)) dX15_init_1 rfl ?_
  refine gx_aload_n hX dX15_init_4 rfl ?_
  refine gx_aload_n hX dX15_init_5 rfl ?_
  refine xk_putrF hX 77 xk_ty77 (Or.inl ⟨_, rfl⟩) q860 rfl ⟨rfl, rfl, rfl⟩ dX15_init_6 h (fun σ1 hτ h => ?_)
  cases h
  exact gx_vret hX rfl dX15_init_9 rfl ⟨rfl, rfl⟩ (fun _ h => h)
abbrev iX14_init : gx_M := (RX14, "<init>", cX14_init, 2, none)
theorem dsX14_init : gx_ds yX14_init 1 := by decide +kernel
def fX14_init (x0 : Nat) (σ : xk_C) (x1 : Int32) : Option (xk_C × Unit) := (fJ9_init (x0) (σ) (none) (none) (0) (0)).bind fun r1 => (xk_pi (r1.1) 76 (some x0) (x1)).bind fun σ2 => some (σ2, ())
set_option maxHeartbeats 4000000 in
theorem eX14_init {x0 : Nat} {σ : xk_C} {x1 : Int32} : ∀ p, fX14_init x0 σ x1 = some p → xk_n p.1 = xk_n σ ∧ xk_s p.1 = xk_s σ := fun r => show xk_er r σ (fX14_init x0 σ x1) from by
  unfold fX14_init
  exact (xk_er_ca (eJ9_init) (fun _ => (xk_er_op xk_e_pi (fun _ => xk_er_ret))))
theorem mX14_init {x0 : Nat} {σ : xk_C} {x1 : Int32} : ∀ p, fX14_init x0 σ x1 = some p → xk_n σ ≤ xk_n p.1 ∧ xk_s σ ≤ xk_s p.1 := fun p h => xk_le_of (eX14_init p h)
set_option maxHeartbeats 4000000 in
theorem tX14_init (w : gw_W) (A : Nat → Prop) (l : Launch) (x0 : Nat) (σ : xk_C) (x1 : Int32) {r : xk_C × Unit} (h : fX14_init x0 σ x1 = some r) : gx_T (gw_I w A) A l yX14_init iX14_init 4 [va_rf (some x0), .int (x1)] (xk_P A w σ) 0 0 (xk_P A w r.1) (.returned none) := by
  refine gx_T.of (gw_I.inv w A) (by decide) ⟨rfl, rfl⟩ (gx_kR (gx_kI gx_k0)) (Nat.le_of_ble_eq_true rfl) (fun X hl hAx hX => ?_)
  subst hl
  subst hAx
  show gx_G X (xk_P (gx_A X) w (σ)) 0 0 [some (va_rf (some x0)), some (.int (x1))] 0 []
  unfold fX14_init at h
  refine gx_aload_n hX dX14_init_0 rfl ?_
  refine gx_null hX dX14_init_1 ?_
  refine gx_null hX dX14_init_2 ?_
  refine gx_iconst (v := 0) hX dX14_init_3 (by decide) ?_
  refine gx_iconst (v := 0) hX dX14_init_4 (by decide) ?_
  obtain ⟨r1, hr1, h⟩ := gx_bs h
  refine gx_cI (As := [va_rf (none), va_rf (none), .int (0), .int (0)]) (rest := []) (b := x0) (C2 := RJ9) (nm2 := "<init>") hX (tJ9_init w (gx_A X) (gx_l X) (x0) (σ) (none) (none) (0) (0) hr1) (lw_meth q813) ⟨q110, q811, q812⟩ ⟨rfl, dsJ9_init⟩ (by decide) (Nat.le_of_ble_eq_true rfl) rfl (gx_w8 gx_k0 (Nat.le_of_ble_eq_true rfl)) dX14_init_5 ⟨Nat.le_refl _, Nat.le_refl _⟩ rfl ?_
  refine gx_aload_n hX dX14_init_8 rfl ?_
  refine gx_iload_n hX dX14_init_9 rfl ?_
  refine xk_putiF hX 76 xk_ty76 rfl q817 rfl ⟨rfl, rfl, rfl⟩ dX14_init_10 h (fun σ2 hτ h => ?_)
  cases h
  exact gx_vret hX rfl dX14_init_13 rfl ⟨rfl, rfl⟩ (fun _ h => h)
abbrev iX2_number : gx_M := (RX2, "number", cX2_number, 3, some .int)
theorem dsX2_number : gx_ds yX2_number 0 := by decide +kernel
def fX2_number_B18 (N : Nat) (x0 : Nat)   (σ : xk_C) : Option (xk_C × (Nat ⊕ Int32)) := (xk_nw (σ) 14).bind fun σ3 => (xk_gi (σ3) 33 (some x0)).bind fun v4 => (fX14_init ((xk_n (σ))) (σ3) (v4)).bind fun r5 => some (r5.1, .inl ((xk_n (σ))))
set_option maxHeartbeats 4000000 in
theorem lX2_number_B18 {r : xk_C × (Nat ⊕ Int32)} {N : Nat} {x0 : Nat}   {σ : xk_C} : xk_lr r σ (fX2_number_B18 N x0 σ) := by
  unfold fX2_number_B18
  exact (xk_lr_op xk_m_nw (fun _ => (xk_lr_rd (fun _ => (xk_lr_ca (mX14_init) (fun _ => xk_lr_ret))))))
set_option maxHeartbeats 4000000 in
theorem tX2_number_B18 {w : gw_W} {X : gx_X} {N : Nat} {x0 : Nat} {n0 s0 : Nat} {r : xk_C × (Nat ⊕ Int32)} (hX : gx_O (gw_I w (gx_A X)) X iX2_number 5 (xk_n r.1 - n0) (xk_s r.1 - s0) (xk_P (gx_A X) w r.1) (xk_oI r.2)) (hE : (gx_c X).exceptionTable.isEmpty = true)  {σ : xk_C} (hm : n0 ≤ xk_n σ ∧ s0 ≤ xk_s σ) (h : fX2_number_B18 N x0 σ = some r) : gx_G X (xk_P (gx_A X) w (σ)) (xk_n (σ) - n0) (xk_s (σ) - s0) [some (va_rf (some x0)), none, none] 18 [] := by
  have hu := lX2_number_B18 (r := r)  h
  unfold fX2_number_B18 at h
  refine xk_new hX 14 ⟨by decide, by decide⟩ ⟨q771, q772, q111⟩ dX2_number_18 h (fun σ3 hτ h => ?_)
  have hu := xk_use (C := σ3) h (xk_lr_rd (fun _ => (xk_lr_ca (mX14_init) (fun _ => xk_lr_ret))))
  refine ⟨xk_hfm hm hτ hu, xk_Gm hm hτ ?_⟩
  have hm := xk_hmm hm hτ
  refine gx_dup hX dX2_number_21 (gx_cat _) ?_
  refine gx_aload_n hX dX2_number_22 rfl ?_
  refine xk_geti hX 33 q188 (fun _ h => h) rfl dX2_number_23 h (fun v4 h => ?_)
  obtain ⟨r5, hr5, h⟩ := gx_bs h
  have he := eX14_init _ hr5
  refine gx_cI (As := [.int (v4)]) (rest := [va_rf (some (xk_n (σ)))]) (b := (xk_n (σ))) (C2 := RX14) (nm2 := "<init>") hX (tX14_init w (gx_A X) (gx_l X) ((xk_n (σ))) (σ3) (v4) hr5) (lw_meth q810) ⟨q111, q808, q809⟩ ⟨rfl, dsX14_init⟩ (by decide) (Nat.le_of_ble_eq_true rfl) rfl (gx_w8 (gx_kR gx_k0) (Nat.le_of_ble_eq_true rfl)) dX2_number_26 (xk_hfe hu) rfl (xk_Ge he ?_)
  have hm := xk_hme hm he
  have hu := xk_hue hu he
  cases h
  exact gx_athrow hX hE dX2_number_29 rfl ⟨rfl, rfl⟩ (fun _ h => h)
def fX2_number_L55 (N : Nat) (x0 : Nat)   : Nat → xk_C → Int32 → Int32 → Option (xk_C × (Nat ⊕ Int32))
  | 0, _, _, _ => none
  | k + 1, σ, x1, x2 => if (3) ≤ x2 then some (σ, .inr (x1)) else if (x1) ≤ 0 then some (σ, .inr (x1)) else (xk_is (σ) 3 (some x0)).bind fun b14 => (fX2_next (b14) (σ)).bind fun r13 => if (r13) < nI 48 then some (σ, .inr (x1)) else (xk_is (σ) 3 (some x0)).bind fun b16 => (fX2_next (b16) (σ)).bind fun r15 => if (nI 57) < r15 then some (σ, .inr (x1)) else (xk_gr (σ) 36 (some x0)).bind fun v17 => (xk_gr (σ) 8 (v17)).bind fun v18 => (xk_gi (σ) 33 (some x0)).bind fun v19 => (xk_pi (σ) 33 (some x0) ((v19) + (1))).bind fun σ20 => (xk_ld (σ20) 1 (v18) (v19)).bind fun v21 => (fX2_number_L55 N x0 k) (σ20) ((((nI 10) * (x1)) + (v21)) - (nI 48)) ((x2) + 1)
set_option maxHeartbeats 4000000 in
theorem lX2_number_L55 {r : xk_C × (Nat ⊕ Int32)} {N : Nat} {x0 : Nat}   : ∀ (k : Nat) (σ : xk_C) (x1 : Int32) (x2 : Int32), xk_lr r σ (fX2_number_L55 N x0 k σ x1 x2) := by
  intro k
  induction k with
  | zero =>
    intro σ x1 x2
    unfold fX2_number_L55
    exact xk_lr_none
  | succ k hL55 =>
    intro σ x1 x2
    unfold fX2_number_L55
    exact (xk_lr_ite xk_lr_ret (xk_lr_ite xk_lr_ret (xk_lr_rd (fun _ => (xk_lr_rd (fun _ => (xk_lr_ite xk_lr_ret (xk_lr_rd (fun _ => (xk_lr_rd (fun _ => (xk_lr_ite xk_lr_ret (xk_lr_rd (fun _ => (xk_lr_rd (fun _ => (xk_lr_rd (fun _ => (xk_lr_op xk_m_pi (fun _ => (xk_lr_rd (fun _ => (hL55 _ _ _)))))))))))))))))))))))
set_option maxHeartbeats 4000000 in
theorem tX2_number_L55 {w : gw_W} {X : gx_X} {N : Nat} {x0 : Nat} {n0 s0 : Nat} {r : xk_C × (Nat ⊕ Int32)} (hX : gx_O (gw_I w (gx_A X)) X iX2_number 5 (xk_n r.1 - n0) (xk_s r.1 - s0) (xk_P (gx_A X) w r.1) (xk_oI r.2)) (hE : (gx_c X).exceptionTable.isEmpty = true)  : ∀ (k : Nat) (σ : xk_C) (x1 : Int32) (x2 : Int32), (n0 ≤ xk_n σ ∧ s0 ≤ xk_s σ) → fX2_number_L55 N x0 k σ x1 x2 = some r → gx_G X (xk_P (gx_A X) w (σ)) (xk_n (σ) - n0) (xk_s (σ) - s0) [some (va_rf (some x0)), some (.int (x1)), some (.int (x2))] 55 [] := by
  intro k
  induction k with
  | zero =>
    intro σ x1 x2 hm h
    unfold fX2_number_L55 at h
    cases h
  | succ k ih =>
    intro σ x1 x2 hm h
    have hu := lX2_number_L55 (r := r)  (k + 1) _ _ _ h
    unfold fX2_number_L55 at h
    have hL55 : ∀ (σ : xk_C) (x1 : Int32) (x2 : Int32), xk_lr r σ (fX2_number_L55 N x0 k σ x1 x2) := fun σ x1 x2 => lX2_number_L55  k σ x1 x2
    refine gx_iload_n hX dX2_number_55 rfl ?_
    refine gx_iconst (v := 3) hX dX2_number_56 (by decide) ?_
    refine gx_icmp_ge (tgt := 116) hX dX2_number_57 (by decide) h (fun h => ?_) (fun h => ?_)
    · refine gx_iload_n hX dX2_number_116 rfl ?_
      cases h
      exact gx_iret hX rfl dX2_number_117 rfl ⟨rfl, rfl⟩ (fun _ h => h)
    · refine gx_iload_n hX dX2_number_60 rfl ?_
      refine gx_if_le (tgt := 116) hX dX2_number_61 (by decide) h (fun h => ?_) (fun h => ?_)
      · refine gx_iload_n hX dX2_number_116 rfl ?_
        cases h
        exact gx_iret hX rfl dX2_number_117 rfl ⟨rfl, rfl⟩ (fun _ h => h)
      · refine gx_aload_n hX dX2_number_64 rfl ?_
        obtain ⟨b14, hb, h⟩ := gx_bs h
        obtain ⟨eb, hkb⟩ := xk_isS hb
        obtain ⟨r13, hr13, h⟩ := gx_bs h
        refine gx_cV (As := []) (rest := []) (b := b14) hX (tX2_next w (gx_A X) (gx_l X) (b14) (σ)  hr13) (lw_V q767 q769 qs9 q91 q770) ⟨rfl, dsX2_next⟩ (by decide) (Nat.le_of_ble_eq_true rfl) (xk_rc hX (ci := 2) (by decide) (by decide) hkb) (by rw [eb]; rfl) (gx_w8 gx_k0 (Nat.le_of_ble_eq_true rfl)) dX2_number_65 (xk_hfe hu) rfl (xk_Gz ?_)
        refine gx_bipush (v := nI 48) hX dX2_number_68 (by decide) ?_
        refine gx_icmp_lt (tgt := 116) hX dX2_number_70 (by decide) h (fun h => ?_) (fun h => ?_)
        · refine gx_iload_n hX dX2_number_116 rfl ?_
          cases h
          exact gx_iret hX rfl dX2_number_117 rfl ⟨rfl, rfl⟩ (fun _ h => h)
        · refine gx_aload_n hX dX2_number_73 rfl ?_
          obtain ⟨b16, hb, h⟩ := gx_bs h
          obtain ⟨eb, hkb⟩ := xk_isS hb
          obtain ⟨r15, hr15, h⟩ := gx_bs h
          refine gx_cV (As := []) (rest := []) (b := b16) hX (tX2_next w (gx_A X) (gx_l X) (b16) (σ)  hr15) (lw_V q767 q769 qs9 q91 q770) ⟨rfl, dsX2_next⟩ (by decide) (Nat.le_of_ble_eq_true rfl) (xk_rc hX (ci := 2) (by decide) (by decide) hkb) (by rw [eb]; rfl) (gx_w8 gx_k0 (Nat.le_of_ble_eq_true rfl)) dX2_number_74 (xk_hfe hu) rfl (xk_Gz ?_)
          refine gx_bipush (v := nI 57) hX dX2_number_77 (by decide) ?_
          refine gx_icmp_gt (tgt := 116) hX dX2_number_79 (by decide) h (fun h => ?_) (fun h => ?_)
          · refine gx_iload_n hX dX2_number_116 rfl ?_
            cases h
            exact gx_iret hX rfl dX2_number_117 rfl ⟨rfl, rfl⟩ (fun _ h => h)
          · refine gx_bipush (v := nI 10) hX dX2_number_82 (by decide) ?_
            refine gx_iload_n hX dX2_number_84 rfl ?_
            refine gx_imul hX dX2_number_85 ?_
            refine gx_aload_n hX dX2_number_86 rfl ?_
            refine xk_getr hX 36 q191 (fun _ h => h) rfl dX2_number_87 h (fun v17 h => ?_)
            refine xk_getrN hX 8 q226 rfl dX2_number_90 h (fun v18 h => ?_)
            refine gx_aload_n hX dX2_number_93 rfl ?_
            refine gx_dup hX dX2_number_94 (gx_cat _) ?_
            refine xk_geti hX 33 q188 (fun _ h => h) rfl dX2_number_95 h (fun v19 h => ?_)
            refine gx_dup_x1 hX dX2_number_98 rfl (gx_cat _) ?_
            refine gx_iconst (v := 1) hX dX2_number_99 (by decide) ?_
            refine gx_iadd hX dX2_number_100 ?_
            refine xk_puti hX 33 xk_ty33 rfl q188 (fun _ h => h) rfl rfl dX2_number_101 h (fun σ20 hτ h => xk_Gt hτ ?_)
            have hm := xk_hme hm hτ
            have hu := xk_hue hu hτ
            refine xk_baload hX dX2_number_104 h (fun v21 h => ?_)
            refine gx_iadd hX dX2_number_105 ?_
            refine gx_bipush (v := nI 48) hX dX2_number_106 (by decide) ?_
            refine gx_isub hX dX2_number_108 ?_
            refine gx_istore_n hX dX2_number_109 (Nat.le_of_ble_eq_true rfl) gx_c1r (lv' := [some (va_rf (some x0)), some (.int ((((nI 10) * (x1)) + (v21)) - (nI 48))), some (.int (x2))]) rfl ?_
            refine gx_iinc (v := 1) hX dX2_number_110 rfl (by decide) gx_c1i (lv' := [some (va_rf (some x0)), some (.int ((((nI 10) * (x1)) + (v21)) - (nI 48))), some (.int ((x2) + 1))]) rfl ?_
            refine gx_goto (tgt := 55) hX dX2_number_113 (by decide) ?_
            exact ih _ _ _ hm h
def fX2_number (N : Nat) (x0 : Nat) (σ : xk_C)  : Option (xk_C × (Nat ⊕ Int32)) := (xk_is (σ) 3 (some x0)).bind fun b2 => (fX2_next (b2) (σ)).bind fun r1 => if (r1) < nI 48 then fX2_number_B18 N x0 (σ) else (xk_is (σ) 3 (some x0)).bind fun b7 => (fX2_next (b7) (σ)).bind fun r6 => if (r6) ≤ nI 57 then (xk_gr (σ) 36 (some x0)).bind fun v8 => (xk_gr (σ) 8 (v8)).bind fun v9 => (xk_gi (σ) 33 (some x0)).bind fun v10 => (xk_pi (σ) 33 (some x0) ((v10) + (1))).bind fun σ11 => (xk_ld (σ11) 1 (v9) (v10)).bind fun v12 => fX2_number_L55 N x0 N (σ11) ((v12) - (nI 48)) (1) else fX2_number_B18 N x0 (σ)
set_option maxHeartbeats 4000000 in
theorem mX2_number {N : Nat} {x0 : Nat} {σ : xk_C}  : ∀ p, fX2_number N x0 σ = some p → xk_n σ ≤ xk_n p.1 ∧ xk_s σ ≤ xk_s p.1 := fun r => show xk_lr r σ (fX2_number N x0 σ) from by
  unfold fX2_number
  exact (xk_lr_rd (fun _ => (xk_lr_rd (fun _ => (xk_lr_ite (lX2_number_B18 ) (xk_lr_rd (fun _ => (xk_lr_rd (fun _ => (xk_lr_ite (xk_lr_rd (fun _ => (xk_lr_rd (fun _ => (xk_lr_rd (fun _ => (xk_lr_op xk_m_pi (fun _ => (xk_lr_rd (fun _ => (lX2_number_L55  N _ _ _))))))))))) (lX2_number_B18 )))))))))))
set_option maxHeartbeats 4000000 in
theorem tX2_number (w : gw_W) (A : Nat → Prop) (l : Launch) (N : Nat) (x0 : Nat) (σ : xk_C)  {r : xk_C × (Nat ⊕ Int32)} (h : fX2_number N x0 σ = some r) : gx_TG (gw_I w A) A l yX2_number iX2_number 5 [va_rf (some x0)] (xk_P A w σ) (xk_n r.1 - xk_n σ) (xk_s r.1 - xk_s σ) (xk_P A w r.1) (xk_oI r.2) := by
  refine gx_TG.of (gw_I.inv w A) (by decide) ⟨rfl, rfl⟩ (gx_kR gx_k0) (Nat.le_of_ble_eq_true rfl) (fun X hl hAx hX hE => ?_)
  subst hl
  subst hAx
  show gx_G X (xk_P (gx_A X) w (σ)) 0 0 [some (va_rf (some x0)), none, none] 0 []
  have hu := mX2_number _ h
  unfold fX2_number at h
  refine xk_G0 (a := xk_n σ) (b := xk_s σ) ?_
  have hm : xk_n σ ≤ xk_n σ ∧ xk_s σ ≤ xk_s σ := ⟨Nat.le_refl _, Nat.le_refl _⟩
  refine gx_aload_n hX dX2_number_0 rfl ?_
  obtain ⟨b2, hb, h⟩ := gx_bs h
  obtain ⟨eb, hkb⟩ := xk_isS hb
  obtain ⟨r1, hr1, h⟩ := gx_bs h
  refine gx_cV (As := []) (rest := []) (b := b2) hX (tX2_next w (gx_A X) (gx_l X) (b2) (σ)  hr1) (lw_V q767 q769 qs9 q91 q770) ⟨rfl, dsX2_next⟩ (by decide) (Nat.le_of_ble_eq_true rfl) (xk_rc hX (ci := 2) (by decide) (by decide) hkb) (by rw [eb]; rfl) (gx_w8 gx_k0 (Nat.le_of_ble_eq_true rfl)) dX2_number_1 (xk_hfe hu) rfl (xk_Gz ?_)
  refine gx_bipush (v := nI 48) hX dX2_number_4 (by decide) ?_
  refine gx_icmp_lt (tgt := 18) hX dX2_number_6 (by decide) h (fun h => ?_) (fun h => ?_)
  · exact tX2_number_B18 hX hE  hm h
  · refine gx_aload_n hX dX2_number_9 rfl ?_
    obtain ⟨b7, hb, h⟩ := gx_bs h
    obtain ⟨eb, hkb⟩ := xk_isS hb
    obtain ⟨r6, hr6, h⟩ := gx_bs h
    refine gx_cV (As := []) (rest := []) (b := b7) hX (tX2_next w (gx_A X) (gx_l X) (b7) (σ)  hr6) (lw_V q767 q769 qs9 q91 q770) ⟨rfl, dsX2_next⟩ (by decide) (Nat.le_of_ble_eq_true rfl) (xk_rc hX (ci := 2) (by decide) (by decide) hkb) (by rw [eb]; rfl) (gx_w8 gx_k0 (Nat.le_of_ble_eq_true rfl)) dX2_number_10 (xk_hfe hu) rfl (xk_Gz ?_)
    refine gx_bipush (v := nI 57) hX dX2_number_13 (by decide) ?_
    refine gx_icmp_le (tgt := 30) hX dX2_number_15 (by decide) h (fun h => ?_) (fun h => ?_)
    · refine gx_aload_n hX dX2_number_30 rfl ?_
      refine xk_getr hX 36 q191 (fun _ h => h) rfl dX2_number_31 h (fun v8 h => ?_)
      refine xk_getrN hX 8 q226 rfl dX2_number_34 h (fun v9 h => ?_)
      refine gx_aload_n hX dX2_number_37 rfl ?_
      refine gx_dup hX dX2_number_38 (gx_cat _) ?_
      refine xk_geti hX 33 q188 (fun _ h => h) rfl dX2_number_39 h (fun v10 h => ?_)
      refine gx_dup_x1 hX dX2_number_42 rfl (gx_cat _) ?_
      refine gx_iconst (v := 1) hX dX2_number_43 (by decide) ?_
      refine gx_iadd hX dX2_number_44 ?_
      refine xk_puti hX 33 xk_ty33 rfl q188 (fun _ h => h) rfl rfl dX2_number_45 h (fun σ11 hτ h => xk_Gt hτ ?_)
      have hm := xk_hme hm hτ
      have hu := xk_hue hu hτ
      refine xk_baload hX dX2_number_48 h (fun v12 h => ?_)
      refine gx_bipush (v := nI 48) hX dX2_number_49 (by decide) ?_
      refine gx_isub hX dX2_number_51 ?_
      refine gx_istore_n hX dX2_number_52 (Nat.le_of_ble_eq_true rfl) gx_c1r (lv' := [some (va_rf (some x0)), some (.int ((v12) - (nI 48))), none]) rfl ?_
      refine gx_iconst (v := 1) hX dX2_number_53 (by decide) ?_
      refine gx_istore_n hX dX2_number_54 (Nat.le_of_ble_eq_true rfl) gx_c1i (lv' := [some (va_rf (some x0)), some (.int ((v12) - (nI 48))), some (.int (1))]) rfl ?_
      exact tX2_number_L55 hX hE  N _ _ _ hm h
    · exact tX2_number_B18 hX hE  hm h
abbrev iX2_opens : gx_M := (RX2, "opens", cX2_opens, 1, none)
theorem dsX2_opens : gx_ds yX2_opens 0 := by decide +kernel
def fX2_opens (x0 : Nat) (σ : xk_C)  : Option (xk_C × (Nat ⊕ Unit)) := (xk_gi (σ) 34 (some x0)).bind fun v1 => if v1 = 5 then (xk_nw (σ) 14).bind fun σ6 => (xk_gi (σ6) 33 (some x0)).bind fun v7 => (fX14_init ((xk_n (σ))) (σ6) (v7)).bind fun r8 => some (r8.1, .inl ((xk_n (σ)))) else (xk_gi (σ) 34 (some x0)).bind fun v2 => (xk_pi (σ) 34 (some x0) ((v2) + (1))).bind fun σ3 => (xk_gi (σ3) 33 (some x0)).bind fun v4 => (xk_pi (σ3) 33 (some x0) ((v4) + (1))).bind fun σ5 => some (σ5, .inr (()))
set_option maxHeartbeats 4000000 in
theorem mX2_opens {x0 : Nat} {σ : xk_C}  : ∀ p, fX2_opens x0 σ = some p → xk_n σ ≤ xk_n p.1 ∧ xk_s σ ≤ xk_s p.1 := fun r => show xk_lr r σ (fX2_opens x0 σ) from by
  unfold fX2_opens
  exact (xk_lr_rd (fun _ => (xk_lr_ite (xk_lr_op xk_m_nw (fun _ => (xk_lr_rd (fun _ => (xk_lr_ca (mX14_init) (fun _ => xk_lr_ret)))))) (xk_lr_rd (fun _ => (xk_lr_op xk_m_pi (fun _ => (xk_lr_rd (fun _ => (xk_lr_op xk_m_pi (fun _ => xk_lr_ret)))))))))))
set_option maxHeartbeats 4000000 in
theorem tX2_opens (w : gw_W) (A : Nat → Prop) (l : Launch) (x0 : Nat) (σ : xk_C)  {r : xk_C × (Nat ⊕ Unit)} (h : fX2_opens x0 σ = some r) : gx_TG (gw_I w A) A l yX2_opens iX2_opens 5 [va_rf (some x0)] (xk_P A w σ) (xk_n r.1 - xk_n σ) (xk_s r.1 - xk_s σ) (xk_P A w r.1) (xk_oV r.2) := by
  refine gx_TG.of (gw_I.inv w A) (by decide) ⟨rfl, rfl⟩ (gx_kR gx_k0) (Nat.le_of_ble_eq_true rfl) (fun X hl hAx hX hE => ?_)
  subst hl
  subst hAx
  show gx_G X (xk_P (gx_A X) w (σ)) 0 0 [some (va_rf (some x0))] 0 []
  have hu := mX2_opens _ h
  unfold fX2_opens at h
  refine xk_G0 (a := xk_n σ) (b := xk_s σ) ?_
  have hm : xk_n σ ≤ xk_n σ ∧ xk_s σ ≤ xk_s σ := ⟨Nat.le_refl _, Nat.le_refl _⟩
  refine gx_aload_n hX dX2_opens_0 rfl ?_
  refine xk_geti hX 34 q189 (fun _ h => h) rfl dX2_opens_1 h (fun v1 h => ?_)
  refine gx_iconst (v := 5) hX dX2_opens_4 (by decide) ?_
  refine gx_icmp_ne (tgt := 20) hX dX2_opens_5 (by decide) h (fun h => ?_) (fun h => ?_)
  · refine xk_new hX 14 ⟨by decide, by decide⟩ ⟨q771, q772, q111⟩ dX2_opens_8 h (fun σ6 hτ h => ?_)
    have hu := xk_use (C := σ6) h (xk_lr_rd (fun _ => (xk_lr_ca (mX14_init) (fun _ => xk_lr_ret))))
    refine ⟨xk_hfm hm hτ hu, xk_Gm hm hτ ?_⟩
    have hm := xk_hmm hm hτ
    refine gx_dup hX dX2_opens_11 (gx_cat _) ?_
    refine gx_aload_n hX dX2_opens_12 rfl ?_
    refine xk_geti hX 33 q188 (fun _ h => h) rfl dX2_opens_13 h (fun v7 h => ?_)
    obtain ⟨r8, hr8, h⟩ := gx_bs h
    have he := eX14_init _ hr8
    refine gx_cI (As := [.int (v7)]) (rest := [va_rf (some (xk_n (σ)))]) (b := (xk_n (σ))) (C2 := RX14) (nm2 := "<init>") hX (tX14_init w (gx_A X) (gx_l X) ((xk_n (σ))) (σ6) (v7) hr8) (lw_meth q810) ⟨q111, q808, q809⟩ ⟨rfl, dsX14_init⟩ (by decide) (Nat.le_of_ble_eq_true rfl) rfl (gx_w8 (gx_kR gx_k0) (Nat.le_of_ble_eq_true rfl)) dX2_opens_16 (xk_hfe hu) rfl (xk_Ge he ?_)
    have hm := xk_hme hm he
    have hu := xk_hue hu he
    cases h
    exact gx_athrow hX hE dX2_opens_19 rfl ⟨rfl, rfl⟩ (fun _ h => h)
  · refine gx_aload_n hX dX2_opens_20 rfl ?_
    refine gx_dup hX dX2_opens_21 (gx_cat _) ?_
    refine xk_geti hX 34 q189 (fun _ h => h) rfl dX2_opens_22 h (fun v2 h => ?_)
    refine gx_iconst (v := 1) hX dX2_opens_25 (by decide) ?_
    refine gx_iadd hX dX2_opens_26 ?_
    refine xk_puti hX 34 xk_ty34 rfl q189 (fun _ h => h) rfl rfl dX2_opens_27 h (fun σ3 hτ h => xk_Gt hτ ?_)
    have hm := xk_hme hm hτ
    have hu := xk_hue hu hτ
    refine gx_aload_n hX dX2_opens_30 rfl ?_
    refine gx_dup hX dX2_opens_31 (gx_cat _) ?_
    refine xk_geti hX 33 q188 (fun _ h => h) rfl dX2_opens_32 h (fun v4 h => ?_)
    refine gx_iconst (v := 1) hX dX2_opens_35 (by decide) ?_
    refine gx_iadd hX dX2_opens_36 ?_
    refine xk_puti hX 33 xk_ty33 rfl q188 (fun _ h => h) rfl rfl dX2_opens_37 h (fun σ5 hτ h => xk_Gt hτ ?_)
    have hm := xk_hme hm hτ
    have hu := xk_hue hu hτ
    cases h
    exact gx_vret hX rfl dX2_opens_40 rfl ⟨rfl, rfl⟩ (fun _ h => h)
abbrev iX2_sign : gx_M := (RX2, "sign", cX2_sign, 2, none)
theorem dsX2_sign : gx_ds yX2_sign 1 := by decide +kernel
def fX2_sign (x0 : Nat) (σ : xk_C) (x1 : Int32) : Option (xk_C × (Nat ⊕ Unit)) := (xk_is (σ) 3 (some x0)).bind fun b2 => (fX2_next (b2) (σ)).bind fun r1 => if r1 = x1 then (xk_gi (σ) 33 (some x0)).bind fun v3 => (xk_pi (σ) 33 (some x0) ((v3) + (1))).bind fun σ4 => some (σ4, .inr (())) else (xk_nw (σ) 14).bind fun σ5 => (xk_gi (σ5) 33 (some x0)).bind fun v6 => (fX14_init ((xk_n (σ))) (σ5) (v6)).bind fun r7 => some (r7.1, .inl ((xk_n (σ))))
set_option maxHeartbeats 4000000 in
theorem mX2_sign {x0 : Nat} {σ : xk_C} {x1 : Int32} : ∀ p, fX2_sign x0 σ x1 = some p → xk_n σ ≤ xk_n p.1 ∧ xk_s σ ≤ xk_s p.1 := fun r => show xk_lr r σ (fX2_sign x0 σ x1) from by
  unfold fX2_sign
  exact (xk_lr_rd (fun _ => (xk_lr_rd (fun _ => (xk_lr_ite (xk_lr_rd (fun _ => (xk_lr_op xk_m_pi (fun _ => xk_lr_ret)))) (xk_lr_op xk_m_nw (fun _ => (xk_lr_rd (fun _ => (xk_lr_ca (mX14_init) (fun _ => xk_lr_ret)))))))))))
set_option maxHeartbeats 4000000 in
theorem tX2_sign (w : gw_W) (A : Nat → Prop) (l : Launch) (x0 : Nat) (σ : xk_C) (x1 : Int32) {r : xk_C × (Nat ⊕ Unit)} (h : fX2_sign x0 σ x1 = some r) : gx_TG (gw_I w A) A l yX2_sign iX2_sign 5 [va_rf (some x0), .int (x1)] (xk_P A w σ) (xk_n r.1 - xk_n σ) (xk_s r.1 - xk_s σ) (xk_P A w r.1) (xk_oV r.2) := by
  refine gx_TG.of (gw_I.inv w A) (by decide) ⟨rfl, rfl⟩ (gx_kR (gx_kI gx_k0)) (Nat.le_of_ble_eq_true rfl) (fun X hl hAx hX hE => ?_)
  subst hl
  subst hAx
  show gx_G X (xk_P (gx_A X) w (σ)) 0 0 [some (va_rf (some x0)), some (.int (x1))] 0 []
  have hu := mX2_sign _ h
  unfold fX2_sign at h
  refine xk_G0 (a := xk_n σ) (b := xk_s σ) ?_
  have hm : xk_n σ ≤ xk_n σ ∧ xk_s σ ≤ xk_s σ := ⟨Nat.le_refl _, Nat.le_refl _⟩
  refine gx_aload_n hX dX2_sign_0 rfl ?_
  obtain ⟨b2, hb, h⟩ := gx_bs h
  obtain ⟨eb, hkb⟩ := xk_isS hb
  obtain ⟨r1, hr1, h⟩ := gx_bs h
  refine gx_cV (As := []) (rest := []) (b := b2) hX (tX2_next w (gx_A X) (gx_l X) (b2) (σ)  hr1) (lw_V q767 q769 qs9 q91 q770) ⟨rfl, dsX2_next⟩ (by decide) (Nat.le_of_ble_eq_true rfl) (xk_rc hX (ci := 2) (by decide) (by decide) hkb) (by rw [eb]; rfl) (gx_w8 gx_k0 (Nat.le_of_ble_eq_true rfl)) dX2_sign_1 (xk_hfe hu) rfl (xk_Gz ?_)
  refine gx_iload_n hX dX2_sign_4 rfl ?_
  refine gx_icmp_eq (tgt := 20) hX dX2_sign_5 (by decide) h (fun h => ?_) (fun h => ?_)
  · refine gx_aload_n hX dX2_sign_20 rfl ?_
    refine gx_dup hX dX2_sign_21 (gx_cat _) ?_
    refine xk_geti hX 33 q188 (fun _ h => h) rfl dX2_sign_22 h (fun v3 h => ?_)
    refine gx_iconst (v := 1) hX dX2_sign_25 (by decide) ?_
    refine gx_iadd hX dX2_sign_26 ?_
    refine xk_puti hX 33 xk_ty33 rfl q188 (fun _ h => h) rfl rfl dX2_sign_27 h (fun σ4 hτ h => xk_Gt hτ ?_)
    have hm := xk_hme hm hτ
    have hu := xk_hue hu hτ
    cases h
    exact gx_vret hX rfl dX2_sign_30 rfl ⟨rfl, rfl⟩ (fun _ h => h)
  · refine xk_new hX 14 ⟨by decide, by decide⟩ ⟨q771, q772, q111⟩ dX2_sign_8 h (fun σ5 hτ h => ?_)
    have hu := xk_use (C := σ5) h (xk_lr_rd (fun _ => (xk_lr_ca (mX14_init) (fun _ => xk_lr_ret))))
    refine ⟨xk_hfm hm hτ hu, xk_Gm hm hτ ?_⟩
    have hm := xk_hmm hm hτ
    refine gx_dup hX dX2_sign_11 (gx_cat _) ?_
    refine gx_aload_n hX dX2_sign_12 rfl ?_
    refine xk_geti hX 33 q188 (fun _ h => h) rfl dX2_sign_13 h (fun v6 h => ?_)
    obtain ⟨r7, hr7, h⟩ := gx_bs h
    have he := eX14_init _ hr7
    refine gx_cI (As := [.int (v6)]) (rest := [va_rf (some (xk_n (σ)))]) (b := (xk_n (σ))) (C2 := RX14) (nm2 := "<init>") hX (tX14_init w (gx_A X) (gx_l X) ((xk_n (σ))) (σ5) (v6) hr7) (lw_meth q810) ⟨q111, q808, q809⟩ ⟨rfl, dsX14_init⟩ (by decide) (Nat.le_of_ble_eq_true rfl) rfl (gx_w8 (gx_kR gx_k0) (Nat.le_of_ble_eq_true rfl)) dX2_sign_16 (xk_hfe hu) rfl (xk_Ge he ?_)
    have hm := xk_hme hm he
    have hu := xk_hue hu he
    cases h
    exact gx_athrow hX hE dX2_sign_19 rfl ⟨rfl, rfl⟩ (fun _ h => h)
abbrev iX2_fact : gx_M := (RX2, "fact", cX2_fact, 6, some (.object "ShellBeach$Test"))
theorem dsX2_fact : gx_ds yX2_fact 0 := by decide +kernel
abbrev iX2_both : gx_M := (RX2, "both", cX2_both, 2, some (.object "ShellBeach$Test"))
theorem dsX2_both : gx_ds yX2_both 0 := by decide +kernel
def fX2_both_L5 (F : xk_C → Nat → Option (xk_C × (Nat ⊕ Option Nat))) (N : Nat) (x0 : Nat)   : Nat → xk_C → Option Nat → Option (xk_C × (Nat ⊕ Option Nat))
  | 0, _, _ => none
  | k + 1, σ, x1 => (xk_is (σ) 3 (some x0)).bind fun b7 => (fX2_next (b7) (σ)).bind fun r6 => if r6 = nI 38 then (xk_gi (σ) 33 (some x0)).bind fun v8 => (xk_pi (σ) 33 (some x0) ((v8) + (1))).bind fun σ9 => (xk_nw (σ9) 17).bind fun σ10 => (xk_is (σ10) 3 (some x0)).bind fun b12 => (F (σ10) b12).bind fun r13 => xk_th r13 fun σ14 v15 => (fX17_init ((xk_n (σ9))) (σ14) (x1) (v15) (1)).bind fun r16 => (fX2_both_L5 F N x0 k) (r16.1) (some (xk_n (σ9))) else some (σ, .inr (x1))
set_option maxHeartbeats 4000000 in
theorem lX2_both_L5 {r : xk_C × (Nat ⊕ Option Nat)} {F : xk_C → Nat → Option (xk_C × (Nat ⊕ Option Nat))} (hFg : ∀ (σ : xk_C) (b : Nat) , ∀ p, F σ b  = some p → xk_n σ ≤ xk_n p.1 ∧ xk_s σ ≤ xk_s p.1) {N : Nat} {x0 : Nat}   : ∀ (k : Nat) (σ : xk_C) (x1 : Option Nat), xk_lr r σ (fX2_both_L5 F N x0 k σ x1) := by
  intro k
  induction k with
  | zero =>
    intro σ x1
    unfold fX2_both_L5
    exact xk_lr_none
  | succ k hL5 =>
    intro σ x1
    unfold fX2_both_L5
    exact (xk_lr_rd (fun _ => (xk_lr_rd (fun _ => (xk_lr_ite (xk_lr_rd (fun _ => (xk_lr_op xk_m_pi (fun _ => (xk_lr_op xk_m_nw (fun _ => (xk_lr_rd (fun _ => (xk_lr_th (hFg _ _) (fun _ _ => (xk_lr_ca (mX17_init) (fun _ => (hL5 _ _))))))))))))) xk_lr_ret)))))
set_option maxHeartbeats 4000000 in
theorem tX2_both_L5 {w : gw_W} {X : gx_X} {F : xk_C → Nat → Option (xk_C × (Nat ⊕ Option Nat))} {lF : Nat} (hlF : 7 ≤ lF) {N : Nat} {x0 : Nat} {n0 s0 : Nat} {r : xk_C × (Nat ⊕ Option Nat)} (hF : ∀ (σ : xk_C) (b : Nat)  {r : xk_C × (Nat ⊕ Option Nat)}, F σ b  = some r → gx_TG (gw_I w (gx_A X)) (gx_A X) (gx_l X) yX2_fact iX2_fact lF [va_rf (some b)] (xk_P (gx_A X) w σ) (xk_n r.1 - xk_n σ) (xk_s r.1 - xk_s σ) (xk_P (gx_A X) w r.1) (xk_oR r.2)) (hFg : ∀ (σ : xk_C) (b : Nat) , ∀ p, F σ b  = some p → xk_n σ ≤ xk_n p.1 ∧ xk_s σ ≤ xk_s p.1) (hX : gx_O (gw_I w (gx_A X)) X iX2_both (lF + 1) (xk_n r.1 - n0) (xk_s r.1 - s0) (xk_P (gx_A X) w r.1) (xk_oR r.2)) (hE : (gx_c X).exceptionTable.isEmpty = true)  : ∀ (k : Nat) (σ : xk_C) (x1 : Option Nat), (n0 ≤ xk_n σ ∧ s0 ≤ xk_s σ) → fX2_both_L5 F N x0 k σ x1 = some r → gx_G X (xk_P (gx_A X) w (σ)) (xk_n (σ) - n0) (xk_s (σ) - s0) [some (va_rf (some x0)), some (va_rf (x1))] 5 [] := by
  intro k
  induction k with
  | zero =>
    intro σ x1 hm h
    unfold fX2_both_L5 at h
    cases h
  | succ k ih =>
    intro σ x1 hm h
    have hu := lX2_both_L5 (r := r) hFg  (k + 1) _ _ h
    unfold fX2_both_L5 at h
    have hL5 : ∀ (σ : xk_C) (x1 : Option Nat), xk_lr r σ (fX2_both_L5 F N x0 k σ x1) := fun σ x1 => lX2_both_L5 hFg  k σ x1
    refine gx_aload_n hX dX2_both_5 rfl ?_
    obtain ⟨b7, hb, h⟩ := gx_bs h
    obtain ⟨eb, hkb⟩ := xk_isS hb
    obtain ⟨r6, hr6, h⟩ := gx_bs h
    refine gx_cV (As := []) (rest := []) (b := b7) hX (tX2_next w (gx_A X) (gx_l X) (b7) (σ)  hr6) (lw_V q767 q769 qs9 q91 q770) ⟨rfl, dsX2_next⟩ (by omega) (Nat.le_of_ble_eq_true rfl) (xk_rc hX (ci := 2) (by decide) (by decide) hkb) (by rw [eb]; rfl) (gx_w8 gx_k0 (Nat.le_of_ble_eq_true rfl)) dX2_both_6 (xk_hfe hu) rfl (xk_Gz ?_)
    refine gx_bipush (v := nI 38) hX dX2_both_9 (by decide) ?_
    refine gx_icmp_ne (tgt := 41) hX dX2_both_11 (by decide) h (fun h => ?_) (fun h => ?_)
    · refine gx_aload_n hX dX2_both_14 rfl ?_
      refine gx_dup hX dX2_both_15 (gx_cat _) ?_
      refine xk_geti hX 33 q188 (fun _ h => h) rfl dX2_both_16 h (fun v8 h => ?_)
      refine gx_iconst (v := 1) hX dX2_both_19 (by decide) ?_
      refine gx_iadd hX dX2_both_20 ?_
      refine xk_puti hX 33 xk_ty33 rfl q188 (fun _ h => h) rfl rfl dX2_both_21 h (fun σ9 hτ h => xk_Gt hτ ?_)
      have hm := xk_hme hm hτ
      have hu := xk_hue hu hτ
      refine xk_new hX 17 ⟨by decide, by decide⟩ ⟨q886, q887, q114⟩ dX2_both_24 h (fun σ10 hτ h => ?_)
      have hu := xk_use (C := σ10) h (xk_lr_rd (fun _ => (xk_lr_th (hFg _ _) (fun _ _ => (xk_lr_ca (mX17_init) (fun _ => (hL5 _ _)))))))
      refine ⟨xk_hfm hm hτ hu, xk_Gm hm hτ ?_⟩
      have hm := xk_hmm hm hτ
      refine gx_dup hX dX2_both_27 (gx_cat _) ?_
      refine gx_aload_n hX dX2_both_28 rfl ?_
      refine gx_aload_n hX dX2_both_29 rfl ?_
      obtain ⟨b12, hb, h⟩ := gx_bs h
      obtain ⟨eb, hkb⟩ := xk_isS hb
      obtain ⟨r13, hr13, h⟩ := gx_bs h
      obtain ⟨σ14, s0σ14⟩ := r13
      have hl := (hFg _ _) _ hr13
      dsimp only at hl
      cases s0σ14 with
      | inl e9 =>
        cases xk_thL h
        exact gx_cVX (As := []) (rest := [va_rf (x1), va_rf (some (xk_n (σ9))), va_rf (some (xk_n (σ9)))]) (b := b12) (x := e9) (P2 := xk_P (gx_A X) w σ14) hX hE (hF _ _ hr13) (lw_V q846 q848 qs14 q91 q849) ⟨rfl, dsX2_fact⟩ (by omega) (Nat.le_of_ble_eq_true rfl) (xk_rc hX (ci := 2) (by decide) (by decide) hkb) (by rw [eb]; rfl) (gx_w8 (gx_kR (gx_kR (gx_kR gx_k0))) (Nat.le_of_ble_eq_true rfl)) dX2_both_30 (xk_hfx hm hl) rfl rfl (fun _ h => h)
      | inr v15 =>
        have h := xk_thR h
        have hu := xk_use (C := σ14) h (xk_lr_ca (mX17_init) (fun _ => (hL5 _ _)))
        refine gx_cV (As := []) (rest := [va_rf (x1), va_rf (some (xk_n (σ9))), va_rf (some (xk_n (σ9)))]) (b := b12) (P2 := xk_P (gx_A X) w σ14) hX (gx_TG.toT (hF _ _ hr13)) (lw_V q846 q848 qs14 q91 q849) ⟨rfl, dsX2_fact⟩ (by omega) (Nat.le_of_ble_eq_true rfl) (xk_rc hX (ci := 2) (by decide) (by decide) hkb) (by rw [eb]; rfl) (gx_w8 (gx_kR (gx_kR (gx_kR gx_k0))) (Nat.le_of_ble_eq_true rfl)) dX2_both_30 (xk_hfc hm hl hu) rfl (xk_Gc hm hl ?_)
        have hm := xk_hmc hm hl
        refine gx_iconst (v := 1) hX dX2_both_33 (by decide) ?_
        obtain ⟨r16, hr16, h⟩ := gx_bs h
        have he := eX17_init _ hr16
        refine gx_cI (As := [va_rf (x1), va_rf (v15), .int (1)]) (rest := [va_rf (some (xk_n (σ9)))]) (b := (xk_n (σ9))) (C2 := RX17) (nm2 := "<init>") hX (tX17_init w (gx_A X) (gx_l X) ((xk_n (σ9))) (σ14) (x1) (v15) (1) hr16) (lw_meth q890) ⟨q114, q888, q889⟩ ⟨rfl, dsX17_init⟩ (by omega) (Nat.le_of_ble_eq_true rfl) rfl (gx_w8 (gx_kR gx_k0) (Nat.le_of_ble_eq_true rfl)) dX2_both_34 (xk_hfe hu) rfl (xk_Ge he ?_)
        have hm := xk_hme hm he
        have hu := xk_hue hu he
        refine gx_astore_n hX dX2_both_37 (Nat.le_of_ble_eq_true rfl) gx_c1r (lv' := [some (va_rf (some x0)), some (va_rf (some (xk_n (σ9))))]) rfl ?_
        refine gx_goto (tgt := 5) hX dX2_both_38 (by decide) ?_
        exact ih _ _ hm h
    · refine gx_aload_n hX dX2_both_41 rfl ?_
      cases h
      exact gx_aret hX rfl (Or.inl ⟨_, rfl⟩) dX2_both_42 rfl ⟨rfl, rfl⟩ (fun _ h => h)
def fX2_both (F : xk_C → Nat → Option (xk_C × (Nat ⊕ Option Nat))) (N : Nat) (x0 : Nat) (σ : xk_C)  : Option (xk_C × (Nat ⊕ Option Nat)) := (xk_is (σ) 3 (some x0)).bind fun b2 => (F (σ) b2).bind fun r3 => xk_th r3 fun σ4 v5 => fX2_both_L5 F N x0 N (σ4) (v5)
set_option maxHeartbeats 4000000 in
theorem mX2_both {F : xk_C → Nat → Option (xk_C × (Nat ⊕ Option Nat))} (hFg : ∀ (σ : xk_C) (b : Nat) , ∀ p, F σ b  = some p → xk_n σ ≤ xk_n p.1 ∧ xk_s σ ≤ xk_s p.1) {N : Nat} {x0 : Nat} {σ : xk_C}  : ∀ p, fX2_both F N x0 σ = some p → xk_n σ ≤ xk_n p.1 ∧ xk_s σ ≤ xk_s p.1 := fun r => show xk_lr r σ (fX2_both F N x0 σ) from by
  unfold fX2_both
  exact (xk_lr_rd (fun _ => (xk_lr_th (hFg _ _) (fun _ _ => (lX2_both_L5 hFg  N _ _)))))
set_option maxHeartbeats 4000000 in
theorem tX2_both (w : gw_W) (A : Nat → Prop) (l : Launch) {F : xk_C → Nat → Option (xk_C × (Nat ⊕ Option Nat))} {lF : Nat} (hlF : 7 ≤ lF) (hF : ∀ (σ : xk_C) (b : Nat)  {r : xk_C × (Nat ⊕ Option Nat)}, F σ b  = some r → gx_TG (gw_I w A) A l yX2_fact iX2_fact lF [va_rf (some b)] (xk_P A w σ) (xk_n r.1 - xk_n σ) (xk_s r.1 - xk_s σ) (xk_P A w r.1) (xk_oR r.2)) (hFg : ∀ (σ : xk_C) (b : Nat) , ∀ p, F σ b  = some p → xk_n σ ≤ xk_n p.1 ∧ xk_s σ ≤ xk_s p.1) (N : Nat) (x0 : Nat) (σ : xk_C)  {r : xk_C × (Nat ⊕ Option Nat)} (h : fX2_both F N x0 σ = some r) : gx_TG (gw_I w A) A l yX2_both iX2_both (lF + 1) [va_rf (some x0)] (xk_P A w σ) (xk_n r.1 - xk_n σ) (xk_s r.1 - xk_s σ) (xk_P A w r.1) (xk_oR r.2) := by
  refine gx_TG.of (gw_I.inv w A) (by decide) ⟨rfl, rfl⟩ (gx_kR gx_k0) (Nat.le_of_ble_eq_true rfl) (fun X hl hAx hX hE => ?_)
  subst hl
  subst hAx
  show gx_G X (xk_P (gx_A X) w (σ)) 0 0 [some (va_rf (some x0)), none] 0 []
  have hu := mX2_both hFg _ h
  unfold fX2_both at h
  refine xk_G0 (a := xk_n σ) (b := xk_s σ) ?_
  have hm : xk_n σ ≤ xk_n σ ∧ xk_s σ ≤ xk_s σ := ⟨Nat.le_refl _, Nat.le_refl _⟩
  refine gx_aload_n hX dX2_both_0 rfl ?_
  obtain ⟨b2, hb, h⟩ := gx_bs h
  obtain ⟨eb, hkb⟩ := xk_isS hb
  obtain ⟨r3, hr3, h⟩ := gx_bs h
  obtain ⟨σ4, s0σ4⟩ := r3
  have hl := (hFg _ _) _ hr3
  dsimp only at hl
  cases s0σ4 with
  | inl e9 =>
    cases xk_thL h
    exact gx_cVX (As := []) (rest := []) (b := b2) (x := e9) (P2 := xk_P (gx_A X) w σ4) hX hE (hF _ _ hr3) (lw_V q846 q848 qs14 q91 q849) ⟨rfl, dsX2_fact⟩ (by omega) (Nat.le_of_ble_eq_true rfl) (xk_rc hX (ci := 2) (by decide) (by decide) hkb) (by rw [eb]; rfl) (gx_w8 gx_k0 (Nat.le_of_ble_eq_true rfl)) dX2_both_1 (xk_hfx hm hl) rfl rfl (fun _ h => h)
  | inr v5 =>
    have h := xk_thR h
    have hu := xk_use (C := σ4) h (lX2_both_L5 hFg  N _ _)
    refine gx_cV (As := []) (rest := []) (b := b2) (P2 := xk_P (gx_A X) w σ4) hX (gx_TG.toT (hF _ _ hr3)) (lw_V q846 q848 qs14 q91 q849) ⟨rfl, dsX2_fact⟩ (by omega) (Nat.le_of_ble_eq_true rfl) (xk_rc hX (ci := 2) (by decide) (by decide) hkb) (by rw [eb]; rfl) (gx_w8 gx_k0 (Nat.le_of_ble_eq_true rfl)) dX2_both_1 (xk_hfc hm hl hu) rfl (xk_Gc hm hl ?_)
    have hm := xk_hmc hm hl
    refine gx_astore_n hX dX2_both_4 (Nat.le_of_ble_eq_true rfl) gx_c1r (lv' := [some (va_rf (some x0)), some (va_rf (v5))]) rfl ?_
    exact tX2_both_L5 hlF hF hFg hX hE  N _ _ hm h
abbrev iX2_some : gx_M := (RX2, "some", cX2_some, 2, some (.object "ShellBeach$Test"))
theorem dsX2_some : gx_ds yX2_some 0 := by decide +kernel
def fX2_some_L5 (F : xk_C → Nat → Option (xk_C × (Nat ⊕ Option Nat))) (N : Nat) (x0 : Nat)   : Nat → xk_C → Option Nat → Option (xk_C × (Nat ⊕ Option Nat))
  | 0, _, _ => none
  | k + 1, σ, x1 => (xk_is (σ) 3 (some x0)).bind fun b7 => (fX2_next (b7) (σ)).bind fun r6 => if r6 = nI 124 then (xk_gi (σ) 33 (some x0)).bind fun v8 => (xk_pi (σ) 33 (some x0) ((v8) + (1))).bind fun σ9 => (xk_nw (σ9) 17).bind fun σ10 => (xk_is (σ10) 3 (some x0)).bind fun b12 => (fX2_both F N (b12) (σ10)).bind fun r13 => xk_th r13 fun σ14 v15 => (fX17_init ((xk_n (σ9))) (σ14) (x1) (v15) (0)).bind fun r16 => (fX2_some_L5 F N x0 k) (r16.1) (some (xk_n (σ9))) else some (σ, .inr (x1))
set_option maxHeartbeats 4000000 in
theorem lX2_some_L5 {r : xk_C × (Nat ⊕ Option Nat)} {F : xk_C → Nat → Option (xk_C × (Nat ⊕ Option Nat))} (hFg : ∀ (σ : xk_C) (b : Nat) , ∀ p, F σ b  = some p → xk_n σ ≤ xk_n p.1 ∧ xk_s σ ≤ xk_s p.1) {N : Nat} {x0 : Nat}   : ∀ (k : Nat) (σ : xk_C) (x1 : Option Nat), xk_lr r σ (fX2_some_L5 F N x0 k σ x1) := by
  intro k
  induction k with
  | zero =>
    intro σ x1
    unfold fX2_some_L5
    exact xk_lr_none
  | succ k hL5 =>
    intro σ x1
    unfold fX2_some_L5
    exact (xk_lr_rd (fun _ => (xk_lr_rd (fun _ => (xk_lr_ite (xk_lr_rd (fun _ => (xk_lr_op xk_m_pi (fun _ => (xk_lr_op xk_m_nw (fun _ => (xk_lr_rd (fun _ => (xk_lr_th (mX2_both hFg) (fun _ _ => (xk_lr_ca (mX17_init) (fun _ => (hL5 _ _))))))))))))) xk_lr_ret)))))
set_option maxHeartbeats 4000000 in
theorem tX2_some_L5 {w : gw_W} {X : gx_X} {F : xk_C → Nat → Option (xk_C × (Nat ⊕ Option Nat))} {lF : Nat} (hlF : 7 ≤ lF) {N : Nat} {x0 : Nat} {n0 s0 : Nat} {r : xk_C × (Nat ⊕ Option Nat)} (hF : ∀ (σ : xk_C) (b : Nat)  {r : xk_C × (Nat ⊕ Option Nat)}, F σ b  = some r → gx_TG (gw_I w (gx_A X)) (gx_A X) (gx_l X) yX2_fact iX2_fact lF [va_rf (some b)] (xk_P (gx_A X) w σ) (xk_n r.1 - xk_n σ) (xk_s r.1 - xk_s σ) (xk_P (gx_A X) w r.1) (xk_oR r.2)) (hFg : ∀ (σ : xk_C) (b : Nat) , ∀ p, F σ b  = some p → xk_n σ ≤ xk_n p.1 ∧ xk_s σ ≤ xk_s p.1) (hX : gx_O (gw_I w (gx_A X)) X iX2_some (lF + 2) (xk_n r.1 - n0) (xk_s r.1 - s0) (xk_P (gx_A X) w r.1) (xk_oR r.2)) (hE : (gx_c X).exceptionTable.isEmpty = true)  : ∀ (k : Nat) (σ : xk_C) (x1 : Option Nat), (n0 ≤ xk_n σ ∧ s0 ≤ xk_s σ) → fX2_some_L5 F N x0 k σ x1 = some r → gx_G X (xk_P (gx_A X) w (σ)) (xk_n (σ) - n0) (xk_s (σ) - s0) [some (va_rf (some x0)), some (va_rf (x1))] 5 [] := by
  intro k
  induction k with
  | zero =>
    intro σ x1 hm h
    unfold fX2_some_L5 at h
    cases h
  | succ k ih =>
    intro σ x1 hm h
    have hu := lX2_some_L5 (r := r) hFg  (k + 1) _ _ h
    unfold fX2_some_L5 at h
    have hL5 : ∀ (σ : xk_C) (x1 : Option Nat), xk_lr r σ (fX2_some_L5 F N x0 k σ x1) := fun σ x1 => lX2_some_L5 hFg  k σ x1
    refine gx_aload_n hX dX2_some_5 rfl ?_
    obtain ⟨b7, hb, h⟩ := gx_bs h
    obtain ⟨eb, hkb⟩ := xk_isS hb
    obtain ⟨r6, hr6, h⟩ := gx_bs h
    refine gx_cV (As := []) (rest := []) (b := b7) hX (tX2_next w (gx_A X) (gx_l X) (b7) (σ)  hr6) (lw_V q767 q769 qs9 q91 q770) ⟨rfl, dsX2_next⟩ (by omega) (Nat.le_of_ble_eq_true rfl) (xk_rc hX (ci := 2) (by decide) (by decide) hkb) (by rw [eb]; rfl) (gx_w8 gx_k0 (Nat.le_of_ble_eq_true rfl)) dX2_some_6 (xk_hfe hu) rfl (xk_Gz ?_)
    refine gx_bipush (v := nI 124) hX dX2_some_9 (by decide) ?_
    refine gx_icmp_ne (tgt := 41) hX dX2_some_11 (by decide) h (fun h => ?_) (fun h => ?_)
    · refine gx_aload_n hX dX2_some_14 rfl ?_
      refine gx_dup hX dX2_some_15 (gx_cat _) ?_
      refine xk_geti hX 33 q188 (fun _ h => h) rfl dX2_some_16 h (fun v8 h => ?_)
      refine gx_iconst (v := 1) hX dX2_some_19 (by decide) ?_
      refine gx_iadd hX dX2_some_20 ?_
      refine xk_puti hX 33 xk_ty33 rfl q188 (fun _ h => h) rfl rfl dX2_some_21 h (fun σ9 hτ h => xk_Gt hτ ?_)
      have hm := xk_hme hm hτ
      have hu := xk_hue hu hτ
      refine xk_new hX 17 ⟨by decide, by decide⟩ ⟨q886, q887, q114⟩ dX2_some_24 h (fun σ10 hτ h => ?_)
      have hu := xk_use (C := σ10) h (xk_lr_rd (fun _ => (xk_lr_th (mX2_both hFg) (fun _ _ => (xk_lr_ca (mX17_init) (fun _ => (hL5 _ _)))))))
      refine ⟨xk_hfm hm hτ hu, xk_Gm hm hτ ?_⟩
      have hm := xk_hmm hm hτ
      refine gx_dup hX dX2_some_27 (gx_cat _) ?_
      refine gx_aload_n hX dX2_some_28 rfl ?_
      refine gx_aload_n hX dX2_some_29 rfl ?_
      obtain ⟨b12, hb, h⟩ := gx_bs h
      obtain ⟨eb, hkb⟩ := xk_isS hb
      obtain ⟨r13, hr13, h⟩ := gx_bs h
      obtain ⟨σ14, s0σ14⟩ := r13
      have hl := (mX2_both hFg) _ hr13
      dsimp only at hl
      cases s0σ14 with
      | inl e9 =>
        cases xk_thL h
        exact gx_cVX (As := []) (rest := [va_rf (x1), va_rf (some (xk_n (σ9))), va_rf (some (xk_n (σ9)))]) (b := b12) (x := e9) (P2 := xk_P (gx_A X) w σ14) hX hE (tX2_both w (gx_A X) (gx_l X) hlF hF hFg N (b12) (σ10)  hr13) (lw_V q842 q844 qs13 q91 q845) ⟨rfl, dsX2_both⟩ (by omega) (Nat.le_of_ble_eq_true rfl) (xk_rc hX (ci := 2) (by decide) (by decide) hkb) (by rw [eb]; rfl) (gx_w8 (gx_kR (gx_kR (gx_kR gx_k0))) (Nat.le_of_ble_eq_true rfl)) dX2_some_30 (xk_hfx hm hl) rfl rfl (fun _ h => h)
      | inr v15 =>
        have h := xk_thR h
        have hu := xk_use (C := σ14) h (xk_lr_ca (mX17_init) (fun _ => (hL5 _ _)))
        refine gx_cV (As := []) (rest := [va_rf (x1), va_rf (some (xk_n (σ9))), va_rf (some (xk_n (σ9)))]) (b := b12) (P2 := xk_P (gx_A X) w σ14) hX (gx_TG.toT (tX2_both w (gx_A X) (gx_l X) hlF hF hFg N (b12) (σ10)  hr13)) (lw_V q842 q844 qs13 q91 q845) ⟨rfl, dsX2_both⟩ (by omega) (Nat.le_of_ble_eq_true rfl) (xk_rc hX (ci := 2) (by decide) (by decide) hkb) (by rw [eb]; rfl) (gx_w8 (gx_kR (gx_kR (gx_kR gx_k0))) (Nat.le_of_ble_eq_true rfl)) dX2_some_30 (xk_hfc hm hl hu) rfl (xk_Gc hm hl ?_)
        have hm := xk_hmc hm hl
        refine gx_iconst (v := 0) hX dX2_some_33 (by decide) ?_
        obtain ⟨r16, hr16, h⟩ := gx_bs h
        have he := eX17_init _ hr16
        refine gx_cI (As := [va_rf (x1), va_rf (v15), .int (0)]) (rest := [va_rf (some (xk_n (σ9)))]) (b := (xk_n (σ9))) (C2 := RX17) (nm2 := "<init>") hX (tX17_init w (gx_A X) (gx_l X) ((xk_n (σ9))) (σ14) (x1) (v15) (0) hr16) (lw_meth q890) ⟨q114, q888, q889⟩ ⟨rfl, dsX17_init⟩ (by omega) (Nat.le_of_ble_eq_true rfl) rfl (gx_w8 (gx_kR gx_k0) (Nat.le_of_ble_eq_true rfl)) dX2_some_34 (xk_hfe hu) rfl (xk_Ge he ?_)
        have hm := xk_hme hm he
        have hu := xk_hue hu he
        refine gx_astore_n hX dX2_some_37 (Nat.le_of_ble_eq_true rfl) gx_c1r (lv' := [some (va_rf (some x0)), some (va_rf (some (xk_n (σ9))))]) rfl ?_
        refine gx_goto (tgt := 5) hX dX2_some_38 (by decide) ?_
        exact ih _ _ hm h
    · refine gx_aload_n hX dX2_some_41 rfl ?_
      cases h
      exact gx_aret hX rfl (Or.inl ⟨_, rfl⟩) dX2_some_42 rfl ⟨rfl, rfl⟩ (fun _ h => h)
def fX2_some (F : xk_C → Nat → Option (xk_C × (Nat ⊕ Option Nat))) (N : Nat) (x0 : Nat) (σ : xk_C)  : Option (xk_C × (Nat ⊕ Option Nat)) := (xk_is (σ) 3 (some x0)).bind fun b2 => (fX2_both F N (b2) (σ)).bind fun r3 => xk_th r3 fun σ4 v5 => fX2_some_L5 F N x0 N (σ4) (v5)
set_option maxHeartbeats 4000000 in
theorem mX2_some {F : xk_C → Nat → Option (xk_C × (Nat ⊕ Option Nat))} (hFg : ∀ (σ : xk_C) (b : Nat) , ∀ p, F σ b  = some p → xk_n σ ≤ xk_n p.1 ∧ xk_s σ ≤ xk_s p.1) {N : Nat} {x0 : Nat} {σ : xk_C}  : ∀ p, fX2_some F N x0 σ = some p → xk_n σ ≤ xk_n p.1 ∧ xk_s σ ≤ xk_s p.1 := fun r => show xk_lr r σ (fX2_some F N x0 σ) from by
  unfold fX2_some
  exact (xk_lr_rd (fun _ => (xk_lr_th (mX2_both hFg) (fun _ _ => (lX2_some_L5 hFg  N _ _)))))
set_option maxHeartbeats 4000000 in
theorem tX2_some (w : gw_W) (A : Nat → Prop) (l : Launch) {F : xk_C → Nat → Option (xk_C × (Nat ⊕ Option Nat))} {lF : Nat} (hlF : 7 ≤ lF) (hF : ∀ (σ : xk_C) (b : Nat)  {r : xk_C × (Nat ⊕ Option Nat)}, F σ b  = some r → gx_TG (gw_I w A) A l yX2_fact iX2_fact lF [va_rf (some b)] (xk_P A w σ) (xk_n r.1 - xk_n σ) (xk_s r.1 - xk_s σ) (xk_P A w r.1) (xk_oR r.2)) (hFg : ∀ (σ : xk_C) (b : Nat) , ∀ p, F σ b  = some p → xk_n σ ≤ xk_n p.1 ∧ xk_s σ ≤ xk_s p.1) (N : Nat) (x0 : Nat) (σ : xk_C)  {r : xk_C × (Nat ⊕ Option Nat)} (h : fX2_some F N x0 σ = some r) : gx_TG (gw_I w A) A l yX2_some iX2_some (lF + 2) [va_rf (some x0)] (xk_P A w σ) (xk_n r.1 - xk_n σ) (xk_s r.1 - xk_s σ) (xk_P A w r.1) (xk_oR r.2) := by
  refine gx_TG.of (gw_I.inv w A) (by decide) ⟨rfl, rfl⟩ (gx_kR gx_k0) (Nat.le_of_ble_eq_true rfl) (fun X hl hAx hX hE => ?_)
  subst hl
  subst hAx
  show gx_G X (xk_P (gx_A X) w (σ)) 0 0 [some (va_rf (some x0)), none] 0 []
  have hu := mX2_some hFg _ h
  unfold fX2_some at h
  refine xk_G0 (a := xk_n σ) (b := xk_s σ) ?_
  have hm : xk_n σ ≤ xk_n σ ∧ xk_s σ ≤ xk_s σ := ⟨Nat.le_refl _, Nat.le_refl _⟩
  refine gx_aload_n hX dX2_some_0 rfl ?_
  obtain ⟨b2, hb, h⟩ := gx_bs h
  obtain ⟨eb, hkb⟩ := xk_isS hb
  obtain ⟨r3, hr3, h⟩ := gx_bs h
  obtain ⟨σ4, s0σ4⟩ := r3
  have hl := (mX2_both hFg) _ hr3
  dsimp only at hl
  cases s0σ4 with
  | inl e9 =>
    cases xk_thL h
    exact gx_cVX (As := []) (rest := []) (b := b2) (x := e9) (P2 := xk_P (gx_A X) w σ4) hX hE (tX2_both w (gx_A X) (gx_l X) hlF hF hFg N (b2) (σ)  hr3) (lw_V q842 q844 qs13 q91 q845) ⟨rfl, dsX2_both⟩ (by omega) (Nat.le_of_ble_eq_true rfl) (xk_rc hX (ci := 2) (by decide) (by decide) hkb) (by rw [eb]; rfl) (gx_w8 gx_k0 (Nat.le_of_ble_eq_true rfl)) dX2_some_1 (xk_hfx hm hl) rfl rfl (fun _ h => h)
  | inr v5 =>
    have h := xk_thR h
    have hu := xk_use (C := σ4) h (lX2_some_L5 hFg  N _ _)
    refine gx_cV (As := []) (rest := []) (b := b2) (P2 := xk_P (gx_A X) w σ4) hX (gx_TG.toT (tX2_both w (gx_A X) (gx_l X) hlF hF hFg N (b2) (σ)  hr3)) (lw_V q842 q844 qs13 q91 q845) ⟨rfl, dsX2_both⟩ (by omega) (Nat.le_of_ble_eq_true rfl) (xk_rc hX (ci := 2) (by decide) (by decide) hkb) (by rw [eb]; rfl) (gx_w8 gx_k0 (Nat.le_of_ble_eq_true rfl)) dX2_some_1 (xk_hfc hm hl hu) rfl (xk_Gc hm hl ?_)
    have hm := xk_hmc hm hl
    refine gx_astore_n hX dX2_some_4 (Nat.le_of_ble_eq_true rfl) gx_c1r (lv' := [some (va_rf (some x0)), some (va_rf (v5))]) rfl ?_
    exact tX2_some_L5 hlF hF hFg hX hE  N _ _ hm h
