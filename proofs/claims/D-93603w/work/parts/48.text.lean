set_option maxRecDepth 100000
/-! ShellBeach.text: a text is read; a throw is caught -/
abbrev iX0_text : gx_M := (RX0, "text", cX0_text, 4, some .int)
theorem dsX0_text : gx_ds yX0_text 0 := by decide +kernel
abbrev hX0_text : List (Nat × Nat × Nat × Nat) := [(15, 40, 47, 212), (15, 40, 63, 0), (47, 56, 63, 0)]
/-- the end of a text that is none -/
def fX0_text_C (x0 : Nat) (σ : xk_C) (e : Nat) : Option (xk_C × Int32) := (xk_gi σ 76 (some e)).bind fun v => (xk_pi σ 9 (some x0) 0).bind fun τ => some (τ, (-10) - v)
def fX0_text_R (x0 : Nat) (σ : xk_C) : Option (xk_C × Int32) := (xk_gr σ 11 (some x0)).bind fun v => (xk_is σ 21 v).bind fun b => (fJ2_size b σ).bind fun n => (xk_pi σ 9 (some x0) 0).bind fun τ => some (τ, n - 1)
def fX0_text_B (x0 : Nat) (σ : xk_C) (v s : Option Nat) : Option (xk_C × Int32) := (xk_is σ 21 v).bind fun b => (fJ2_add b σ s).bind fun r => fX0_text_R x0 r.1
def fX0_text (N : Nat) (x0 : Nat) (σ : xk_C) : Option (xk_C × Int32) := (xk_gr σ 11 (some x0)).bind fun v1 => (xk_is σ 21 v1).bind fun b2 => (fJ2_size b2 σ).bind fun r3 => if r3 = nI 8 then some (σ, (-4)) else
  (xk_gr σ 11 (some x0)).bind fun v4 => (xk_gr σ 12 (some x0)).bind fun v5 => (xk_is σ 3 v5).bind fun b6 => (fX2_read N b6 σ).bind fun r7 => match r7.2 with
    | .inl e => (xk_is r7.1 15 (some e)).bind fun e2 => fX0_text_C x0 r7.1 e2
    | .inr s => fX0_text_B x0 r7.1 v4 s
theorem mX0_text_C {x0 : Nat} {σ : xk_C} {e : Nat} : ∀ p, fX0_text_C x0 σ e = some p → xk_n p.1 = xk_n σ ∧ xk_s p.1 = xk_s σ := fun r => show xk_er r σ (fX0_text_C x0 σ e) from by
  unfold fX0_text_C
  exact (xk_er_rd (fun _ => (xk_er_op xk_e_pi (fun _ => xk_er_ret))))
theorem mX0_text_R {x0 : Nat} {σ : xk_C} : ∀ p, fX0_text_R x0 σ = some p → xk_n p.1 = xk_n σ ∧ xk_s p.1 = xk_s σ := fun r => show xk_er r σ (fX0_text_R x0 σ) from by
  unfold fX0_text_R
  exact (xk_er_rd (fun _ => (xk_er_rd (fun _ => (xk_er_rd (fun _ => (xk_er_op xk_e_pi (fun _ => xk_er_ret))))))))
theorem mX0_text_B {x0 : Nat} {σ : xk_C} {v s : Option Nat} : ∀ p, fX0_text_B x0 σ v s = some p → xk_n σ ≤ xk_n p.1 ∧ xk_s σ ≤ xk_s p.1 := fun p h => by
  unfold fX0_text_B at h
  obtain ⟨b, -, h⟩ := gx_bs h
  obtain ⟨r, hr, h⟩ := gx_bs h
  have h1 := mJ2_add _ hr
  have h2 := mX0_text_R _ h
  omega
set_option maxHeartbeats 4000000 in
theorem tX0_text (w : gw_W) (A : Nat → Prop) (l : Launch) (N : Nat) (x0 : Nat) (σ : xk_C) {r : xk_C × Int32} (h : fX0_text N x0 σ = some r) : gx_TW (gw_I w A) A l yX0_text iX0_text hX0_text 42 [va_rf (some x0)] (xk_P A w σ) (xk_n r.1 - xk_n σ) (xk_s r.1 - xk_s σ) (xk_P A w r.1) (.returned (some (.int r.2))) := by
  refine gx_TW.of (gw_I.inv w A) (by decide) ⟨rfl, rfl⟩ (gx_kR gx_k0) (Nat.le_of_ble_eq_true rfl) (fun X hl hAx hX hE => ?_)
  subst hl
  subst hAx
  show gx_G X (xk_P (gx_A X) w σ) 0 0 [some (va_rf (some x0)), none, none, none] 0 []
  unfold fX0_text at h
  refine xk_G0 (a := xk_n σ) (b := xk_s σ) ?_
  have hm : xk_n σ ≤ xk_n σ ∧ xk_s σ ≤ xk_s σ := ⟨Nat.le_refl _, Nat.le_refl _⟩
  refine gx_aload_n hX dX0_text_0 rfl ?_
  refine xk_getr hX 11 q232 (fun _ h => h) rfl dX0_text_1 h (fun v1 h => ?_)
  obtain ⟨b2, hb, h⟩ := gx_bs h
  obtain ⟨eb, hkb⟩ := xk_isS hb
  obtain ⟨r3, hr3, h⟩ := gx_bs h
  have hu : xk_n σ ≤ xk_n r.1 ∧ xk_s σ ≤ xk_s r.1 := by
    by_cases c : r3 = nI 8
    · rw [if_pos c] at h
      cases h
      exact hm
    · rw [if_neg c] at h
      obtain ⟨v4, -, h⟩ := gx_bs h
      obtain ⟨v5, -, h⟩ := gx_bs h
      obtain ⟨b6, -, h⟩ := gx_bs h
      obtain ⟨⟨σ7, s7⟩, hr7, h⟩ := gx_bs h
      have hl := mX2_read _ hr7
      dsimp only at hl
      cases s7 with
      | inl e =>
        obtain ⟨e2, -, h⟩ := gx_bs h
        have := mX0_text_C _ h
        dsimp only at this
        omega
      | inr s =>
        have := mX0_text_B _ h
        dsimp only at this
        omega
  refine gx_cV (As := []) (rest := []) (b := b2) hX (tJ2_size w (gx_A X) (gx_l X) b2 σ hr3) (lw_V q314 q315 q316 q89 q317) ⟨rfl, dsJ2_size⟩ (by decide) (Nat.le_of_ble_eq_true rfl) (xk_rc hX (ci := 20) (by decide) (by decide) hkb) (by rw [eb]; rfl) (gx_w8 gx_k0 (Nat.le_of_ble_eq_true rfl)) dX0_text_4 (xk_hfe hu) rfl (xk_Gz ?_)
  refine gx_bipush (v := nI 8) hX dX0_text_7 (by decide) ?_
  refine gx_icmp_ne (tgt := 15) hX dX0_text_9 (by decide) h (fun h => ?_) (fun h => ?_)
  · refine gx_bipush (v := (-4)) hX dX0_text_12 (by decide) ?_
    cases h
    exact gx_iret hX rfl dX0_text_14 rfl ⟨rfl, rfl⟩ (fun _ h => h)
  · refine gx_aload_n hX dX0_text_15 rfl ?_
    refine xk_getr hX 11 q232 (fun _ h => h) rfl dX0_text_16 h (fun v4 h => ?_)
    refine gx_aload_n hX dX0_text_19 rfl ?_
    refine xk_getr hX 12 q234 (fun _ h => h) rfl dX0_text_20 h (fun v5 h => ?_)
    obtain ⟨b6, hb, h⟩ := gx_bs h
    obtain ⟨eb, hkb⟩ := xk_isS hb
    obtain ⟨⟨σ7, s7⟩, hr7, h⟩ := gx_bs h
    have hl := mX2_read _ hr7
    dsimp only at hl h
    cases s7 with
    | inl e =>
      obtain ⟨e2, he2, h⟩ := gx_bs h
      obtain ⟨ee, hke⟩ := xk_isS he2
      cases ee
      have hq := mX0_text_C _ h
      have hu : xk_n σ7 ≤ xk_n r.1 ∧ xk_s σ7 ≤ xk_s r.1 := xk_le_of hq
      refine gx_cVC (As := []) (rest := [va_rf v4]) (b := b6) (x := e) (P2 := xk_P (gx_A X) w σ7) hX (tX2_read w (gx_A X) (gx_l X) N b6 σ hr7) (lw_V q725 q726 q727 q91 q728) ⟨rfl, dsX2_read⟩ (by decide) (Nat.le_of_ble_eq_true rfl) (xk_rc hX (ci := 2) (by decide) (by decide) hkb) (by rw [eb]; rfl) (gx_w8 (gx_kR gx_k0) (Nat.le_of_ble_eq_true rfl)) dX0_text_23 (xk_hfc hm hl hu) rfl hE (by decide) q724 (fun H hP => ?_) (xk_Gc hm hl ?_)
      · obtain ⟨cell, g1, g2, g3, -⟩ := hP.2.2.2.2.1 e 14 (by decide) (by decide) hke
        exact ⟨cell, g1, g3, by rw [g2]; exact (hX.2.2.2.2.2.2.2.1.1.1 14 _ (xk_at 14 (by decide))).2.1⟩
      have hm := xk_hmc hm hl
      unfold fX0_text_C at h
      refine gx_astore_n hX dX0_text_47 (Nat.le_of_ble_eq_true rfl) gx_c1r (lv' := [some (va_rf (some x0)), some (va_rf (some e)), none, none]) rfl ?_
      refine gx_bipush (v := (-10)) hX dX0_text_48 (by decide) ?_
      refine gx_aload_n hX dX0_text_50 rfl ?_
      refine xk_getiN hX 76 q818 rfl dX0_text_51 h (fun v h => ?_)
      refine gx_isub hX dX0_text_54 ?_
      refine gx_istore_n hX dX0_text_55 (Nat.le_of_ble_eq_true rfl) gx_c1r (lv' := [some (va_rf (some x0)), some (va_rf (some e)), some (.int ((-10) - v)), none]) rfl ?_
      refine gx_aload_n hX dX0_text_56 rfl ?_
      refine gx_iconst (v := 0) hX dX0_text_57 (by decide) ?_
      refine xk_puti hX 9 xk_ty9 rfl q229 (fun _ h => h) rfl rfl dX0_text_58 h (fun τ hτ h => xk_Gt hτ ?_)
      refine gx_iload_n hX dX0_text_61 rfl ?_
      cases h
      exact gx_iret hX rfl dX0_text_62 rfl ⟨rfl, rfl⟩ (fun _ h => h)
    | inr s =>
      have hu := mX0_text_B _ h
      refine gx_cV (As := []) (rest := [va_rf v4]) (b := b6) (P2 := xk_P (gx_A X) w σ7) hX (gx_TG.toT (tX2_read w (gx_A X) (gx_l X) N b6 σ hr7)) (lw_V q725 q726 q727 q91 q728) ⟨rfl, dsX2_read⟩ (by decide) (Nat.le_of_ble_eq_true rfl) (xk_rc hX (ci := 2) (by decide) (by decide) hkb) (by rw [eb]; rfl) (gx_w8 (gx_kR gx_k0) (Nat.le_of_ble_eq_true rfl)) dX0_text_23 (xk_hfc hm hl hu) rfl (xk_Gc hm hl ?_)
      have hm := xk_hmc hm hl
      unfold fX0_text_B at h
      obtain ⟨b8, hb, h⟩ := gx_bs h
      obtain ⟨eb, hkb⟩ := xk_isS hb
      obtain ⟨r9, hr9, h⟩ := gx_bs h
      have hl := mJ2_add _ hr9
      have hu := xk_le_of (mX0_text_R _ h)
      refine gx_cV (As := [va_rf s]) (rest := []) (b := b8) hX (tJ2_add w (gx_A X) (gx_l X) b8 σ7 s hr9) (lw_V q357 q358 q359 q89 q360) ⟨rfl, dsJ2_add⟩ (by decide) (Nat.le_of_ble_eq_true rfl) (xk_rc hX (ci := 20) (by decide) (by decide) hkb) (by rw [eb]; rfl) (gx_w8 gx_k0 (Nat.le_of_ble_eq_true rfl)) dX0_text_26 (xk_hfc hm hl hu) rfl (xk_Gc hm hl ?_)
      have hm := xk_hmc hm hl
      unfold fX0_text_R at h
      refine gx_pop hX dX0_text_29 rfl ?_
      refine gx_aload_n hX dX0_text_30 rfl ?_
      refine xk_getr hX 11 q232 (fun _ h => h) rfl dX0_text_31 h (fun v h => ?_)
      obtain ⟨b10, hb, h⟩ := gx_bs h
      obtain ⟨eb, hkb⟩ := xk_isS hb
      obtain ⟨n11, hn11, h⟩ := gx_bs h
      refine gx_cV (As := []) (rest := []) (b := b10) hX (tJ2_size w (gx_A X) (gx_l X) b10 r9.1 hn11) (lw_V q314 q315 q316 q89 q317) ⟨rfl, dsJ2_size⟩ (by decide) (Nat.le_of_ble_eq_true rfl) (xk_rc hX (ci := 20) (by decide) (by decide) hkb) (by rw [eb]; rfl) (gx_w8 gx_k0 (Nat.le_of_ble_eq_true rfl)) dX0_text_34 (xk_hfe hu) rfl (xk_Gz ?_)
      refine gx_iconst (v := 1) hX dX0_text_37 (by decide) ?_
      refine gx_isub hX dX0_text_38 ?_
      refine gx_istore_n hX dX0_text_39 (Nat.le_of_ble_eq_true rfl) gx_c1r (lv' := [some (va_rf (some x0)), some (.int (n11 - 1)), none, none]) rfl ?_
      refine gx_aload_n hX dX0_text_40 rfl ?_
      refine gx_iconst (v := 0) hX dX0_text_41 (by decide) ?_
      refine xk_puti hX 9 xk_ty9 rfl q229 (fun _ h => h) rfl rfl dX0_text_42 h (fun τ hτ h => xk_Gt hτ ?_)
      refine gx_iload_n hX dX0_text_45 rfl ?_
      cases h
      exact gx_iret hX rfl dX0_text_46 rfl ⟨rfl, rfl⟩ (fun _ h => h)
