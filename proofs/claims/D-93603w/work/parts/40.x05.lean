set_option maxRecDepth 100000
abbrev iX13_holds : gx_M := (RX13, "holds", cX13_holds, 9, some .boolean)
theorem dsX13_holds : gx_ds yX13_holds 6 := by decide +kernel
def fX13_holds_B70 (N : Nat) (x0 : Nat)  (K23 : xk_C → Int32 → Option Nat → Int32 → Option (xk_C × Int32)) (σ : xk_C) (x1 : Int32) (x7 : Option Nat) (x8 : Int32) : Option (xk_C × Int32) := K23 (σ) (x1) (x7) ((x8) + 1)
set_option maxHeartbeats 4000000 in
theorem eX13_holds_B70 {r : xk_C × Int32} {N : Nat} {x0 : Nat} {K23 : xk_C → Int32 → Option Nat → Int32 → Option (xk_C × Int32)} (hL23 : ∀ (σ : xk_C) (x1 : Int32) (x7 : Option Nat) (x8 : Int32), xk_er r σ (K23 σ x1 x7 x8)) {σ : xk_C} {x1 : Int32} {x7 : Option Nat} {x8 : Int32} : xk_er r σ (fX13_holds_B70 N x0 K23 σ x1 x7 x8) := by
  unfold fX13_holds_B70
  exact (hL23 _ _ _ _)
set_option maxHeartbeats 4000000 in
theorem tX13_holds_B70 {w : gw_W} {X : gx_X} {N : Nat} {x0 : Nat} {r : xk_C × Int32} (hX : gx_O (gw_I w (gx_A X)) X iX13_holds 134 0 0 (xk_P (gx_A X) w r.1) (.returned (some (.int r.2)))) {K23 : xk_C → Int32 → Option Nat → Int32 → Option (xk_C × Int32)} (hK23 : ∀ (σ : xk_C) (x1 : Int32) (x7 : Option Nat) (x8 : Int32), K23 σ x1 x7 x8 = some r → gx_G X (xk_P (gx_A X) w (σ)) 0 0 [some (va_rf (some x0)), some (.int (x1)), none, none, none, none, none, some (va_rf (x7)), some (.int (x8))] 23 []) {σ : xk_C} {x1 : Int32} {x7 : Option Nat} {x8 : Int32} (h : fX13_holds_B70 N x0 K23 σ x1 x7 x8 = some r) : gx_G X (xk_P (gx_A X) w (σ)) 0 0 [some (va_rf (some x0)), some (.int (x1)), none, none, none, none, none, some (va_rf (x7)), some (.int (x8))] 70 [] := by
  unfold fX13_holds_B70 at h
  refine gx_iinc (v := 1) hX dX13_holds_70 rfl (by decide) gx_c1r (lv' := [some (va_rf (some x0)), some (.int (x1)), none, none, none, none, none, some (va_rf (x7)), some (.int ((x8) + 1))]) rfl ?_
  refine gx_goto (tgt := 23) hX dX13_holds_73 (by decide) ?_
  exact hK23 _ _ _ _ h
def fX13_holds_L23 (N : Nat) (x0 : Nat)   : Nat → xk_C → Int32 → Option Nat → Int32 → Option (xk_C × Int32)
  | 0, _, _, _, _ => none
  | k + 1, σ, x1, x7, x8 => (xk_gr (σ) 66 (some x0)).bind fun v5 => (xk_is (σ) 21 (v5)).bind fun b7 => (fJ2_size (b7) (σ)).bind fun r6 => if (r6) ≤ x8 then some (σ, 0) else (xk_gr (σ) 67 (some x0)).bind fun v8 => (xk_ld (σ) 0 (v8) (x8)).bind fun v9 => if v9 = x1 then (xk_gr (σ) 66 (some x0)).bind fun v10 => (xk_is (σ) 21 (v10)).bind fun b12 => (fJ2_get (b12) (σ) (x8)).bind fun r11 => (xk_ct (σ) (r11)).bind fun u13 => (xk_io (σ) (r11)).bind fun b15 => (fV_Test_holds N 130 (σ) b15 (x7)).bind fun r14 => if r14 = 0 then fX13_holds_B70 N x0 (fX13_holds_L23 N x0 k) (σ) (x1) (x7) (x8) else some (σ, 1) else fX13_holds_B70 N x0 (fX13_holds_L23 N x0 k) (σ) (x1) (x7) (x8)
set_option maxHeartbeats 4000000 in
theorem eX13_holds_L23 {r : xk_C × Int32} {N : Nat} {x0 : Nat}   : ∀ (k : Nat) (σ : xk_C) (x1 : Int32) (x7 : Option Nat) (x8 : Int32), xk_er r σ (fX13_holds_L23 N x0 k σ x1 x7 x8) := by
  intro k
  induction k with
  | zero =>
    intro σ x1 x7 x8
    unfold fX13_holds_L23
    exact xk_er_none
  | succ k hL23 =>
    intro σ x1 x7 x8
    unfold fX13_holds_L23
    exact (xk_er_rd (fun _ => (xk_er_rd (fun _ => (xk_er_rd (fun _ => (xk_er_ite xk_er_ret (xk_er_rd (fun _ => (xk_er_rd (fun _ => (xk_er_ite (xk_er_rd (fun _ => (xk_er_rd (fun _ => (xk_er_rd (fun _ => (xk_er_rd (fun _ => (xk_er_rd (fun _ => (xk_er_rd (fun _ => (xk_er_ite (eX13_holds_B70 hL23) xk_er_ret))))))))))))) (eX13_holds_B70 hL23)))))))))))))
set_option maxHeartbeats 4000000 in
theorem tX13_holds_L23 {w : gw_W} {X : gx_X} {N : Nat} {x0 : Nat} {r : xk_C × Int32} (hX : gx_O (gw_I w (gx_A X)) X iX13_holds 134 0 0 (xk_P (gx_A X) w r.1) (.returned (some (.int r.2))))  : ∀ (k : Nat) (σ : xk_C) (x1 : Int32) (x7 : Option Nat) (x8 : Int32), fX13_holds_L23 N x0 k σ x1 x7 x8 = some r → gx_G X (xk_P (gx_A X) w (σ)) 0 0 [some (va_rf (some x0)), some (.int (x1)), none, none, none, none, none, some (va_rf (x7)), some (.int (x8))] 23 [] := by
  intro k
  induction k with
  | zero =>
    intro σ x1 x7 x8 h
    unfold fX13_holds_L23 at h
    cases h
  | succ k ih =>
    intro σ x1 x7 x8 h
    unfold fX13_holds_L23 at h
    refine gx_iload hX dX13_holds_23 rfl ?_
    refine gx_aload_n hX dX13_holds_25 rfl ?_
    refine xk_getr hX 66 q740 (fun _ h => h) rfl dX13_holds_26 h (fun v5 h => ?_)
    obtain ⟨b7, hb, h⟩ := gx_bs h
    obtain ⟨eb, hkb⟩ := xk_isS hb
    obtain ⟨r6, hr6, h⟩ := gx_bs h
    refine gx_cV (As := []) (rest := [.int (x8)]) (b := b7) hX (tJ2_size w (gx_A X) (gx_l X) (b7) (σ)  hr6) (lw_V q920 q315 q316 q89 q317) ⟨rfl, dsJ2_size⟩ (by decide) (Nat.le_of_ble_eq_true rfl) (xk_rc hX (ci := 20) (by decide) (by decide) hkb) (by rw [eb]; rfl) (gx_w8 (gx_kI gx_k0) (Nat.le_of_ble_eq_true rfl)) dX13_holds_29 ⟨Nat.le_refl _, Nat.le_refl _⟩ rfl ?_
    refine gx_icmp_ge (tgt := 76) hX dX13_holds_32 (by decide) h (fun h => ?_) (fun h => ?_)
    · refine gx_iconst (v := 0) hX dX13_holds_76 (by decide) ?_
      cases h
      exact gx_zret hX rfl rfl dX13_holds_77 rfl ⟨rfl, rfl⟩ (fun _ h => h)
    · refine gx_aload_n hX dX13_holds_35 rfl ?_
      refine xk_getr hX 67 q742 (fun _ h => h) rfl dX13_holds_36 h (fun v8 h => ?_)
      refine gx_iload hX dX13_holds_39 rfl ?_
      refine xk_iaload hX dX13_holds_41 h (fun v9 h => ?_)
      refine gx_iload_n hX dX13_holds_42 rfl ?_
      refine gx_icmp_ne (tgt := 70) hX dX13_holds_43 (by decide) h (fun h => ?_) (fun h => ?_)
      · refine gx_aload_n hX dX13_holds_46 rfl ?_
        refine xk_getr hX 66 q740 (fun _ h => h) rfl dX13_holds_47 h (fun v10 h => ?_)
        refine gx_iload hX dX13_holds_50 rfl ?_
        obtain ⟨b12, hb, h⟩ := gx_bs h
        obtain ⟨eb, hkb⟩ := xk_isS hb
        obtain ⟨r11, hr11, h⟩ := gx_bs h
        refine gx_cV (As := [.int (x8)]) (rest := []) (b := b12) hX (tJ2_get w (gx_A X) (gx_l X) (b12) (σ) (x8) hr11) (lw_V q921 q434 q435 q89 q436) ⟨rfl, dsJ2_get⟩ (by decide) (Nat.le_of_ble_eq_true rfl) (xk_rc hX (ci := 20) (by decide) (by decide) hkb) (by rw [eb]; rfl) (gx_w8 gx_k0 (Nat.le_of_ble_eq_true rfl)) dX13_holds_52 ⟨Nat.le_refl _, Nat.le_refl _⟩ rfl ?_
        refine xk_castT hX q922 dX13_holds_55 h (fun h => ?_)
        refine gx_aload hX dX13_holds_58 rfl ?_
        obtain ⟨b15, hb, h⟩ := gx_bs h
        obtain ⟨eb, -⟩ := xk_ioS hb
        obtain ⟨r14, hr14, h⟩ := gx_bs h
        have hk : gx_G X (xk_P (gx_A X) w (σ)) 0 0 [some (va_rf (some x0)), some (.int (x1)), none, none, none, none, none, some (va_rf (x7)), some (.int (x8))] 65 [.int (r14)] := by
          refine gx_if_eq (tgt := 70) hX dX13_holds_65 (by decide) h (fun h => ?_) (fun h => ?_)
          · exact tX13_holds_B70 hX ih h
          · refine gx_iconst (v := 1) hX dX13_holds_68 (by decide) ?_
            cases h
            exact gx_zret hX rfl rfl dX13_holds_69 rfl ⟨rfl, rfl⟩ (fun _ h => h)
        rcases tV_Test_holds w (gx_A X) (gx_l X) N 130 _ _ _ hr14 with ⟨c15, hq⟩ | ⟨c16, hq⟩ | ⟨c17, hq⟩
        · exact gx_cF (As := [va_rf (x7)]) (rest := []) (b := b15) hX (hX.2.2.2.2.2.2.2.1.1.1 15 _ (xk_at 15 (by decide))).2 (hX.2.2.2.2.2.2.2.1.2.2.2.2.2.2.2.2.2.2.1 15 (by decide)) hq (gx_gF q924 q938 q940 q112 q942) ds_Test (by decide) (Nat.le_of_ble_eq_true rfl) (xk_rc hX (ci := 15) (by decide) (by decide) c15) (by rw [eb]; rfl) (gx_w8 gx_k0 (Nat.le_of_ble_eq_true rfl)) dX13_holds_60 ⟨Nat.le_refl _, Nat.le_refl _⟩ rfl hk
        · exact gx_cF (As := [va_rf (x7)]) (rest := []) (b := b15) hX (hX.2.2.2.2.2.2.2.1.1.1 16 _ (xk_at 16 (by decide))).2 (hX.2.2.2.2.2.2.2.1.2.2.2.2.2.2.2.2.2.2.1 16 (by decide)) (tX16_holds w (gx_A X) (gx_l X) (b15) (σ) (x7) hq) (gx_gF q924 q928 q930 q113 q932) ds_Test (by decide) (Nat.le_of_ble_eq_true rfl) (xk_rc hX (ci := 16) (by decide) (by decide) c16) (by rw [eb]; rfl) (gx_w8 gx_k0 (Nat.le_of_ble_eq_true rfl)) dX13_holds_60 ⟨Nat.le_refl _, Nat.le_refl _⟩ rfl hk
        · exact gx_cF (As := [va_rf (x7)]) (rest := []) (b := b15) hX (hX.2.2.2.2.2.2.2.1.1.1 17 _ (xk_at 17 (by decide))).2 (hX.2.2.2.2.2.2.2.1.2.2.2.2.2.2.2.2.2.2.1 17 (by decide)) hq (gx_gF q924 q946 q948 q114 q950) ds_Test (by decide) (Nat.le_of_ble_eq_true rfl) (xk_rc hX (ci := 17) (by decide) (by decide) c17) (by rw [eb]; rfl) (gx_w8 gx_k0 (Nat.le_of_ble_eq_true rfl)) dX13_holds_60 ⟨Nat.le_refl _, Nat.le_refl _⟩ rfl hk
      · exact tX13_holds_B70 hX ih h
def fX13_holds (N : Nat) (x0 : Nat) (σ : xk_C) (x1 : Int32) (x2 : Int32) (x3 : Int32) (x4 : Int32) (x5 : Int32) (x6 : Int32) : Option (xk_C × Int32) := (xk_gr (σ) 69 (some x0)).bind fun v1 => (xk_gr (σ) 10 (v1)).bind fun v2 => (xk_is (σ) 2 (v2)).bind fun b4 => (fX1_with (b4) (σ) (x2) (x3) (x4) (x5) (x6)).bind fun r3 => fX13_holds_L23 N x0 N (r3.1) (x1) (r3.2) (0)
set_option maxHeartbeats 4000000 in
theorem eX13_holds {N : Nat} {x0 : Nat} {σ : xk_C} {x1 : Int32} {x2 : Int32} {x3 : Int32} {x4 : Int32} {x5 : Int32} {x6 : Int32} : ∀ p, fX13_holds N x0 σ x1 x2 x3 x4 x5 x6 = some p → xk_n p.1 = xk_n σ ∧ xk_s p.1 = xk_s σ := fun r => show xk_er r σ (fX13_holds N x0 σ x1 x2 x3 x4 x5 x6) from by
  unfold fX13_holds
  exact (xk_er_rd (fun _ => (xk_er_rd (fun _ => (xk_er_rd (fun _ => (xk_er_ca (eX1_with) (fun _ => (eX13_holds_L23  N _ _ _ _)))))))))
theorem mX13_holds {N : Nat} {x0 : Nat} {σ : xk_C} {x1 : Int32} {x2 : Int32} {x3 : Int32} {x4 : Int32} {x5 : Int32} {x6 : Int32} : ∀ p, fX13_holds N x0 σ x1 x2 x3 x4 x5 x6 = some p → xk_n σ ≤ xk_n p.1 ∧ xk_s σ ≤ xk_s p.1 := fun p h => xk_le_of (eX13_holds p h)
set_option maxHeartbeats 4000000 in
theorem tX13_holds (w : gw_W) (A : Nat → Prop) (l : Launch) (N : Nat) (x0 : Nat) (σ : xk_C) (x1 : Int32) (x2 : Int32) (x3 : Int32) (x4 : Int32) (x5 : Int32) (x6 : Int32) {r : xk_C × Int32} (h : fX13_holds N x0 σ x1 x2 x3 x4 x5 x6 = some r) : gx_T (gw_I w A) A l yX13_holds iX13_holds 134 [va_rf (some x0), .int (x1), .int (x2), .int (x3), .int (x4), .int (x5), .int (x6)] (xk_P A w σ) 0 0 (xk_P A w r.1) (.returned (some (.int r.2))) := by
  refine gx_T.of (gw_I.inv w A) (by decide) ⟨rfl, rfl⟩ (gx_kR (gx_kI (gx_kI (gx_kI (gx_kI (gx_kI (gx_kI gx_k0))))))) (Nat.le_of_ble_eq_true rfl) (fun X hl hAx hX => ?_)
  subst hl
  subst hAx
  show gx_G X (xk_P (gx_A X) w (σ)) 0 0 [some (va_rf (some x0)), some (.int (x1)), some (.int (x2)), some (.int (x3)), some (.int (x4)), some (.int (x5)), some (.int (x6)), none, none] 0 []
  unfold fX13_holds at h
  refine gx_aload_n hX dX13_holds_0 rfl ?_
  refine xk_getr hX 69 q747 (fun _ h => h) rfl dX13_holds_1 h (fun v1 h => ?_)
  refine xk_getrN hX 10 q230 rfl dX13_holds_4 h (fun v2 h => ?_)
  refine gx_iload_n hX dX13_holds_7 rfl ?_
  refine gx_iload_n hX dX13_holds_8 rfl ?_
  refine gx_iload hX dX13_holds_9 rfl ?_
  refine gx_iload hX dX13_holds_11 rfl ?_
  refine gx_iload hX dX13_holds_13 rfl ?_
  obtain ⟨b4, hb, h⟩ := gx_bs h
  obtain ⟨eb, hkb⟩ := xk_isS hb
  obtain ⟨r3, hr3, h⟩ := gx_bs h
  refine gx_cV (As := [.int (x2), .int (x3), .int (x4), .int (x5), .int (x6)]) (rest := []) (b := b4) hX (tX1_with w (gx_A X) (gx_l X) (b4) (σ) (x2) (x3) (x4) (x5) (x6) hr3) (lw_V q916 q917 q918 q90 q919) ⟨rfl, dsX1_with⟩ (by decide) (Nat.le_of_ble_eq_true rfl) (xk_rc hX (ci := 1) (by decide) (by decide) hkb) (by rw [eb]; rfl) (gx_w8 gx_k0 (Nat.le_of_ble_eq_true rfl)) dX13_holds_15 ⟨Nat.le_refl _, Nat.le_refl _⟩ rfl ?_
  refine gx_astore hX dX13_holds_18 (Nat.le_of_ble_eq_true rfl) gx_c1i (lv' := [some (va_rf (some x0)), some (.int (x1)), some (.int (x2)), some (.int (x3)), some (.int (x4)), some (.int (x5)), some (.int (x6)), some (va_rf (r3.2)), none]) rfl ?_
  refine gx_iconst (v := 0) hX dX13_holds_20 (by decide) ?_
  refine gx_istore hX dX13_holds_21 (Nat.le_of_ble_eq_true rfl) gx_c1r (lv' := [some (va_rf (some x0)), some (.int (x1)), some (.int (x2)), some (.int (x3)), some (.int (x4)), some (.int (x5)), some (.int (x6)), some (va_rf (r3.2)), some (.int (0))]) rfl ?_
  refine gx_sub hX (lv' := [some (va_rf (some x0)), some (.int (x1)), none, none, none, none, none, some (va_rf (r3.2)), some (.int (0))]) ⟨Or.inr rfl, ⟨Or.inr rfl, ⟨Or.inl rfl, ⟨Or.inl rfl, ⟨Or.inl rfl, ⟨Or.inl rfl, ⟨Or.inl rfl, ⟨Or.inr rfl, ⟨Or.inr rfl, trivial⟩⟩⟩⟩⟩⟩⟩⟩⟩ ?_
  exact tX13_holds_L23 hX  N _ _ _ _ h
abbrev iX0_holds : gx_M := (RX0, "holds", cX0_holds, 9, some .int)
theorem dsX0_holds : gx_ds yX0_holds 7 := by decide +kernel
def fX0_holds (N : Nat) (x0 : Nat) (σ : xk_C) (x1 : Int32) (x2 : Int32) (x3 : Int32) (x4 : Int32) (x5 : Int32) (x6 : Int32) (x7 : Int32) : Option (xk_C × Int32) := (xk_is (σ) 1 (some x0)).bind fun b2 => (fX0_habitAt (b2) (σ) (x1)).bind fun r1 => if r1 = none then some (σ, (-1)) else (fX0_in  (x2) (0) (3)).bind fun r3 => if r3 = 0 then some (σ, (-1)) else (fX0_areNumbers  (x3) (x4) (x5) (x6) (x7)).bind fun r4 => if r4 = 0 then some (σ, (-2)) else (xk_is (σ) 14 (r1)).bind fun b6 => (fX13_holds N (b6) (σ) (x2) (x3) (x4) (x5) (x6) (x7)).bind fun r5 => if r5.2 = 0 then some (r5.1, 0) else some (r5.1, 1)
set_option maxHeartbeats 4000000 in
theorem tX0_holds (w : gw_W) (A : Nat → Prop) (l : Launch) (N : Nat) (x0 : Nat) (σ : xk_C) (x1 : Int32) (x2 : Int32) (x3 : Int32) (x4 : Int32) (x5 : Int32) (x6 : Int32) (x7 : Int32) {r : xk_C × Int32} (h : fX0_holds N x0 σ x1 x2 x3 x4 x5 x6 x7 = some r) : gx_T (gw_I w A) A l yX0_holds iX0_holds 135 [va_rf (some x0), .int (x1), .int (x2), .int (x3), .int (x4), .int (x5), .int (x6), .int (x7)] (xk_P A w σ) 0 0 (xk_P A w r.1) (.returned (some (.int r.2))) := by
  refine gx_T.of (gw_I.inv w A) (by decide) ⟨rfl, rfl⟩ (gx_kR (gx_kI (gx_kI (gx_kI (gx_kI (gx_kI (gx_kI (gx_kI gx_k0)))))))) (Nat.le_of_ble_eq_true rfl) (fun X hl hAx hX => ?_)
  subst hl
  subst hAx
  show gx_G X (xk_P (gx_A X) w (σ)) 0 0 [some (va_rf (some x0)), some (.int (x1)), some (.int (x2)), some (.int (x3)), some (.int (x4)), some (.int (x5)), some (.int (x6)), some (.int (x7)), none] 0 []
  unfold fX0_holds at h
  refine gx_aload_n hX dX0_holds_0 rfl ?_
  refine gx_iload_n hX dX0_holds_1 rfl ?_
  obtain ⟨b2, hb, h⟩ := gx_bs h
  obtain ⟨eb, hkb⟩ := xk_isS hb
  obtain ⟨r1, hr1, h⟩ := gx_bs h
  refine gx_cV (As := [.int (x1)]) (rest := []) (b := b2) hX (tX0_habitAt w (gx_A X) (gx_l X) (b2) (σ) (x1) hr1) (lw_V q626 q628 qs5 q86 q629) ⟨rfl, dsX0_habitAt⟩ (by decide) (Nat.le_of_ble_eq_true rfl) (xk_rc hX (ci := 0) (by decide) (by decide) hkb) (by rw [eb]; rfl) (gx_w8 gx_k0 (Nat.le_of_ble_eq_true rfl)) dX0_holds_2 ⟨Nat.le_refl _, Nat.le_refl _⟩ rfl ?_
  refine gx_astore hX dX0_holds_5 (Nat.le_of_ble_eq_true rfl) gx_c1i (lv' := [some (va_rf (some x0)), some (.int (x1)), some (.int (x2)), some (.int (x3)), some (.int (x4)), some (.int (x5)), some (.int (x6)), some (.int (x7)), some (va_rf (r1))]) rfl ?_
  refine gx_aload hX dX0_holds_7 rfl ?_
  refine gx_ifnull (tgt := 21) hX dX0_holds_9 (by decide) h (fun h => ?_) (fun h => ?_)
  · refine gx_iconst (v := (-1)) hX dX0_holds_21 (by decide) ?_
    cases h
    exact gx_iret hX rfl dX0_holds_22 rfl ⟨rfl, rfl⟩ (fun _ h => h)
  · refine gx_iload_n hX dX0_holds_12 rfl ?_
    refine gx_iconst (v := 0) hX dX0_holds_13 (by decide) ?_
    refine gx_iconst (v := 3) hX dX0_holds_14 (by decide) ?_
    obtain ⟨r3, hr3, h⟩ := gx_bs h
    refine gx_cS (As := [.int (x2), .int (0), .int (3)]) (rest := []) hX (tX0_in w (gx_A X) (gx_l X) (xk_P (gx_A X) w (σ)) (x2) (0) (3) hr3) (lw_S q311 q312 q86 q313) dsX0_in (by decide) (Nat.le_of_ble_eq_true rfl) rfl (gx_w8 gx_k0 (Nat.le_of_ble_eq_true rfl)) dX0_holds_15 ⟨Nat.le_refl _, Nat.le_refl _⟩ rfl ?_
    refine gx_if_ne (tgt := 23) hX dX0_holds_18 (by decide) h (fun h => ?_) (fun h => ?_)
    · refine gx_iconst (v := (-1)) hX dX0_holds_21 (by decide) ?_
      cases h
      exact gx_iret hX rfl dX0_holds_22 rfl ⟨rfl, rfl⟩ (fun _ h => h)
    · refine gx_iload_n hX dX0_holds_23 rfl ?_
      refine gx_iload hX dX0_holds_24 rfl ?_
      refine gx_iload hX dX0_holds_26 rfl ?_
      refine gx_iload hX dX0_holds_28 rfl ?_
      refine gx_iload hX dX0_holds_30 rfl ?_
      obtain ⟨r4, hr4, h⟩ := gx_bs h
      refine gx_cS (As := [.int (x3), .int (x4), .int (x5), .int (x6), .int (x7)]) (rest := []) hX (tX0_areNumbers w (gx_A X) (gx_l X) (xk_P (gx_A X) w (σ)) (x3) (x4) (x5) (x6) (x7) hr4) (lw_S q906 q907 q86 q908) dsX0_areNumbers (by decide) (Nat.le_of_ble_eq_true rfl) rfl (gx_w8 gx_k0 (Nat.le_of_ble_eq_true rfl)) dX0_holds_32 ⟨Nat.le_refl _, Nat.le_refl _⟩ rfl ?_
      refine gx_if_ne (tgt := 41) hX dX0_holds_35 (by decide) h (fun h => ?_) (fun h => ?_)
      · refine gx_bipush (v := (-2)) hX dX0_holds_38 (by decide) ?_
        cases h
        exact gx_iret hX rfl dX0_holds_40 rfl ⟨rfl, rfl⟩ (fun _ h => h)
      · refine gx_aload hX dX0_holds_41 rfl ?_
        refine gx_iload_n hX dX0_holds_43 rfl ?_
        refine gx_iload_n hX dX0_holds_44 rfl ?_
        refine gx_iload hX dX0_holds_45 rfl ?_
        refine gx_iload hX dX0_holds_47 rfl ?_
        refine gx_iload hX dX0_holds_49 rfl ?_
        refine gx_iload hX dX0_holds_51 rfl ?_
        obtain ⟨b6, hb, h⟩ := gx_bs h
        obtain ⟨eb, hkb⟩ := xk_isS hb
        obtain ⟨r5, hr5, h⟩ := gx_bs h
        refine gx_cV (As := [.int (x2), .int (x3), .int (x4), .int (x5), .int (x6), .int (x7)]) (rest := []) (b := b6) hX (tX13_holds w (gx_A X) (gx_l X) N (b6) (σ) (x2) (x3) (x4) (x5) (x6) (x7) hr5) (lw_V q912 q913 q914 q108 q915) ⟨rfl, dsX13_holds⟩ (by decide) (Nat.le_of_ble_eq_true rfl) (xk_rc hX (ci := 13) (by decide) (by decide) hkb) (by rw [eb]; rfl) (gx_w8 gx_k0 (Nat.le_of_ble_eq_true rfl)) dX0_holds_53 ⟨Nat.le_refl _, Nat.le_refl _⟩ rfl ?_
        refine gx_if_eq (tgt := 63) hX dX0_holds_56 (by decide) h (fun h => ?_) (fun h => ?_)
        · refine gx_iconst (v := 0) hX dX0_holds_63 (by decide) ?_
          cases h
          exact gx_iret hX rfl dX0_holds_64 rfl ⟨rfl, rfl⟩ (fun _ h => h)
        · refine gx_iconst (v := 1) hX dX0_holds_59 (by decide) ?_
          refine gx_goto (tgt := 64) hX dX0_holds_60 (by decide) ?_
          cases h
          exact gx_iret hX rfl dX0_holds_64 rfl ⟨rfl, rfl⟩ (fun _ h => h)
abbrev iX0_set : gx_M := (RX0, "set", cX0_set, 4, some .int)
theorem dsX0_set : gx_ds yX0_set 2 := by decide +kernel
def fX0_set_B47 (x0 : Nat)   (σ : xk_C) (x1 : Int32) (x2 : Int32) (y0 : Int32) : Option (xk_C × Int32) := if x1 = 0 then (xk_pi (σ) 5 (some x0) (x2)).bind fun σ5 => some (σ5, y0) else (xk_pi (σ) 6 (some x0) (x2)).bind fun σ4 => some (σ4, y0)
set_option maxHeartbeats 4000000 in
theorem tX0_set_B47 {w : gw_W} {X : gx_X} {x0 : Nat} {r : xk_C × Int32} (hX : gx_O (gw_I w (gx_A X)) X iX0_set 2 0 0 (xk_P (gx_A X) w r.1) (.returned (some (.int r.2))))  {σ : xk_C} {x1 : Int32} {x2 : Int32} {y0 : Int32} (h : fX0_set_B47 x0 σ x1 x2 y0 = some r) : gx_G X (xk_P (gx_A X) w (σ)) 0 0 [some (va_rf (some x0)), some (.int (x1)), some (.int (x2)), none] 47 [.int (y0)] := by
  unfold fX0_set_B47 at h
  refine gx_istore_n hX dX0_set_47 (Nat.le_of_ble_eq_true rfl) gx_c1i (lv' := [some (va_rf (some x0)), some (.int (x1)), some (.int (x2)), some (.int (y0))]) rfl ?_
  refine gx_iload_n hX dX0_set_48 rfl ?_
  refine gx_if_ne (tgt := 60) hX dX0_set_49 (by decide) h (fun h => ?_) (fun h => ?_)
  · refine gx_aload_n hX dX0_set_52 rfl ?_
    refine gx_iload_n hX dX0_set_53 rfl ?_
    refine xk_puti hX 5 xk_ty5 rfl q219 (fun _ h => h) rfl rfl dX0_set_54 h (fun σ5 hτ h => ?_)
    refine gx_goto (tgt := 65) hX dX0_set_57 (by decide) ?_
    refine gx_iload_n hX dX0_set_65 rfl ?_
    cases h
    exact gx_iret hX rfl dX0_set_66 rfl ⟨rfl, rfl⟩ (fun _ h => h)
  · refine gx_aload_n hX dX0_set_60 rfl ?_
    refine gx_iload_n hX dX0_set_61 rfl ?_
    refine xk_puti hX 6 xk_ty6 rfl q222 (fun _ h => h) rfl rfl dX0_set_62 h (fun σ4 hτ h => ?_)
    refine gx_iload_n hX dX0_set_65 rfl ?_
    cases h
    exact gx_iret hX rfl dX0_set_66 rfl ⟨rfl, rfl⟩ (fun _ h => h)
def fX0_set_B23 (x0 : Nat)   (σ : xk_C) (x1 : Int32) (x2 : Int32) (y0 : Int32) (y1 : Int32) (y2 : Int32) : Option (xk_C × Int32) := (fX0_in  (y2) (y1) (y0)).bind fun r2 => if r2 = 0 then some (σ, (-2)) else if x1 = 0 then (xk_gi (σ) 5 (some x0)).bind fun v6 => fX0_set_B47 x0 (σ) (x1) (x2) (v6) else (xk_gi (σ) 6 (some x0)).bind fun v3 => fX0_set_B47 x0 (σ) (x1) (x2) (v3)
set_option maxHeartbeats 4000000 in
theorem tX0_set_B23 {w : gw_W} {X : gx_X} {x0 : Nat} {r : xk_C × Int32} (hX : gx_O (gw_I w (gx_A X)) X iX0_set 2 0 0 (xk_P (gx_A X) w r.1) (.returned (some (.int r.2))))  {σ : xk_C} {x1 : Int32} {x2 : Int32} {y0 : Int32} {y1 : Int32} {y2 : Int32} (h : fX0_set_B23 x0 σ x1 x2 y0 y1 y2 = some r) : gx_G X (xk_P (gx_A X) w (σ)) 0 0 [some (va_rf (some x0)), some (.int (x1)), some (.int (x2)), none] 23 [.int (y0), .int (y1), .int (y2)] := by
  unfold fX0_set_B23 at h
  obtain ⟨r2, hr2, h⟩ := gx_bs h
  refine gx_cS (As := [.int (y2), .int (y1), .int (y0)]) (rest := []) hX (tX0_in w (gx_A X) (gx_l X) (xk_P (gx_A X) w (σ)) (y2) (y1) (y0) hr2) (lw_S q311 q312 q86 q313) dsX0_in (by decide) (Nat.le_of_ble_eq_true rfl) rfl (gx_w8 gx_k0 (Nat.le_of_ble_eq_true rfl)) dX0_set_23 ⟨Nat.le_refl _, Nat.le_refl _⟩ rfl ?_
  refine gx_if_ne (tgt := 32) hX dX0_set_26 (by decide) h (fun h => ?_) (fun h => ?_)
  · refine gx_bipush (v := (-2)) hX dX0_set_29 (by decide) ?_
    cases h
    exact gx_iret hX rfl dX0_set_31 rfl ⟨rfl, rfl⟩ (fun _ h => h)
  · refine gx_iload_n hX dX0_set_32 rfl ?_
    refine gx_if_ne (tgt := 43) hX dX0_set_33 (by decide) h (fun h => ?_) (fun h => ?_)
    · refine gx_aload_n hX dX0_set_36 rfl ?_
      refine xk_geti hX 5 q219 (fun _ h => h) rfl dX0_set_37 h (fun v6 h => ?_)
      refine gx_goto (tgt := 47) hX dX0_set_40 (by decide) ?_
      exact tX0_set_B47 hX  h
    · refine gx_aload_n hX dX0_set_43 rfl ?_
      refine xk_geti hX 6 q222 (fun _ h => h) rfl dX0_set_44 h (fun v3 h => ?_)
      exact tX0_set_B47 hX  h
def fX0_set (x0 : Nat) (σ : xk_C) (x1 : Int32) (x2 : Int32) : Option (xk_C × Int32) := (fX0_in  (x1) (0) (1)).bind fun r1 => if r1 = 0 then some (σ, (-1)) else if x1 = 0 then fX0_set_B23 x0 (σ) (x1) (x2) (5) (0) (x2) else fX0_set_B23 x0 (σ) (x1) (x2) (nI 50) (0) (x2)
set_option maxHeartbeats 4000000 in
theorem tX0_set (w : gw_W) (A : Nat → Prop) (l : Launch) (x0 : Nat) (σ : xk_C) (x1 : Int32) (x2 : Int32) {r : xk_C × Int32} (h : fX0_set x0 σ x1 x2 = some r) : gx_T (gw_I w A) A l yX0_set iX0_set 2 [va_rf (some x0), .int (x1), .int (x2)] (xk_P A w σ) 0 0 (xk_P A w r.1) (.returned (some (.int r.2))) := by
  refine gx_T.of (gw_I.inv w A) (by decide) ⟨rfl, rfl⟩ (gx_kR (gx_kI (gx_kI gx_k0))) (Nat.le_of_ble_eq_true rfl) (fun X hl hAx hX => ?_)
  subst hl
  subst hAx
  show gx_G X (xk_P (gx_A X) w (σ)) 0 0 [some (va_rf (some x0)), some (.int (x1)), some (.int (x2)), none] 0 []
  unfold fX0_set at h
  refine gx_iload_n hX dX0_set_0 rfl ?_
  refine gx_iconst (v := 0) hX dX0_set_1 (by decide) ?_
  refine gx_iconst (v := 1) hX dX0_set_2 (by decide) ?_
  obtain ⟨r1, hr1, h⟩ := gx_bs h
  refine gx_cS (As := [.int (x1), .int (0), .int (1)]) (rest := []) hX (tX0_in w (gx_A X) (gx_l X) (xk_P (gx_A X) w (σ)) (x1) (0) (1) hr1) (lw_S q311 q312 q86 q313) dsX0_in (by decide) (Nat.le_of_ble_eq_true rfl) rfl (gx_w8 gx_k0 (Nat.le_of_ble_eq_true rfl)) dX0_set_3 ⟨Nat.le_refl _, Nat.le_refl _⟩ rfl ?_
  refine gx_if_ne (tgt := 11) hX dX0_set_6 (by decide) h (fun h => ?_) (fun h => ?_)
  · refine gx_iconst (v := (-1)) hX dX0_set_9 (by decide) ?_
    cases h
    exact gx_iret hX rfl dX0_set_10 rfl ⟨rfl, rfl⟩ (fun _ h => h)
  · refine gx_iload_n hX dX0_set_11 rfl ?_
    refine gx_iconst (v := 0) hX dX0_set_12 (by decide) ?_
    refine gx_iload_n hX dX0_set_13 rfl ?_
    refine gx_if_ne (tgt := 21) hX dX0_set_14 (by decide) h (fun h => ?_) (fun h => ?_)
    · refine gx_iconst (v := 5) hX dX0_set_17 (by decide) ?_
      refine gx_goto (tgt := 23) hX dX0_set_18 (by decide) ?_
      exact tX0_set_B23 hX  h
    · refine gx_bipush (v := nI 50) hX dX0_set_21 (by decide) ?_
      exact tX0_set_B23 hX  h
abbrev iX5_goTo : gx_M := (RX5, "goTo", cX5_goTo, 2, none)
theorem dsX5_goTo : gx_ds yX5_goTo 1 := by decide +kernel
def fX5_goTo (x0 : Nat) (σ : xk_C) (x1 : Option Nat) : Option (xk_C × Unit) := (xk_gr (σ) 56 (some x0)).bind fun v1 => (xk_gi (σ) 5 (v1)).bind fun v2 => if v2 = 0 then (xk_is (σ) 6 (some x0)).bind fun b10 => (fX5_houseIn (b10) (σ) (x1)).bind fun r9 => some (r9.1, ()) else (xk_pr (σ) 53 (some x0) (x1)).bind fun σ3 => (xk_gr (σ3) 56 (some x0)).bind fun v4 => (xk_gi (σ3) 5 (v4)).bind fun v5 => (xk_pi (σ3) 48 (some x0) (v5)).bind fun σ6 => (xk_is (σ6) 5 (x1)).bind fun b8 => (fX4_become (b8) (σ6) (2) (some x0)).bind fun r7 => some (r7.1, ())
set_option maxHeartbeats 4000000 in
theorem eX5_goTo {x0 : Nat} {σ : xk_C} {x1 : Option Nat} : ∀ p, fX5_goTo x0 σ x1 = some p → xk_n p.1 = xk_n σ ∧ xk_s p.1 = xk_s σ := fun r => show xk_er r σ (fX5_goTo x0 σ x1) from by
  unfold fX5_goTo
  exact (xk_er_rd (fun _ => (xk_er_rd (fun _ => (xk_er_ite (xk_er_rd (fun _ => (xk_er_ca (eX5_houseIn) (fun _ => xk_er_ret)))) (xk_er_op xk_e_pr (fun _ => (xk_er_rd (fun _ => (xk_er_rd (fun _ => (xk_er_op xk_e_pi (fun _ => (xk_er_rd (fun _ => (xk_er_ca (eX4_become) (fun _ => xk_er_ret)))))))))))))))))
theorem mX5_goTo {x0 : Nat} {σ : xk_C} {x1 : Option Nat} : ∀ p, fX5_goTo x0 σ x1 = some p → xk_n σ ≤ xk_n p.1 ∧ xk_s σ ≤ xk_s p.1 := fun p h => xk_le_of (eX5_goTo p h)
set_option maxHeartbeats 4000000 in
theorem tX5_goTo (w : gw_W) (A : Nat → Prop) (l : Launch) (x0 : Nat) (σ : xk_C) (x1 : Option Nat) {r : xk_C × Unit} (h : fX5_goTo x0 σ x1 = some r) : gx_T (gw_I w A) A l yX5_goTo iX5_goTo 3 [va_rf (some x0), va_rf (x1)] (xk_P A w σ) 0 0 (xk_P A w r.1) (.returned none) := by
  refine gx_T.of (gw_I.inv w A) (by decide) ⟨rfl, rfl⟩ (gx_kR (gx_kR gx_k0)) (Nat.le_of_ble_eq_true rfl) (fun X hl hAx hX => ?_)
  subst hl
  subst hAx
  show gx_G X (xk_P (gx_A X) w (σ)) 0 0 [some (va_rf (some x0)), some (va_rf (x1))] 0 []
  unfold fX5_goTo at h
  refine gx_aload_n hX dX5_goTo_0 rfl ?_
  refine xk_getr hX 56 q582 (fun _ h => h) rfl dX5_goTo_1 h (fun v1 h => ?_)
  refine xk_getiN hX 5 q220 rfl dX5_goTo_4 h (fun v2 h => ?_)
  refine gx_if_ne (tgt := 16) hX dX5_goTo_7 (by decide) h (fun h => ?_) (fun h => ?_)
  · refine gx_aload_n hX dX5_goTo_10 rfl ?_
    refine gx_aload_n hX dX5_goTo_11 rfl ?_
    obtain ⟨b10, hb, h⟩ := gx_bs h
    obtain ⟨eb, hkb⟩ := xk_isS hb
    obtain ⟨r9, hr9, h⟩ := gx_bs h
    refine gx_cV (As := [va_rf (x1)]) (rest := []) (b := b10) hX (tX5_houseIn w (gx_A X) (gx_l X) (b10) (σ) (x1) hr9) (lw_V q981 q611 q612 q100 q613) ⟨rfl, dsX5_houseIn⟩ (by decide) (Nat.le_of_ble_eq_true rfl) (xk_rc hX (ci := 5) (by decide) (by decide) hkb) (by rw [eb]; rfl) (gx_w8 gx_k0 (Nat.le_of_ble_eq_true rfl)) dX5_goTo_12 ⟨Nat.le_refl _, Nat.le_refl _⟩ rfl ?_
    cases h
    exact gx_vret hX rfl dX5_goTo_15 rfl ⟨rfl, rfl⟩ (fun _ h => h)
  · refine gx_aload_n hX dX5_goTo_16 rfl ?_
    refine gx_aload_n hX dX5_goTo_17 rfl ?_
    refine xk_putr hX 53 xk_ty53 (Or.inl ⟨_, rfl⟩) q574 (fun _ h => h) rfl rfl dX5_goTo_18 h (fun σ3 hτ h => ?_)
    refine gx_aload_n hX dX5_goTo_21 rfl ?_
    refine gx_aload_n hX dX5_goTo_22 rfl ?_
    refine xk_getr hX 56 q582 (fun _ h => h) rfl dX5_goTo_23 h (fun v4 h => ?_)
    refine xk_getiN hX 5 q220 rfl dX5_goTo_26 h (fun v5 h => ?_)
    refine xk_puti hX 48 xk_ty48 rfl q559 (fun _ h => h) rfl rfl dX5_goTo_29 h (fun σ6 hτ h => ?_)
    refine gx_aload_n hX dX5_goTo_32 rfl ?_
    refine gx_iconst (v := 2) hX dX5_goTo_33 (by decide) ?_
    refine gx_aload_n hX dX5_goTo_34 rfl ?_
    obtain ⟨b8, hb, h⟩ := gx_bs h
    obtain ⟨eb, hkb⟩ := xk_isS hb
    obtain ⟨r7, hr7, h⟩ := gx_bs h
    refine gx_cV (As := [.int (2), va_rf (some x0)]) (rest := []) (b := b8) hX (tX4_become w (gx_A X) (gx_l X) (b8) (σ6) (2) (some x0) hr7) (lw_V q614 q615 q616 q93 q617) ⟨rfl, dsX4_become⟩ (by decide) (Nat.le_of_ble_eq_true rfl) (xk_rc hX (ci := 4) (by decide) (by decide) hkb) (by rw [eb]; rfl) (gx_w8 gx_k0 (Nat.le_of_ble_eq_true rfl)) dX5_goTo_35 ⟨Nat.le_refl _, Nat.le_refl _⟩ rfl ?_
    cases h
    exact gx_vret hX rfl dX5_goTo_38 rfl ⟨rfl, rfl⟩ (fun _ h => h)
abbrev iX5_holds : gx_M := (RX5, "holds", cX5_holds, 5, some .boolean)
theorem dsX5_holds : gx_ds yX5_holds 4 := by decide +kernel
def fX5_holds (N : Nat) (x0 : Nat) (σ : xk_C) (x1 : Int32) (x2 : Int32) (x3 : Int32) (x4 : Int32) : Option (xk_C × Int32) := (xk_gr (σ) 55 (some x0)).bind fun v1 => if v1 = none then some (σ, 0) else (xk_gr (σ) 55 (some x0)).bind fun v2 => (xk_is (σ) 6 (some x0)).bind fun b4 => (fX5_fit (b4) (σ)).bind fun r3 => (xk_gi (σ) 47 (some x0)).bind fun v5 => (xk_is (σ) 14 (v2)).bind fun b7 => (fX13_holds N (b7) (σ) (x1) ((r3) + (nI 50)) ((x2) + (nI 50)) (v5) (x3) (x4)).bind fun r6 => if r6.2 = 0 then some (r6.1, 0) else some (r6.1, 1)
set_option maxHeartbeats 4000000 in
theorem eX5_holds {N : Nat} {x0 : Nat} {σ : xk_C} {x1 : Int32} {x2 : Int32} {x3 : Int32} {x4 : Int32} : ∀ p, fX5_holds N x0 σ x1 x2 x3 x4 = some p → xk_n p.1 = xk_n σ ∧ xk_s p.1 = xk_s σ := fun r => show xk_er r σ (fX5_holds N x0 σ x1 x2 x3 x4) from by
  unfold fX5_holds
  exact (xk_er_rd (fun _ => (xk_er_ite xk_er_ret (xk_er_rd (fun _ => (xk_er_rd (fun _ => (xk_er_rd (fun _ => (xk_er_rd (fun _ => (xk_er_rd (fun _ => (xk_er_ca (eX13_holds) (fun _ => (xk_er_ite xk_er_ret xk_er_ret))))))))))))))))
theorem mX5_holds {N : Nat} {x0 : Nat} {σ : xk_C} {x1 : Int32} {x2 : Int32} {x3 : Int32} {x4 : Int32} : ∀ p, fX5_holds N x0 σ x1 x2 x3 x4 = some p → xk_n σ ≤ xk_n p.1 ∧ xk_s σ ≤ xk_s p.1 := fun p h => xk_le_of (eX5_holds p h)
set_option maxHeartbeats 4000000 in
theorem tX5_holds (w : gw_W) (A : Nat → Prop) (l : Launch) (N : Nat) (x0 : Nat) (σ : xk_C) (x1 : Int32) (x2 : Int32) (x3 : Int32) (x4 : Int32) {r : xk_C × Int32} (h : fX5_holds N x0 σ x1 x2 x3 x4 = some r) : gx_T (gw_I w A) A l yX5_holds iX5_holds 135 [va_rf (some x0), .int (x1), .int (x2), .int (x3), .int (x4)] (xk_P A w σ) 0 0 (xk_P A w r.1) (.returned (some (.int r.2))) := by
  refine gx_T.of (gw_I.inv w A) (by decide) ⟨rfl, rfl⟩ (gx_kR (gx_kI (gx_kI (gx_kI (gx_kI gx_k0))))) (Nat.le_of_ble_eq_true rfl) (fun X hl hAx hX => ?_)
  subst hl
  subst hAx
  show gx_G X (xk_P (gx_A X) w (σ)) 0 0 [some (va_rf (some x0)), some (.int (x1)), some (.int (x2)), some (.int (x3)), some (.int (x4))] 0 []
  unfold fX5_holds at h
  refine gx_aload_n hX dX5_holds_0 rfl ?_
  refine xk_getr hX 55 q581 (fun _ h => h) rfl dX5_holds_1 h (fun v1 h => ?_)
  refine gx_ifnull (tgt := 40) hX dX5_holds_4 (by decide) h (fun h => ?_) (fun h => ?_)
  · refine gx_iconst (v := 0) hX dX5_holds_40 (by decide) ?_
    cases h
    exact gx_zret hX rfl rfl dX5_holds_41 rfl ⟨rfl, rfl⟩ (fun _ h => h)
  · refine gx_aload_n hX dX5_holds_7 rfl ?_
    refine xk_getr hX 55 q581 (fun _ h => h) rfl dX5_holds_8 h (fun v2 h => ?_)
    refine gx_iload_n hX dX5_holds_11 rfl ?_
    refine gx_aload_n hX dX5_holds_12 rfl ?_
    obtain ⟨b4, hb, h⟩ := gx_bs h
    obtain ⟨eb, hkb⟩ := xk_isS hb
    obtain ⟨r3, hr3, h⟩ := gx_bs h
    refine gx_cV (As := []) (rest := [.int (x1), va_rf (v2)]) (b := b4) hX (tX5_fit w (gx_A X) (gx_l X) (b4) (σ)  hr3) (lw_V q987 q687 q688 q100 q689) ⟨rfl, dsX5_fit⟩ (by decide) (Nat.le_of_ble_eq_true rfl) (xk_rc hX (ci := 5) (by decide) (by decide) hkb) (by rw [eb]; rfl) (gx_w8 (gx_kI (gx_kR gx_k0)) (Nat.le_of_ble_eq_true rfl)) dX5_holds_13 ⟨Nat.le_refl _, Nat.le_refl _⟩ rfl ?_
    refine gx_bipush (v := nI 50) hX dX5_holds_16 (by decide) ?_
    refine gx_iadd hX dX5_holds_18 ?_
    refine gx_iload_n hX dX5_holds_19 rfl ?_
    refine gx_bipush (v := nI 50) hX dX5_holds_20 (by decide) ?_
    refine gx_iadd hX dX5_holds_22 ?_
    refine gx_aload_n hX dX5_holds_23 rfl ?_
    refine xk_geti hX 47 q554 (fun _ h => h) rfl dX5_holds_24 h (fun v5 h => ?_)
    refine gx_iload_n hX dX5_holds_27 rfl ?_
    refine gx_iload hX dX5_holds_28 rfl ?_
    obtain ⟨b7, hb, h⟩ := gx_bs h
    obtain ⟨eb, hkb⟩ := xk_isS hb
    obtain ⟨r6, hr6, h⟩ := gx_bs h
    refine gx_cV (As := [.int (x1), .int ((r3) + (nI 50)), .int ((x2) + (nI 50)), .int (v5), .int (x3), .int (x4)]) (rest := []) (b := b7) hX (tX13_holds w (gx_A X) (gx_l X) N (b7) (σ) (x1) ((r3) + (nI 50)) ((x2) + (nI 50)) (v5) (x3) (x4) hr6) (lw_V q992 q913 q914 q108 q915) ⟨rfl, dsX13_holds⟩ (by decide) (Nat.le_of_ble_eq_true rfl) (xk_rc hX (ci := 13) (by decide) (by decide) hkb) (by rw [eb]; rfl) (gx_w8 gx_k0 (Nat.le_of_ble_eq_true rfl)) dX5_holds_30 ⟨Nat.le_refl _, Nat.le_refl _⟩ rfl ?_
    refine gx_if_eq (tgt := 40) hX dX5_holds_33 (by decide) h (fun h => ?_) (fun h => ?_)
    · refine gx_iconst (v := 0) hX dX5_holds_40 (by decide) ?_
      cases h
      exact gx_zret hX rfl rfl dX5_holds_41 rfl ⟨rfl, rfl⟩ (fun _ h => h)
    · refine gx_iconst (v := 1) hX dX5_holds_36 (by decide) ?_
      refine gx_goto (tgt := 41) hX dX5_holds_37 (by decide) ?_
      cases h
      exact gx_zret hX rfl rfl dX5_holds_41 rfl ⟨rfl, rfl⟩ (fun _ h => h)
abbrev iX5_knockAt : gx_M := (RX5, "knockAt", cX5_knockAt, 4, none)
theorem dsX5_knockAt : gx_ds yX5_knockAt 1 := by decide +kernel
def fX5_knockAt_B122 (N : Nat) (x0 : Nat)   (σ : xk_C) (x1 : Option Nat) (y0 : Int32) (y1 : Int32) : Option (xk_C × Unit) := (xk_gr (σ) 56 (some x0)).bind fun v29 => (xk_gr (σ) 7 (v29)).bind fun v30 => (xk_ld (σ) 0 (v30) ((2) - ((y1) + (y0)))).bind fun v31 => (xk_st (σ) 0 (v30) ((2) - ((y1) + (y0))) ((v31) + (1))).bind fun σ32 => (xk_gr (σ32) 53 (some x0)).bind fun v33 => (xk_gr (σ32) 53 (x1)).bind fun v34 => (xk_is (σ32) 6 (some x0)).bind fun b36 => (fX5_houseIn (b36) (σ32) (v34)).bind fun r35 => (xk_is (r35.1) 6 (x1)).bind fun b38 => (fX5_houseIn (b38) (r35.1) (v33)).bind fun r37 => (xk_pi (r37.1) 49 (some x0) (0)).bind fun σ39 => (xk_pr (σ39) 54 (some x0) (none)).bind fun σ40 => some (σ40, ())
set_option maxHeartbeats 4000000 in
theorem eX5_knockAt_B122 {r : xk_C × Unit} {N : Nat} {x0 : Nat}   {σ : xk_C} {x1 : Option Nat} {y0 : Int32} {y1 : Int32} : xk_er r σ (fX5_knockAt_B122 N x0 σ x1 y0 y1) := by
  unfold fX5_knockAt_B122
  exact (xk_er_rd (fun _ => (xk_er_rd (fun _ => (xk_er_rd (fun _ => (xk_er_op xk_e_st (fun _ => (xk_er_rd (fun _ => (xk_er_rd (fun _ => (xk_er_rd (fun _ => (xk_er_ca (eX5_houseIn) (fun _ => (xk_er_rd (fun _ => (xk_er_ca (eX5_houseIn) (fun _ => (xk_er_op xk_e_pi (fun _ => (xk_er_op xk_e_pr (fun _ => xk_er_ret))))))))))))))))))))))))
set_option maxHeartbeats 4000000 in
theorem tX5_knockAt_B122 {w : gw_W} {X : gx_X} {N : Nat} {x0 : Nat} {r : xk_C × Unit} (hX : gx_O (gw_I w (gx_A X)) X iX5_knockAt 136 0 0 (xk_P (gx_A X) w r.1) (.returned none))  {σ : xk_C} {x1 : Option Nat} {y0 : Int32} {y1 : Int32} (h : fX5_knockAt_B122 N x0 σ x1 y0 y1 = some r) : gx_G X (xk_P (gx_A X) w (σ)) 0 0 [some (va_rf (some x0)), some (va_rf (x1)), none, none] 122 [.int (y0), .int (y1)] := by
  unfold fX5_knockAt_B122 at h
  refine gx_iadd hX dX5_knockAt_122 ?_
  refine gx_istore_n hX dX5_knockAt_123 (Nat.le_of_ble_eq_true rfl) gx_c1r (lv' := [some (va_rf (some x0)), some (va_rf (x1)), some (.int ((y1) + (y0))), none]) rfl ?_
  refine gx_aload_n hX dX5_knockAt_124 rfl ?_
  refine xk_getr hX 56 q582 (fun _ h => h) rfl dX5_knockAt_125 h (fun v29 h => ?_)
  refine xk_getrN hX 7 q225 rfl dX5_knockAt_128 h (fun v30 h => ?_)
  refine gx_iconst (v := 2) hX dX5_knockAt_131 (by decide) ?_
  refine gx_iload_n hX dX5_knockAt_132 rfl ?_
  refine gx_isub hX dX5_knockAt_133 ?_
  refine gx_dup2 hX dX5_knockAt_134 rfl (gx_cat _) ?_
  refine xk_iaload hX dX5_knockAt_135 h (fun v31 h => ?_)
  refine gx_iconst (v := 1) hX dX5_knockAt_136 (by decide) ?_
  refine gx_iadd hX dX5_knockAt_137 ?_
  refine xk_iastore hX dX5_knockAt_138 h (fun σ32 hτ h => ?_)
  refine gx_aload_n hX dX5_knockAt_139 rfl ?_
  refine xk_getr hX 53 q574 (fun _ h => h) rfl dX5_knockAt_140 h (fun v33 h => ?_)
  refine gx_astore_n hX dX5_knockAt_143 (Nat.le_of_ble_eq_true rfl) gx_c1i (lv' := [some (va_rf (some x0)), some (va_rf (x1)), some (.int ((y1) + (y0))), some (va_rf (v33))]) rfl ?_
  refine gx_aload_n hX dX5_knockAt_144 rfl ?_
  refine gx_aload_n hX dX5_knockAt_145 rfl ?_
  refine xk_getr hX 53 q574 (fun _ h => h) rfl dX5_knockAt_146 h (fun v34 h => ?_)
  obtain ⟨b36, hb, h⟩ := gx_bs h
  obtain ⟨eb, hkb⟩ := xk_isS hb
  obtain ⟨r35, hr35, h⟩ := gx_bs h
  refine gx_cV (As := [va_rf (v34)]) (rest := []) (b := b36) hX (tX5_houseIn w (gx_A X) (gx_l X) (b36) (σ32) (v34) hr35) (lw_V q981 q611 q612 q100 q613) ⟨rfl, dsX5_houseIn⟩ (by decide) (Nat.le_of_ble_eq_true rfl) (xk_rc hX (ci := 5) (by decide) (by decide) hkb) (by rw [eb]; rfl) (gx_w8 gx_k0 (Nat.le_of_ble_eq_true rfl)) dX5_knockAt_149 ⟨Nat.le_refl _, Nat.le_refl _⟩ rfl ?_
  refine gx_aload_n hX dX5_knockAt_152 rfl ?_
  refine gx_aload_n hX dX5_knockAt_153 rfl ?_
  obtain ⟨b38, hb, h⟩ := gx_bs h
  obtain ⟨eb, hkb⟩ := xk_isS hb
  obtain ⟨r37, hr37, h⟩ := gx_bs h
  refine gx_cV (As := [va_rf (v33)]) (rest := []) (b := b38) hX (tX5_houseIn w (gx_A X) (gx_l X) (b38) (r35.1) (v33) hr37) (lw_V q981 q611 q612 q100 q613) ⟨rfl, dsX5_houseIn⟩ (by decide) (Nat.le_of_ble_eq_true rfl) (xk_rc hX (ci := 5) (by decide) (by decide) hkb) (by rw [eb]; rfl) (gx_w8 gx_k0 (Nat.le_of_ble_eq_true rfl)) dX5_knockAt_154 ⟨Nat.le_refl _, Nat.le_refl _⟩ rfl ?_
  refine gx_aload_n hX dX5_knockAt_157 rfl ?_
  refine gx_iconst (v := 0) hX dX5_knockAt_158 (by decide) ?_
  refine xk_puti hX 49 xk_ty49 rfl q563 (fun _ h => h) rfl rfl dX5_knockAt_159 h (fun σ39 hτ h => ?_)
  refine gx_aload_n hX dX5_knockAt_162 rfl ?_
  refine gx_null hX dX5_knockAt_163 ?_
  refine xk_putr hX 54 xk_ty54 (Or.inl ⟨_, rfl⟩) q578 (fun _ h => h) rfl rfl dX5_knockAt_164 h (fun σ40 hτ h => ?_)
  cases h
  exact gx_vret hX rfl dX5_knockAt_167 rfl ⟨rfl, rfl⟩ (fun _ h => h)
def fX5_knockAt_B90 (N : Nat) (x0 : Nat)   (σ : xk_C) (x1 : Option Nat) (y0 : Int32) : Option (xk_C × Unit) := (xk_gr (σ) 53 (some x0)).bind fun v21 => (xk_gi (σ) 47 (x1)).bind fun v22 => (xk_is (σ) 5 (v21)).bind fun b24 => (fX4_fit (b24) (σ) (v22)).bind fun r23 => (xk_gr (σ) 53 (x1)).bind fun v25 => (xk_gi (σ) 47 (x1)).bind fun v26 => (xk_is (σ) 5 (v25)).bind fun b28 => (fX4_fit (b28) (σ) (v26)).bind fun r27 => if (r23) ≤ r27 then fX5_knockAt_B122 N x0 (σ) (x1) (0) (y0) else fX5_knockAt_B122 N x0 (σ) (x1) (1) (y0)
set_option maxHeartbeats 4000000 in
theorem eX5_knockAt_B90 {r : xk_C × Unit} {N : Nat} {x0 : Nat}   {σ : xk_C} {x1 : Option Nat} {y0 : Int32} : xk_er r σ (fX5_knockAt_B90 N x0 σ x1 y0) := by
  unfold fX5_knockAt_B90
  exact (xk_er_rd (fun _ => (xk_er_rd (fun _ => (xk_er_rd (fun _ => (xk_er_rd (fun _ => (xk_er_rd (fun _ => (xk_er_rd (fun _ => (xk_er_rd (fun _ => (xk_er_rd (fun _ => (xk_er_ite (eX5_knockAt_B122 ) (eX5_knockAt_B122 ))))))))))))))))))
set_option maxHeartbeats 4000000 in
theorem tX5_knockAt_B90 {w : gw_W} {X : gx_X} {N : Nat} {x0 : Nat} {r : xk_C × Unit} (hX : gx_O (gw_I w (gx_A X)) X iX5_knockAt 136 0 0 (xk_P (gx_A X) w r.1) (.returned none))  {σ : xk_C} {x1 : Option Nat} {y0 : Int32} (h : fX5_knockAt_B90 N x0 σ x1 y0 = some r) : gx_G X (xk_P (gx_A X) w (σ)) 0 0 [some (va_rf (some x0)), some (va_rf (x1)), none, none] 90 [.int (y0)] := by
  unfold fX5_knockAt_B90 at h
  refine gx_istore_n hX dX5_knockAt_90 (Nat.le_of_ble_eq_true rfl) gx_c1r (lv' := [some (va_rf (some x0)), some (va_rf (x1)), some (.int (y0)), none]) rfl ?_
  refine gx_iload_n hX dX5_knockAt_91 rfl ?_
  refine gx_aload_n hX dX5_knockAt_92 rfl ?_
  refine xk_getr hX 53 q574 (fun _ h => h) rfl dX5_knockAt_93 h (fun v21 h => ?_)
  refine gx_aload_n hX dX5_knockAt_96 rfl ?_
  refine xk_geti hX 47 q554 (fun _ h => h) rfl dX5_knockAt_97 h (fun v22 h => ?_)
  obtain ⟨b24, hb, h⟩ := gx_bs h
  obtain ⟨eb, hkb⟩ := xk_isS hb
  obtain ⟨r23, hr23, h⟩ := gx_bs h
  refine gx_cV (As := [.int (v22)]) (rest := [.int (y0)]) (b := b24) hX (tX4_fit w (gx_A X) (gx_l X) (b24) (σ) (v22) hr23) (lw_V q690 q691 q692 q93 q693) ⟨rfl, dsX4_fit⟩ (by decide) (Nat.le_of_ble_eq_true rfl) (xk_rc hX (ci := 4) (by decide) (by decide) hkb) (by rw [eb]; rfl) (gx_w8 (gx_kI gx_k0) (Nat.le_of_ble_eq_true rfl)) dX5_knockAt_100 ⟨Nat.le_refl _, Nat.le_refl _⟩ rfl ?_
  refine gx_aload_n hX dX5_knockAt_103 rfl ?_
  refine xk_getr hX 53 q574 (fun _ h => h) rfl dX5_knockAt_104 h (fun v25 h => ?_)
  refine gx_aload_n hX dX5_knockAt_107 rfl ?_
  refine xk_geti hX 47 q554 (fun _ h => h) rfl dX5_knockAt_108 h (fun v26 h => ?_)
  obtain ⟨b28, hb, h⟩ := gx_bs h
  obtain ⟨eb, hkb⟩ := xk_isS hb
  obtain ⟨r27, hr27, h⟩ := gx_bs h
  refine gx_cV (As := [.int (v26)]) (rest := [.int (r23), .int (y0)]) (b := b28) hX (tX4_fit w (gx_A X) (gx_l X) (b28) (σ) (v26) hr27) (lw_V q690 q691 q692 q93 q693) ⟨rfl, dsX4_fit⟩ (by decide) (Nat.le_of_ble_eq_true rfl) (xk_rc hX (ci := 4) (by decide) (by decide) hkb) (by rw [eb]; rfl) (gx_w8 (gx_kI (gx_kI gx_k0)) (Nat.le_of_ble_eq_true rfl)) dX5_knockAt_111 ⟨Nat.le_refl _, Nat.le_refl _⟩ rfl ?_
  refine gx_icmp_le (tgt := 121) hX dX5_knockAt_114 (by decide) h (fun h => ?_) (fun h => ?_)
  · refine gx_iconst (v := 0) hX dX5_knockAt_121 (by decide) ?_
    refine gx_sub hX (lv' := [some (va_rf (some x0)), some (va_rf (x1)), none, none]) ⟨Or.inr rfl, ⟨Or.inr rfl, ⟨Or.inl rfl, ⟨Or.inr rfl, trivial⟩⟩⟩⟩ ?_
    exact tX5_knockAt_B122 hX  h
  · refine gx_iconst (v := 1) hX dX5_knockAt_117 (by decide) ?_
    refine gx_goto (tgt := 122) hX dX5_knockAt_118 (by decide) ?_
    refine gx_sub hX (lv' := [some (va_rf (some x0)), some (va_rf (x1)), none, none]) ⟨Or.inr rfl, ⟨Or.inr rfl, ⟨Or.inl rfl, ⟨Or.inr rfl, trivial⟩⟩⟩⟩ ?_
    exact tX5_knockAt_B122 hX  h
def fX5_knockAt_B24 (N : Nat) (x0 : Nat)   (σ : xk_C) (x1 : Option Nat) (y0 : Int32) : Option (xk_C × Unit) := (xk_pi (σ) 49 (some x0) (y0)).bind fun σ3 => (xk_pr (σ3) 54 (some x0) (x1)).bind fun σ4 => (xk_gr (σ4) 53 (some x0)).bind fun v5 => (xk_gi (σ4) 47 (x1)).bind fun v6 => (xk_is (σ4) 5 (v5)).bind fun b8 => (fX4_fit (b8) (σ4) (v6)).bind fun r7 => (xk_gi (σ4) 47 (some x0)).bind fun v9 => (xk_gi (σ4) 49 (some x0)).bind fun v10 => (xk_is (σ4) 6 (x1)).bind fun b12 => (fX5_holds N (b12) (σ4) (2) (r7) (v9) (v10)).bind fun r11 => if r11.2 = 0 then some (r11.1, ()) else (xk_gr (r11.1) 53 (x1)).bind fun v13 => (xk_gi (r11.1) 47 (some x0)).bind fun v14 => (xk_is (r11.1) 5 (v13)).bind fun b16 => (fX4_fit (b16) (r11.1) (v14)).bind fun r15 => (xk_gr (r11.1) 53 (some x0)).bind fun v17 => (xk_gi (r11.1) 47 (some x0)).bind fun v18 => (xk_is (r11.1) 5 (v17)).bind fun b20 => (fX4_fit (b20) (r11.1) (v18)).bind fun r19 => if (r15) ≤ r19 then fX5_knockAt_B90 N x0 (r11.1) (x1) (0) else fX5_knockAt_B90 N x0 (r11.1) (x1) (1)
set_option maxHeartbeats 4000000 in
theorem eX5_knockAt_B24 {r : xk_C × Unit} {N : Nat} {x0 : Nat}   {σ : xk_C} {x1 : Option Nat} {y0 : Int32} : xk_er r σ (fX5_knockAt_B24 N x0 σ x1 y0) := by
  unfold fX5_knockAt_B24
  exact (xk_er_op xk_e_pi (fun _ => (xk_er_op xk_e_pr (fun _ => (xk_er_rd (fun _ => (xk_er_rd (fun _ => (xk_er_rd (fun _ => (xk_er_rd (fun _ => (xk_er_rd (fun _ => (xk_er_rd (fun _ => (xk_er_rd (fun _ => (xk_er_ca (eX5_holds) (fun _ => (xk_er_ite xk_er_ret (xk_er_rd (fun _ => (xk_er_rd (fun _ => (xk_er_rd (fun _ => (xk_er_rd (fun _ => (xk_er_rd (fun _ => (xk_er_rd (fun _ => (xk_er_rd (fun _ => (xk_er_rd (fun _ => (xk_er_ite (eX5_knockAt_B90 ) (eX5_knockAt_B90 )))))))))))))))))))))))))))))))))))))))
set_option maxHeartbeats 4000000 in
theorem tX5_knockAt_B24 {w : gw_W} {X : gx_X} {N : Nat} {x0 : Nat} {r : xk_C × Unit} (hX : gx_O (gw_I w (gx_A X)) X iX5_knockAt 136 0 0 (xk_P (gx_A X) w r.1) (.returned none))  {σ : xk_C} {x1 : Option Nat} {y0 : Int32} (h : fX5_knockAt_B24 N x0 σ x1 y0 = some r) : gx_G X (xk_P (gx_A X) w (σ)) 0 0 [some (va_rf (some x0)), some (va_rf (x1)), none, none] 24 [.int (y0), va_rf (some x0)] := by
  unfold fX5_knockAt_B24 at h
  refine xk_puti hX 49 xk_ty49 rfl q563 (fun _ h => h) rfl rfl dX5_knockAt_24 h (fun σ3 hτ h => ?_)
  refine gx_aload_n hX dX5_knockAt_27 rfl ?_
  refine gx_aload_n hX dX5_knockAt_28 rfl ?_
  refine xk_putr hX 54 xk_ty54 (Or.inl ⟨_, rfl⟩) q578 (fun _ h => h) rfl rfl dX5_knockAt_29 h (fun σ4 hτ h => ?_)
  refine gx_aload_n hX dX5_knockAt_32 rfl ?_
  refine gx_iconst (v := 2) hX dX5_knockAt_33 (by decide) ?_
  refine gx_aload_n hX dX5_knockAt_34 rfl ?_
  refine xk_getr hX 53 q574 (fun _ h => h) rfl dX5_knockAt_35 h (fun v5 h => ?_)
  refine gx_aload_n hX dX5_knockAt_38 rfl ?_
  refine xk_geti hX 47 q554 (fun _ h => h) rfl dX5_knockAt_39 h (fun v6 h => ?_)
  obtain ⟨b8, hb, h⟩ := gx_bs h
  obtain ⟨eb, hkb⟩ := xk_isS hb
  obtain ⟨r7, hr7, h⟩ := gx_bs h
  refine gx_cV (As := [.int (v6)]) (rest := [.int (2), va_rf (x1)]) (b := b8) hX (tX4_fit w (gx_A X) (gx_l X) (b8) (σ4) (v6) hr7) (lw_V q690 q691 q692 q93 q693) ⟨rfl, dsX4_fit⟩ (by decide) (Nat.le_of_ble_eq_true rfl) (xk_rc hX (ci := 4) (by decide) (by decide) hkb) (by rw [eb]; rfl) (gx_w8 (gx_kI (gx_kR gx_k0)) (Nat.le_of_ble_eq_true rfl)) dX5_knockAt_42 ⟨Nat.le_refl _, Nat.le_refl _⟩ rfl ?_
  refine gx_aload_n hX dX5_knockAt_45 rfl ?_
  refine xk_geti hX 47 q554 (fun _ h => h) rfl dX5_knockAt_46 h (fun v9 h => ?_)
  refine gx_aload_n hX dX5_knockAt_49 rfl ?_
  refine xk_geti hX 49 q563 (fun _ h => h) rfl dX5_knockAt_50 h (fun v10 h => ?_)
  obtain ⟨b12, hb, h⟩ := gx_bs h
  obtain ⟨eb, hkb⟩ := xk_isS hb
  obtain ⟨r11, hr11, h⟩ := gx_bs h
  refine gx_cV (As := [.int (2), .int (r7), .int (v9), .int (v10)]) (rest := []) (b := b12) hX (tX5_holds w (gx_A X) (gx_l X) N (b12) (σ4) (2) (r7) (v9) (v10) hr11) (lw_V q988 q990 qs18 q100 q991) ⟨rfl, dsX5_holds⟩ (by decide) (Nat.le_of_ble_eq_true rfl) (xk_rc hX (ci := 5) (by decide) (by decide) hkb) (by rw [eb]; rfl) (gx_w8 gx_k0 (Nat.le_of_ble_eq_true rfl)) dX5_knockAt_53 ⟨Nat.le_refl _, Nat.le_refl _⟩ rfl ?_
  refine gx_if_ne (tgt := 60) hX dX5_knockAt_56 (by decide) h (fun h => ?_) (fun h => ?_)
  · cases h
    exact gx_vret hX rfl dX5_knockAt_59 rfl ⟨rfl, rfl⟩ (fun _ h => h)
  · refine gx_aload_n hX dX5_knockAt_60 rfl ?_
    refine xk_getr hX 53 q574 (fun _ h => h) rfl dX5_knockAt_61 h (fun v13 h => ?_)
    refine gx_aload_n hX dX5_knockAt_64 rfl ?_
    refine xk_geti hX 47 q554 (fun _ h => h) rfl dX5_knockAt_65 h (fun v14 h => ?_)
    obtain ⟨b16, hb, h⟩ := gx_bs h
    obtain ⟨eb, hkb⟩ := xk_isS hb
    obtain ⟨r15, hr15, h⟩ := gx_bs h
    refine gx_cV (As := [.int (v14)]) (rest := []) (b := b16) hX (tX4_fit w (gx_A X) (gx_l X) (b16) (r11.1) (v14) hr15) (lw_V q690 q691 q692 q93 q693) ⟨rfl, dsX4_fit⟩ (by decide) (Nat.le_of_ble_eq_true rfl) (xk_rc hX (ci := 4) (by decide) (by decide) hkb) (by rw [eb]; rfl) (gx_w8 gx_k0 (Nat.le_of_ble_eq_true rfl)) dX5_knockAt_68 ⟨Nat.le_refl _, Nat.le_refl _⟩ rfl ?_
    refine gx_aload_n hX dX5_knockAt_71 rfl ?_
    refine xk_getr hX 53 q574 (fun _ h => h) rfl dX5_knockAt_72 h (fun v17 h => ?_)
    refine gx_aload_n hX dX5_knockAt_75 rfl ?_
    refine xk_geti hX 47 q554 (fun _ h => h) rfl dX5_knockAt_76 h (fun v18 h => ?_)
    obtain ⟨b20, hb, h⟩ := gx_bs h
    obtain ⟨eb, hkb⟩ := xk_isS hb
    obtain ⟨r19, hr19, h⟩ := gx_bs h
    refine gx_cV (As := [.int (v18)]) (rest := [.int (r15)]) (b := b20) hX (tX4_fit w (gx_A X) (gx_l X) (b20) (r11.1) (v18) hr19) (lw_V q690 q691 q692 q93 q693) ⟨rfl, dsX4_fit⟩ (by decide) (Nat.le_of_ble_eq_true rfl) (xk_rc hX (ci := 4) (by decide) (by decide) hkb) (by rw [eb]; rfl) (gx_w8 (gx_kI gx_k0) (Nat.le_of_ble_eq_true rfl)) dX5_knockAt_79 ⟨Nat.le_refl _, Nat.le_refl _⟩ rfl ?_
    refine gx_icmp_le (tgt := 89) hX dX5_knockAt_82 (by decide) h (fun h => ?_) (fun h => ?_)
    · refine gx_iconst (v := 0) hX dX5_knockAt_89 (by decide) ?_
      exact tX5_knockAt_B90 hX  h
    · refine gx_iconst (v := 1) hX dX5_knockAt_85 (by decide) ?_
      refine gx_goto (tgt := 90) hX dX5_knockAt_86 (by decide) ?_
      exact tX5_knockAt_B90 hX  h
def fX5_knockAt (N : Nat) (x0 : Nat) (σ : xk_C) (x1 : Option Nat) : Option (xk_C × Unit) := (xk_pz (σ) 52 (some x0) (1)).bind fun σ1 => (xk_gr (σ1) 54 (some x0)).bind fun v2 => if v2 = x1 then (xk_gi (σ1) 49 (some x0)).bind fun v41 => fX5_knockAt_B24 N x0 (σ1) (x1) ((v41) + (1)) else fX5_knockAt_B24 N x0 (σ1) (x1) (1)
set_option maxHeartbeats 4000000 in
theorem eX5_knockAt {N : Nat} {x0 : Nat} {σ : xk_C} {x1 : Option Nat} : ∀ p, fX5_knockAt N x0 σ x1 = some p → xk_n p.1 = xk_n σ ∧ xk_s p.1 = xk_s σ := fun r => show xk_er r σ (fX5_knockAt N x0 σ x1) from by
  unfold fX5_knockAt
  exact (xk_er_op xk_e_pz (fun _ => (xk_er_rd (fun _ => (xk_er_ite (xk_er_rd (fun _ => (eX5_knockAt_B24 ))) (eX5_knockAt_B24 ))))))
theorem mX5_knockAt {N : Nat} {x0 : Nat} {σ : xk_C} {x1 : Option Nat} : ∀ p, fX5_knockAt N x0 σ x1 = some p → xk_n σ ≤ xk_n p.1 ∧ xk_s σ ≤ xk_s p.1 := fun p h => xk_le_of (eX5_knockAt p h)
set_option maxHeartbeats 4000000 in
theorem tX5_knockAt (w : gw_W) (A : Nat → Prop) (l : Launch) (N : Nat) (x0 : Nat) (σ : xk_C) (x1 : Option Nat) {r : xk_C × Unit} (h : fX5_knockAt N x0 σ x1 = some r) : gx_T (gw_I w A) A l yX5_knockAt iX5_knockAt 136 [va_rf (some x0), va_rf (x1)] (xk_P A w σ) 0 0 (xk_P A w r.1) (.returned none) := by
  refine gx_T.of (gw_I.inv w A) (by decide) ⟨rfl, rfl⟩ (gx_kR (gx_kR gx_k0)) (Nat.le_of_ble_eq_true rfl) (fun X hl hAx hX => ?_)
  subst hl
  subst hAx
  show gx_G X (xk_P (gx_A X) w (σ)) 0 0 [some (va_rf (some x0)), some (va_rf (x1)), none, none] 0 []
  unfold fX5_knockAt at h
  refine gx_aload_n hX dX5_knockAt_0 rfl ?_
  refine gx_iconst (v := 1) hX dX5_knockAt_1 (by decide) ?_
  refine xk_putz hX 52 xk_ty52 rfl q571 (fun _ h => h) rfl rfl dX5_knockAt_2 h (fun σ1 hτ h => ?_)
  refine gx_aload_n hX dX5_knockAt_5 rfl ?_
  refine gx_aload_n hX dX5_knockAt_6 rfl ?_
  refine xk_getr hX 54 q578 (fun _ h => h) rfl dX5_knockAt_7 h (fun v2 h => ?_)
  refine gx_aload_n hX dX5_knockAt_10 rfl ?_
  refine gx_acmp_ne (tgt := 23) hX dX5_knockAt_11 (by decide) h (fun h => ?_) (fun h => ?_)
  · refine gx_aload_n hX dX5_knockAt_14 rfl ?_
    refine xk_geti hX 49 q563 (fun _ h => h) rfl dX5_knockAt_15 h (fun v41 h => ?_)
    refine gx_iconst (v := 1) hX dX5_knockAt_18 (by decide) ?_
    refine gx_iadd hX dX5_knockAt_19 ?_
    refine gx_goto (tgt := 24) hX dX5_knockAt_20 (by decide) ?_
    exact tX5_knockAt_B24 hX  h
  · refine gx_iconst (v := 1) hX dX5_knockAt_23 (by decide) ?_
    exact tX5_knockAt_B24 hX  h
abbrev iX5_lying : gx_M := (RX5, "lying", cX5_lying, 3, some (.object "ShellBeach$Shell"))
theorem dsX5_lying : gx_ds yX5_lying 0 := by decide +kernel
def fX5_lying_B93 (N : Nat) (x0 : Nat) (σ : xk_C)  (K4 : Option Nat → Int32 → Option (Option Nat)) (x1 : Option Nat) (x2 : Int32) : Option (Option Nat) := K4 (x1) ((x2) + 1)
set_option maxHeartbeats 4000000 in
theorem tX5_lying_B93 {w : gw_W} {X : gx_X} {N : Nat} {x0 : Nat} {σ : xk_C} {r : Option Nat} (hX : gx_O (gw_I w (gx_A X)) X iX5_lying 5 0 0 (xk_P (gx_A X) w σ) (.returned (some (va_rf r)))) {K4 : Option Nat → Int32 → Option (Option Nat)} (hK4 : ∀ (x1 : Option Nat) (x2 : Int32), K4 x1 x2 = some r → gx_G X (xk_P (gx_A X) w (σ)) 0 0 [some (va_rf (some x0)), some (va_rf (x1)), some (.int (x2))] 4 []) {x1 : Option Nat} {x2 : Int32} (h : fX5_lying_B93 N x0 σ K4 x1 x2 = some r) : gx_G X (xk_P (gx_A X) w (σ)) 0 0 [some (va_rf (some x0)), some (va_rf (x1)), some (.int (x2))] 93 [] := by
  unfold fX5_lying_B93 at h
  refine gx_iinc (v := 1) hX dX5_lying_93 rfl (by decide) gx_c1r (lv' := [some (va_rf (some x0)), some (va_rf (x1)), some (.int ((x2) + 1))]) rfl ?_
  refine gx_goto (tgt := 4) hX dX5_lying_96 (by decide) ?_
  exact hK4 _ _ h
def fX5_lying_B78 (N : Nat) (x0 : Nat) (σ : xk_C)  (K4 : Option Nat → Int32 → Option (Option Nat)) (x2 : Int32) : Option (Option Nat) := (xk_gr (σ) 56 (some x0)).bind fun v13 => (xk_gr (σ) 0 (v13)).bind fun v14 => (xk_is (σ) 21 (v14)).bind fun b16 => (fJ2_get (b16) (σ) (x2)).bind fun r15 => (xk_ck (σ) 5 (r15)).bind fun u17 => fX5_lying_B93 N x0 σ K4 (r15) (x2)
set_option maxHeartbeats 4000000 in
theorem tX5_lying_B78 {w : gw_W} {X : gx_X} {N : Nat} {x0 : Nat} {σ : xk_C} {r : Option Nat} (hX : gx_O (gw_I w (gx_A X)) X iX5_lying 5 0 0 (xk_P (gx_A X) w σ) (.returned (some (va_rf r)))) {K4 : Option Nat → Int32 → Option (Option Nat)} (hK4 : ∀ (x1 : Option Nat) (x2 : Int32), K4 x1 x2 = some r → gx_G X (xk_P (gx_A X) w (σ)) 0 0 [some (va_rf (some x0)), some (va_rf (x1)), some (.int (x2))] 4 []) {x2 : Int32} (h : fX5_lying_B78 N x0 σ K4 x2 = some r) : gx_G X (xk_P (gx_A X) w (σ)) 0 0 [some (va_rf (some x0)), none, some (.int (x2))] 78 [] := by
  unfold fX5_lying_B78 at h
  refine gx_aload_n hX dX5_lying_78 rfl ?_
  refine xk_getr hX 56 q582 (fun _ h => h) rfl dX5_lying_79 h (fun v13 h => ?_)
  refine xk_getrN hX 0 q210 rfl dX5_lying_82 h (fun v14 h => ?_)
  refine gx_iload_n hX dX5_lying_85 rfl ?_
  obtain ⟨b16, hb, h⟩ := gx_bs h
  obtain ⟨eb, hkb⟩ := xk_isS hb
  obtain ⟨r15, hr15, h⟩ := gx_bs h
  refine gx_cV (As := [.int (x2)]) (rest := []) (b := b16) hX (tJ2_get w (gx_A X) (gx_l X) (b16) (σ) (x2) hr15) (lw_V q974 q434 q435 q89 q436) ⟨rfl, dsJ2_get⟩ (by decide) (Nat.le_of_ble_eq_true rfl) (xk_rc hX (ci := 20) (by decide) (by decide) hkb) (by rw [eb]; rfl) (gx_w8 gx_k0 (Nat.le_of_ble_eq_true rfl)) dX5_lying_86 ⟨Nat.le_refl _, Nat.le_refl _⟩ rfl ?_
  refine xk_castC hX 4 ⟨by decide, by decide⟩ q975 dX5_lying_89 h (fun h => ?_)
  refine gx_astore_n hX dX5_lying_92 (Nat.le_of_ble_eq_true rfl) gx_c1r (lv' := [some (va_rf (some x0)), some (va_rf (r15)), some (.int (x2))]) rfl ?_
  exact tX5_lying_B93 hX hK4 h
def fX5_lying_L4 (N : Nat) (x0 : Nat) (σ : xk_C)   : Nat → Option Nat → Int32 → Option (Option Nat)
  | 0, _, _ => none
  | k + 1, x1, x2 => (xk_gr (σ) 56 (some x0)).bind fun v1 => (xk_gr (σ) 0 (v1)).bind fun v2 => (xk_is (σ) 21 (v2)).bind fun b4 => (fJ2_size (b4) (σ)).bind fun r3 => if (r3) ≤ x2 then some (x1) else (xk_gr (σ) 56 (some x0)).bind fun v5 => (xk_gr (σ) 0 (v5)).bind fun v6 => (xk_is (σ) 21 (v6)).bind fun b8 => (fJ2_get (b8) (σ) (x2)).bind fun r7 => (xk_ck (σ) 5 (r7)).bind fun u9 => (xk_gi (σ) 46 (some x0)).bind fun v10 => (xk_is (σ) 5 (r7)).bind fun b12 => (fX4_liesIn (b12) (σ) (v10)).bind fun r11 => if r11 = 0 then fX5_lying_B93 N x0 σ (fX5_lying_L4 N x0 σ k) (x1) (x2) else if x1 = none then fX5_lying_B78 N x0 σ (fX5_lying_L4 N x0 σ k) (x2) else (xk_gr (σ) 56 (some x0)).bind fun v18 => (xk_gr (σ) 0 (v18)).bind fun v19 => (xk_is (σ) 21 (v19)).bind fun b21 => (fJ2_get (b21) (σ) (x2)).bind fun r20 => (xk_ck (σ) 5 (r20)).bind fun u22 => (xk_gi (σ) 47 (some x0)).bind fun v23 => (xk_is (σ) 5 (r20)).bind fun b25 => (fX4_fit (b25) (σ) (v23)).bind fun r24 => (xk_gi (σ) 47 (some x0)).bind fun v26 => (xk_is (σ) 5 (x1)).bind fun b28 => (fX4_fit (b28) (σ) (v26)).bind fun r27 => if (r24) ≤ r27 then fX5_lying_B93 N x0 σ (fX5_lying_L4 N x0 σ k) (x1) (x2) else fX5_lying_B78 N x0 σ (fX5_lying_L4 N x0 σ k) (x2)
set_option maxHeartbeats 4000000 in
theorem tX5_lying_L4 {w : gw_W} {X : gx_X} {N : Nat} {x0 : Nat} {σ : xk_C} {r : Option Nat} (hX : gx_O (gw_I w (gx_A X)) X iX5_lying 5 0 0 (xk_P (gx_A X) w σ) (.returned (some (va_rf r))))  : ∀ (k : Nat) (x1 : Option Nat) (x2 : Int32), fX5_lying_L4 N x0 σ k x1 x2 = some r → gx_G X (xk_P (gx_A X) w (σ)) 0 0 [some (va_rf (some x0)), some (va_rf (x1)), some (.int (x2))] 4 [] := by
  intro k
  induction k with
  | zero =>
    intro x1 x2 h
    unfold fX5_lying_L4 at h
    cases h
  | succ k ih =>
    intro x1 x2 h
    unfold fX5_lying_L4 at h
    refine gx_iload_n hX dX5_lying_4 rfl ?_
    refine gx_aload_n hX dX5_lying_5 rfl ?_
    refine xk_getr hX 56 q582 (fun _ h => h) rfl dX5_lying_6 h (fun v1 h => ?_)
    refine xk_getrN hX 0 q210 rfl dX5_lying_9 h (fun v2 h => ?_)
    obtain ⟨b4, hb, h⟩ := gx_bs h
    obtain ⟨eb, hkb⟩ := xk_isS hb
    obtain ⟨r3, hr3, h⟩ := gx_bs h
    refine gx_cV (As := []) (rest := [.int (x2)]) (b := b4) hX (tJ2_size w (gx_A X) (gx_l X) (b4) (σ)  hr3) (lw_V q973 q315 q316 q89 q317) ⟨rfl, dsJ2_size⟩ (by decide) (Nat.le_of_ble_eq_true rfl) (xk_rc hX (ci := 20) (by decide) (by decide) hkb) (by rw [eb]; rfl) (gx_w8 (gx_kI gx_k0) (Nat.le_of_ble_eq_true rfl)) dX5_lying_12 ⟨Nat.le_refl _, Nat.le_refl _⟩ rfl ?_
    refine gx_icmp_ge (tgt := 99) hX dX5_lying_15 (by decide) h (fun h => ?_) (fun h => ?_)
    · refine gx_aload_n hX dX5_lying_99 rfl ?_
      cases h
      exact gx_aret hX rfl (Or.inl ⟨_, rfl⟩) dX5_lying_100 rfl ⟨rfl, rfl⟩ (fun _ h => h)
    · refine gx_aload_n hX dX5_lying_18 rfl ?_
      refine xk_getr hX 56 q582 (fun _ h => h) rfl dX5_lying_19 h (fun v5 h => ?_)
      refine xk_getrN hX 0 q210 rfl dX5_lying_22 h (fun v6 h => ?_)
      refine gx_iload_n hX dX5_lying_25 rfl ?_
      obtain ⟨b8, hb, h⟩ := gx_bs h
      obtain ⟨eb, hkb⟩ := xk_isS hb
      obtain ⟨r7, hr7, h⟩ := gx_bs h
      refine gx_cV (As := [.int (x2)]) (rest := []) (b := b8) hX (tJ2_get w (gx_A X) (gx_l X) (b8) (σ) (x2) hr7) (lw_V q974 q434 q435 q89 q436) ⟨rfl, dsJ2_get⟩ (by decide) (Nat.le_of_ble_eq_true rfl) (xk_rc hX (ci := 20) (by decide) (by decide) hkb) (by rw [eb]; rfl) (gx_w8 gx_k0 (Nat.le_of_ble_eq_true rfl)) dX5_lying_26 ⟨Nat.le_refl _, Nat.le_refl _⟩ rfl ?_
      refine xk_castC hX 4 ⟨by decide, by decide⟩ q975 dX5_lying_29 h (fun h => ?_)
      refine gx_aload_n hX dX5_lying_32 rfl ?_
      refine xk_geti hX 46 q551 (fun _ h => h) rfl dX5_lying_33 h (fun v10 h => ?_)
      obtain ⟨b12, hb, h⟩ := gx_bs h
      obtain ⟨eb, hkb⟩ := xk_isS hb
      obtain ⟨r11, hr11, h⟩ := gx_bs h
      refine gx_cV (As := [.int (v10)]) (rest := []) (b := b12) hX (tX4_liesIn w (gx_A X) (gx_l X) (b12) (σ) (v10) hr11) (lw_V q976 q448 q449 q93 q450) ⟨rfl, dsX4_liesIn⟩ (by decide) (Nat.le_of_ble_eq_true rfl) (xk_rc hX (ci := 4) (by decide) (by decide) hkb) (by rw [eb]; rfl) (gx_w8 gx_k0 (Nat.le_of_ble_eq_true rfl)) dX5_lying_36 ⟨Nat.le_refl _, Nat.le_refl _⟩ rfl ?_
      refine gx_if_eq (tgt := 93) hX dX5_lying_39 (by decide) h (fun h => ?_) (fun h => ?_)
      · exact tX5_lying_B93 hX ih h
      · refine gx_aload_n hX dX5_lying_42 rfl ?_
        refine gx_ifnull (tgt := 78) hX dX5_lying_43 (by decide) h (fun h => ?_) (fun h => ?_)
        · refine gx_sub hX (lv' := [some (va_rf (some x0)), none, some (.int (x2))]) ⟨Or.inr rfl, ⟨Or.inl rfl, ⟨Or.inr rfl, trivial⟩⟩⟩ ?_
          exact tX5_lying_B78 hX ih h
        · refine gx_aload_n hX dX5_lying_46 rfl ?_
          refine xk_getr hX 56 q582 (fun _ h => h) rfl dX5_lying_47 h (fun v18 h => ?_)
          refine xk_getrN hX 0 q210 rfl dX5_lying_50 h (fun v19 h => ?_)
          refine gx_iload_n hX dX5_lying_53 rfl ?_
          obtain ⟨b21, hb, h⟩ := gx_bs h
          obtain ⟨eb, hkb⟩ := xk_isS hb
          obtain ⟨r20, hr20, h⟩ := gx_bs h
          refine gx_cV (As := [.int (x2)]) (rest := []) (b := b21) hX (tJ2_get w (gx_A X) (gx_l X) (b21) (σ) (x2) hr20) (lw_V q974 q434 q435 q89 q436) ⟨rfl, dsJ2_get⟩ (by decide) (Nat.le_of_ble_eq_true rfl) (xk_rc hX (ci := 20) (by decide) (by decide) hkb) (by rw [eb]; rfl) (gx_w8 gx_k0 (Nat.le_of_ble_eq_true rfl)) dX5_lying_54 ⟨Nat.le_refl _, Nat.le_refl _⟩ rfl ?_
          refine xk_castC hX 4 ⟨by decide, by decide⟩ q975 dX5_lying_57 h (fun h => ?_)
          refine gx_aload_n hX dX5_lying_60 rfl ?_
          refine xk_geti hX 47 q554 (fun _ h => h) rfl dX5_lying_61 h (fun v23 h => ?_)
          obtain ⟨b25, hb, h⟩ := gx_bs h
          obtain ⟨eb, hkb⟩ := xk_isS hb
          obtain ⟨r24, hr24, h⟩ := gx_bs h
          refine gx_cV (As := [.int (v23)]) (rest := []) (b := b25) hX (tX4_fit w (gx_A X) (gx_l X) (b25) (σ) (v23) hr24) (lw_V q690 q691 q692 q93 q693) ⟨rfl, dsX4_fit⟩ (by decide) (Nat.le_of_ble_eq_true rfl) (xk_rc hX (ci := 4) (by decide) (by decide) hkb) (by rw [eb]; rfl) (gx_w8 gx_k0 (Nat.le_of_ble_eq_true rfl)) dX5_lying_64 ⟨Nat.le_refl _, Nat.le_refl _⟩ rfl ?_
          refine gx_aload_n hX dX5_lying_67 rfl ?_
          refine gx_aload_n hX dX5_lying_68 rfl ?_
          refine xk_geti hX 47 q554 (fun _ h => h) rfl dX5_lying_69 h (fun v26 h => ?_)
          obtain ⟨b28, hb, h⟩ := gx_bs h
          obtain ⟨eb, hkb⟩ := xk_isS hb
          obtain ⟨r27, hr27, h⟩ := gx_bs h
          refine gx_cV (As := [.int (v26)]) (rest := [.int (r24)]) (b := b28) hX (tX4_fit w (gx_A X) (gx_l X) (b28) (σ) (v26) hr27) (lw_V q690 q691 q692 q93 q693) ⟨rfl, dsX4_fit⟩ (by decide) (Nat.le_of_ble_eq_true rfl) (xk_rc hX (ci := 4) (by decide) (by decide) hkb) (by rw [eb]; rfl) (gx_w8 (gx_kI gx_k0) (Nat.le_of_ble_eq_true rfl)) dX5_lying_72 ⟨Nat.le_refl _, Nat.le_refl _⟩ rfl ?_
          refine gx_icmp_le (tgt := 93) hX dX5_lying_75 (by decide) h (fun h => ?_) (fun h => ?_)
          · exact tX5_lying_B93 hX ih h
          · refine gx_sub hX (lv' := [some (va_rf (some x0)), none, some (.int (x2))]) ⟨Or.inr rfl, ⟨Or.inl rfl, ⟨Or.inr rfl, trivial⟩⟩⟩ ?_
            exact tX5_lying_B78 hX ih h
def fX5_lying (N : Nat) (x0 : Nat) (σ : xk_C)  : Option (Option Nat) := fX5_lying_L4 N x0 σ N (none) (0)
set_option maxHeartbeats 4000000 in
theorem tX5_lying (w : gw_W) (A : Nat → Prop) (l : Launch) (N : Nat) (x0 : Nat) (σ : xk_C)  {r : Option Nat} (h : fX5_lying N x0 σ = some r) : gx_T (gw_I w A) A l yX5_lying iX5_lying 5 [va_rf (some x0)] (xk_P A w σ) 0 0 (xk_P A w σ) (.returned (some (va_rf r))) := by
  refine gx_T.of (gw_I.inv w A) (by decide) ⟨rfl, rfl⟩ (gx_kR gx_k0) (Nat.le_of_ble_eq_true rfl) (fun X hl hAx hX => ?_)
  subst hl
  subst hAx
  show gx_G X (xk_P (gx_A X) w (σ)) 0 0 [some (va_rf (some x0)), none, none] 0 []
  unfold fX5_lying at h
  refine gx_null hX dX5_lying_0 ?_
  refine gx_astore_n hX dX5_lying_1 (Nat.le_of_ble_eq_true rfl) gx_c1r (lv' := [some (va_rf (some x0)), some (va_rf (none)), none]) rfl ?_
  refine gx_iconst (v := 0) hX dX5_lying_2 (by decide) ?_
  refine gx_istore_n hX dX5_lying_3 (Nat.le_of_ble_eq_true rfl) gx_c1r (lv' := [some (va_rf (some x0)), some (va_rf (none)), some (.int (0))]) rfl ?_
  exact tX5_lying_L4 hX  N _ _ h
abbrev iX5_other : gx_M := (RX5, "other", cX5_other, 5, some (.object "ShellBeach$Crab"))
theorem dsX5_other : gx_ds yX5_other 0 := by decide +kernel
def fX5_other_B100 (N : Nat) (x0 : Nat) (σ : xk_C)  (K9 : Option Nat → Int32 → Int32 → Option (Option Nat)) (x1 : Option Nat) (x2 : Int32) (x3 : Int32) : Option (Option Nat) := K9 (x1) (x2) ((x3) + 1)
set_option maxHeartbeats 4000000 in
theorem tX5_other_B100 {w : gw_W} {X : gx_X} {N : Nat} {x0 : Nat} {σ : xk_C} {r : Option Nat} (hX : gx_O (gw_I w (gx_A X)) X iX5_other 5 0 0 (xk_P (gx_A X) w σ) (.returned (some (va_rf r)))) {K9 : Option Nat → Int32 → Int32 → Option (Option Nat)} (hK9 : ∀ (x1 : Option Nat) (x2 : Int32) (x3 : Int32), K9 x1 x2 x3 = some r → gx_G X (xk_P (gx_A X) w (σ)) 0 0 [some (va_rf (some x0)), some (va_rf (x1)), some (.int (x2)), some (.int (x3)), none] 9 []) {x1 : Option Nat} {x2 : Int32} {x3 : Int32} (h : fX5_other_B100 N x0 σ K9 x1 x2 x3 = some r) : gx_G X (xk_P (gx_A X) w (σ)) 0 0 [some (va_rf (some x0)), some (va_rf (x1)), some (.int (x2)), some (.int (x3)), none] 100 [] := by
  unfold fX5_other_B100 at h
  refine gx_iinc (v := 1) hX dX5_other_100 rfl (by decide) gx_c1i (lv' := [some (va_rf (some x0)), some (va_rf (x1)), some (.int (x2)), some (.int ((x3) + 1)), none]) rfl ?_
  refine gx_goto (tgt := 9) hX dX5_other_103 (by decide) ?_
  exact hK9 _ _ _ h
def fX5_other_L9 (N : Nat) (x0 : Nat) (σ : xk_C)   : Nat → Option Nat → Int32 → Int32 → Option (Option Nat)
  | 0, _, _, _ => none
  | k + 1, x1, x2, x3 => (xk_gr (σ) 56 (some x0)).bind fun v3 => (xk_gr (σ) 3 (v3)).bind fun v4 => (xk_is (σ) 21 (v4)).bind fun b6 => (fJ2_size (b6) (σ)).bind fun r5 => if (r5) ≤ x3 then some (x1) else (xk_gr (σ) 56 (some x0)).bind fun v7 => (xk_gr (σ) 3 (v7)).bind fun v8 => (xk_is (σ) 21 (v8)).bind fun b10 => (fJ2_get (b10) (σ) (x3)).bind fun r9 => (xk_ck (σ) 6 (r9)).bind fun u11 => if r9 = some x0 then fX5_other_B100 N x0 σ (fX5_other_L9 N x0 σ k) (x1) (x2) (x3) else (xk_is (σ) 6 (r9)).bind fun b13 => (fX5_isHoused (b13) (σ)).bind fun r12 => if r12 = 0 then fX5_other_B100 N x0 σ (fX5_other_L9 N x0 σ k) (x1) (x2) (x3) else (xk_gi (σ) 46 (r9)).bind fun v14 => (xk_gi (σ) 46 (some x0)).bind fun v15 => if v14 = v15 then (xk_gr (σ) 53 (r9)).bind fun v16 => (xk_gi (σ) 47 (some x0)).bind fun v17 => (xk_is (σ) 5 (v16)).bind fun b19 => (fX4_fit (b19) (σ) (v17)).bind fun r18 => if (x2) < r18 then (xk_gr (σ) 53 (r9)).bind fun v20 => (xk_gi (σ) 47 (some x0)).bind fun v21 => (xk_is (σ) 5 (v20)).bind fun b23 => (fX4_fit (b23) (σ) (v21)).bind fun r22 => fX5_other_B100 N x0 σ (fX5_other_L9 N x0 σ k) (r9) (r22) (x3) else fX5_other_B100 N x0 σ (fX5_other_L9 N x0 σ k) (x1) (x2) (x3) else fX5_other_B100 N x0 σ (fX5_other_L9 N x0 σ k) (x1) (x2) (x3)
set_option maxHeartbeats 4000000 in
theorem tX5_other_L9 {w : gw_W} {X : gx_X} {N : Nat} {x0 : Nat} {σ : xk_C} {r : Option Nat} (hX : gx_O (gw_I w (gx_A X)) X iX5_other 5 0 0 (xk_P (gx_A X) w σ) (.returned (some (va_rf r))))  : ∀ (k : Nat) (x1 : Option Nat) (x2 : Int32) (x3 : Int32), fX5_other_L9 N x0 σ k x1 x2 x3 = some r → gx_G X (xk_P (gx_A X) w (σ)) 0 0 [some (va_rf (some x0)), some (va_rf (x1)), some (.int (x2)), some (.int (x3)), none] 9 [] := by
  intro k
  induction k with
  | zero =>
    intro x1 x2 x3 h
    unfold fX5_other_L9 at h
    cases h
  | succ k ih =>
    intro x1 x2 x3 h
    unfold fX5_other_L9 at h
    refine gx_iload_n hX dX5_other_9 rfl ?_
    refine gx_aload_n hX dX5_other_10 rfl ?_
    refine xk_getr hX 56 q582 (fun _ h => h) rfl dX5_other_11 h (fun v3 h => ?_)
    refine xk_getrN hX 3 q215 rfl dX5_other_14 h (fun v4 h => ?_)
    obtain ⟨b6, hb, h⟩ := gx_bs h
    obtain ⟨eb, hkb⟩ := xk_isS hb
    obtain ⟨r5, hr5, h⟩ := gx_bs h
    refine gx_cV (As := []) (rest := [.int (x3)]) (b := b6) hX (tJ2_size w (gx_A X) (gx_l X) (b6) (σ)  hr5) (lw_V q973 q315 q316 q89 q317) ⟨rfl, dsJ2_size⟩ (by decide) (Nat.le_of_ble_eq_true rfl) (xk_rc hX (ci := 20) (by decide) (by decide) hkb) (by rw [eb]; rfl) (gx_w8 (gx_kI gx_k0) (Nat.le_of_ble_eq_true rfl)) dX5_other_17 ⟨Nat.le_refl _, Nat.le_refl _⟩ rfl ?_
    refine gx_icmp_ge (tgt := 106) hX dX5_other_20 (by decide) h (fun h => ?_) (fun h => ?_)
    · refine gx_aload_n hX dX5_other_106 rfl ?_
      cases h
      exact gx_aret hX rfl (Or.inl ⟨_, rfl⟩) dX5_other_107 rfl ⟨rfl, rfl⟩ (fun _ h => h)
    · refine gx_aload_n hX dX5_other_23 rfl ?_
      refine xk_getr hX 56 q582 (fun _ h => h) rfl dX5_other_24 h (fun v7 h => ?_)
      refine xk_getrN hX 3 q215 rfl dX5_other_27 h (fun v8 h => ?_)
      refine gx_iload_n hX dX5_other_30 rfl ?_
      obtain ⟨b10, hb, h⟩ := gx_bs h
      obtain ⟨eb, hkb⟩ := xk_isS hb
      obtain ⟨r9, hr9, h⟩ := gx_bs h
      refine gx_cV (As := [.int (x3)]) (rest := []) (b := b10) hX (tJ2_get w (gx_A X) (gx_l X) (b10) (σ) (x3) hr9) (lw_V q974 q434 q435 q89 q436) ⟨rfl, dsJ2_get⟩ (by decide) (Nat.le_of_ble_eq_true rfl) (xk_rc hX (ci := 20) (by decide) (by decide) hkb) (by rw [eb]; rfl) (gx_w8 gx_k0 (Nat.le_of_ble_eq_true rfl)) dX5_other_31 ⟨Nat.le_refl _, Nat.le_refl _⟩ rfl ?_
      refine xk_castC hX 5 ⟨by decide, by decide⟩ q997 dX5_other_34 h (fun h => ?_)
      refine gx_astore hX dX5_other_37 (Nat.le_of_ble_eq_true rfl) gx_c1i (lv' := [some (va_rf (some x0)), some (va_rf (x1)), some (.int (x2)), some (.int (x3)), some (va_rf (r9))]) rfl ?_
      refine gx_aload hX dX5_other_39 rfl ?_
      refine gx_aload_n hX dX5_other_41 rfl ?_
      refine gx_acmp_eq (tgt := 100) hX dX5_other_42 (by decide) h (fun h => ?_) (fun h => ?_)
      · refine gx_sub hX (lv' := [some (va_rf (some x0)), some (va_rf (x1)), some (.int (x2)), some (.int (x3)), none]) ⟨Or.inr rfl, ⟨Or.inr rfl, ⟨Or.inr rfl, ⟨Or.inr rfl, ⟨Or.inl rfl, trivial⟩⟩⟩⟩⟩ ?_
        exact tX5_other_B100 hX ih h
      · refine gx_aload hX dX5_other_45 rfl ?_
        obtain ⟨b13, hb, h⟩ := gx_bs h
        obtain ⟨eb, hkb⟩ := xk_isS hb
        obtain ⟨r12, hr12, h⟩ := gx_bs h
        refine gx_cV (As := []) (rest := []) (b := b13) hX (tX5_isHoused w (gx_A X) (gx_l X) (b13) (σ)  hr12) (lw_V q647 q648 q649 q100 q650) ⟨rfl, dsX5_isHoused⟩ (by decide) (Nat.le_of_ble_eq_true rfl) (xk_rc hX (ci := 5) (by decide) (by decide) hkb) (by rw [eb]; rfl) (gx_w8 gx_k0 (Nat.le_of_ble_eq_true rfl)) dX5_other_47 ⟨Nat.le_refl _, Nat.le_refl _⟩ rfl ?_
        refine gx_if_eq (tgt := 100) hX dX5_other_50 (by decide) h (fun h => ?_) (fun h => ?_)
        · refine gx_sub hX (lv' := [some (va_rf (some x0)), some (va_rf (x1)), some (.int (x2)), some (.int (x3)), none]) ⟨Or.inr rfl, ⟨Or.inr rfl, ⟨Or.inr rfl, ⟨Or.inr rfl, ⟨Or.inl rfl, trivial⟩⟩⟩⟩⟩ ?_
          exact tX5_other_B100 hX ih h
        · refine gx_aload hX dX5_other_53 rfl ?_
          refine xk_geti hX 46 q551 (fun _ h => h) rfl dX5_other_55 h (fun v14 h => ?_)
          refine gx_aload_n hX dX5_other_58 rfl ?_
          refine xk_geti hX 46 q551 (fun _ h => h) rfl dX5_other_59 h (fun v15 h => ?_)
          refine gx_icmp_ne (tgt := 100) hX dX5_other_62 (by decide) h (fun h => ?_) (fun h => ?_)
          · refine gx_aload hX dX5_other_65 rfl ?_
            refine xk_getr hX 53 q574 (fun _ h => h) rfl dX5_other_67 h (fun v16 h => ?_)
            refine gx_aload_n hX dX5_other_70 rfl ?_
            refine xk_geti hX 47 q554 (fun _ h => h) rfl dX5_other_71 h (fun v17 h => ?_)
            obtain ⟨b19, hb, h⟩ := gx_bs h
            obtain ⟨eb, hkb⟩ := xk_isS hb
            obtain ⟨r18, hr18, h⟩ := gx_bs h
            refine gx_cV (As := [.int (v17)]) (rest := []) (b := b19) hX (tX4_fit w (gx_A X) (gx_l X) (b19) (σ) (v17) hr18) (lw_V q690 q691 q692 q93 q693) ⟨rfl, dsX4_fit⟩ (by decide) (Nat.le_of_ble_eq_true rfl) (xk_rc hX (ci := 4) (by decide) (by decide) hkb) (by rw [eb]; rfl) (gx_w8 gx_k0 (Nat.le_of_ble_eq_true rfl)) dX5_other_74 ⟨Nat.le_refl _, Nat.le_refl _⟩ rfl ?_
            refine gx_iload_n hX dX5_other_77 rfl ?_
            refine gx_icmp_gt (tgt := 84) hX dX5_other_78 (by decide) h (fun h => ?_) (fun h => ?_)
            · refine gx_aload hX dX5_other_84 rfl ?_
              refine xk_getr hX 53 q574 (fun _ h => h) rfl dX5_other_86 h (fun v20 h => ?_)
              refine gx_aload_n hX dX5_other_89 rfl ?_
              refine xk_geti hX 47 q554 (fun _ h => h) rfl dX5_other_90 h (fun v21 h => ?_)
              obtain ⟨b23, hb, h⟩ := gx_bs h
              obtain ⟨eb, hkb⟩ := xk_isS hb
              obtain ⟨r22, hr22, h⟩ := gx_bs h
              refine gx_cV (As := [.int (v21)]) (rest := []) (b := b23) hX (tX4_fit w (gx_A X) (gx_l X) (b23) (σ) (v21) hr22) (lw_V q690 q691 q692 q93 q693) ⟨rfl, dsX4_fit⟩ (by decide) (Nat.le_of_ble_eq_true rfl) (xk_rc hX (ci := 4) (by decide) (by decide) hkb) (by rw [eb]; rfl) (gx_w8 gx_k0 (Nat.le_of_ble_eq_true rfl)) dX5_other_93 ⟨Nat.le_refl _, Nat.le_refl _⟩ rfl ?_
              refine gx_istore_n hX dX5_other_96 (Nat.le_of_ble_eq_true rfl) gx_c1r (lv' := [some (va_rf (some x0)), some (va_rf (x1)), some (.int (r22)), some (.int (x3)), some (va_rf (r9))]) rfl ?_
              refine gx_aload hX dX5_other_97 rfl ?_
              refine gx_astore_n hX dX5_other_99 (Nat.le_of_ble_eq_true rfl) gx_c1r (lv' := [some (va_rf (some x0)), some (va_rf (r9)), some (.int (r22)), some (.int (x3)), some (va_rf (r9))]) rfl ?_
              refine gx_sub hX (lv' := [some (va_rf (some x0)), some (va_rf (r9)), some (.int (r22)), some (.int (x3)), none]) ⟨Or.inr rfl, ⟨Or.inr rfl, ⟨Or.inr rfl, ⟨Or.inr rfl, ⟨Or.inl rfl, trivial⟩⟩⟩⟩⟩ ?_
              exact tX5_other_B100 hX ih h
            · refine gx_goto (tgt := 100) hX dX5_other_81 (by decide) ?_
              refine gx_sub hX (lv' := [some (va_rf (some x0)), some (va_rf (x1)), some (.int (x2)), some (.int (x3)), none]) ⟨Or.inr rfl, ⟨Or.inr rfl, ⟨Or.inr rfl, ⟨Or.inr rfl, ⟨Or.inl rfl, trivial⟩⟩⟩⟩⟩ ?_
              exact tX5_other_B100 hX ih h
          · refine gx_sub hX (lv' := [some (va_rf (some x0)), some (va_rf (x1)), some (.int (x2)), some (.int (x3)), none]) ⟨Or.inr rfl, ⟨Or.inr rfl, ⟨Or.inr rfl, ⟨Or.inr rfl, ⟨Or.inl rfl, trivial⟩⟩⟩⟩⟩ ?_
            exact tX5_other_B100 hX ih h
def fX5_other (N : Nat) (x0 : Nat) (σ : xk_C)  : Option (Option Nat) := (xk_is (σ) 6 (some x0)).bind fun b2 => (fX5_fit (b2) (σ)).bind fun r1 => fX5_other_L9 N x0 σ N (none) (r1) (0)
set_option maxHeartbeats 4000000 in
theorem tX5_other (w : gw_W) (A : Nat → Prop) (l : Launch) (N : Nat) (x0 : Nat) (σ : xk_C)  {r : Option Nat} (h : fX5_other N x0 σ = some r) : gx_T (gw_I w A) A l yX5_other iX5_other 5 [va_rf (some x0)] (xk_P A w σ) 0 0 (xk_P A w σ) (.returned (some (va_rf r))) := by
  refine gx_T.of (gw_I.inv w A) (by decide) ⟨rfl, rfl⟩ (gx_kR gx_k0) (Nat.le_of_ble_eq_true rfl) (fun X hl hAx hX => ?_)
  subst hl
  subst hAx
  show gx_G X (xk_P (gx_A X) w (σ)) 0 0 [some (va_rf (some x0)), none, none, none, none] 0 []
  unfold fX5_other at h
  refine gx_null hX dX5_other_0 ?_
  refine gx_astore_n hX dX5_other_1 (Nat.le_of_ble_eq_true rfl) gx_c1r (lv' := [some (va_rf (some x0)), some (va_rf (none)), none, none, none]) rfl ?_
  refine gx_aload_n hX dX5_other_2 rfl ?_
  obtain ⟨b2, hb, h⟩ := gx_bs h
  obtain ⟨eb, hkb⟩ := xk_isS hb
  obtain ⟨r1, hr1, h⟩ := gx_bs h
  refine gx_cV (As := []) (rest := []) (b := b2) hX (tX5_fit w (gx_A X) (gx_l X) (b2) (σ)  hr1) (lw_V q987 q687 q688 q100 q689) ⟨rfl, dsX5_fit⟩ (by decide) (Nat.le_of_ble_eq_true rfl) (xk_rc hX (ci := 5) (by decide) (by decide) hkb) (by rw [eb]; rfl) (gx_w8 gx_k0 (Nat.le_of_ble_eq_true rfl)) dX5_other_3 ⟨Nat.le_refl _, Nat.le_refl _⟩ rfl ?_
  refine gx_istore_n hX dX5_other_6 (Nat.le_of_ble_eq_true rfl) gx_c1r (lv' := [some (va_rf (some x0)), some (va_rf (none)), some (.int (r1)), none, none]) rfl ?_
  refine gx_iconst (v := 0) hX dX5_other_7 (by decide) ?_
  refine gx_istore_n hX dX5_other_8 (Nat.le_of_ble_eq_true rfl) gx_c1i (lv' := [some (va_rf (some x0)), some (va_rf (none)), some (.int (r1)), some (.int (0)), none]) rfl ?_
  exact tX5_other_L9 hX  N _ _ _ h
abbrev iX5_act : gx_M := (RX5, "act", cX5_act, 3, none)
theorem dsX5_act : gx_ds yX5_act 0 := by decide +kernel
def fX5_act_B139 (N : Nat) (x0 : Nat)   (σ : xk_C) (y0 : Int32) : Option (xk_C × Unit) := (xk_pz (σ) 51 (some x0) (y0)).bind fun σ5 => some (σ5, ())
set_option maxHeartbeats 4000000 in
theorem eX5_act_B139 {r : xk_C × Unit} {N : Nat} {x0 : Nat}   {σ : xk_C} {y0 : Int32} : xk_er r σ (fX5_act_B139 N x0 σ y0) := by
  unfold fX5_act_B139
  exact (xk_er_op xk_e_pz (fun _ => xk_er_ret))
set_option maxHeartbeats 4000000 in
theorem tX5_act_B139 {w : gw_W} {X : gx_X} {N : Nat} {x0 : Nat} {r : xk_C × Unit} (hX : gx_O (gw_I w (gx_A X)) X iX5_act 137 0 0 (xk_P (gx_A X) w r.1) (.returned none))  {σ : xk_C} {y0 : Int32} (h : fX5_act_B139 N x0 σ y0 = some r) : gx_G X (xk_P (gx_A X) w (σ)) 0 0 [none, none, none] 139 [.int (y0), va_rf (some x0)] := by
  unfold fX5_act_B139 at h
  refine xk_putz hX 51 xk_ty51 rfl q568 (fun _ h => h) rfl rfl dX5_act_139 h (fun σ5 hτ h => ?_)
  cases h
  exact gx_vret hX rfl dX5_act_142 rfl ⟨rfl, rfl⟩ (fun _ h => h)
def fX5_act_B138 (N : Nat) (x0 : Nat)   (σ : xk_C) : Option (xk_C × Unit) := fX5_act_B139 N x0 (σ) (0)
set_option maxHeartbeats 4000000 in
theorem eX5_act_B138 {r : xk_C × Unit} {N : Nat} {x0 : Nat}   {σ : xk_C} : xk_er r σ (fX5_act_B138 N x0 σ) := by
  unfold fX5_act_B138
  exact (eX5_act_B139 )
set_option maxHeartbeats 4000000 in
theorem tX5_act_B138 {w : gw_W} {X : gx_X} {N : Nat} {x0 : Nat} {r : xk_C × Unit} (hX : gx_O (gw_I w (gx_A X)) X iX5_act 137 0 0 (xk_P (gx_A X) w r.1) (.returned none))  {σ : xk_C} (h : fX5_act_B138 N x0 σ = some r) : gx_G X (xk_P (gx_A X) w (σ)) 0 0 [none, none, none] 138 [va_rf (some x0)] := by
  unfold fX5_act_B138 at h
  refine gx_iconst (v := 0) hX dX5_act_138 (by decide) ?_
  exact tX5_act_B139 hX  h
def fX5_act_B111 (N : Nat) (x0 : Nat)   (σ : xk_C) (x1 : Option Nat) : Option (xk_C × Unit) := if x1 = none then fX5_act_B138 N x0 (σ) else (xk_gi (σ) 47 (some x0)).bind fun v6 => (xk_is (σ) 5 (x1)).bind fun b8 => (fX4_fit (b8) (σ) (v6)).bind fun r7 => (xk_is (σ) 6 (some x0)).bind fun b10 => (fX5_holds N (b10) (σ) (3) (r7) (0) (0)).bind fun r9 => if r9.2 = 0 then fX5_act_B138 N x0 (r9.1) else fX5_act_B139 N x0 (r9.1) (1)
set_option maxHeartbeats 4000000 in
theorem eX5_act_B111 {r : xk_C × Unit} {N : Nat} {x0 : Nat}   {σ : xk_C} {x1 : Option Nat} : xk_er r σ (fX5_act_B111 N x0 σ x1) := by
  unfold fX5_act_B111
  exact (xk_er_ite (eX5_act_B138 ) (xk_er_rd (fun _ => (xk_er_rd (fun _ => (xk_er_rd (fun _ => (xk_er_rd (fun _ => (xk_er_ca (eX5_holds) (fun _ => (xk_er_ite (eX5_act_B138 ) (eX5_act_B139 )))))))))))))
set_option maxHeartbeats 4000000 in
theorem tX5_act_B111 {w : gw_W} {X : gx_X} {N : Nat} {x0 : Nat} {r : xk_C × Unit} (hX : gx_O (gw_I w (gx_A X)) X iX5_act 137 0 0 (xk_P (gx_A X) w r.1) (.returned none))  {σ : xk_C} {x1 : Option Nat} (h : fX5_act_B111 N x0 σ x1 = some r) : gx_G X (xk_P (gx_A X) w (σ)) 0 0 [some (va_rf (some x0)), some (va_rf (x1)), none] 111 [] := by
  unfold fX5_act_B111 at h
  refine gx_aload_n hX dX5_act_111 rfl ?_
  refine gx_aload_n hX dX5_act_112 rfl ?_
  refine gx_ifnull (tgt := 138) hX dX5_act_113 (by decide) h (fun h => ?_) (fun h => ?_)
  · refine gx_sub hX (lv' := [none, none, none]) ⟨Or.inl rfl, ⟨Or.inl rfl, ⟨Or.inr rfl, trivial⟩⟩⟩ ?_
    exact tX5_act_B138 hX  h
  · refine gx_aload_n hX dX5_act_116 rfl ?_
    refine gx_iconst (v := 3) hX dX5_act_117 (by decide) ?_
    refine gx_aload_n hX dX5_act_118 rfl ?_
    refine gx_aload_n hX dX5_act_119 rfl ?_
    refine xk_geti hX 47 q554 (fun _ h => h) rfl dX5_act_120 h (fun v6 h => ?_)
    obtain ⟨b8, hb, h⟩ := gx_bs h
    obtain ⟨eb, hkb⟩ := xk_isS hb
    obtain ⟨r7, hr7, h⟩ := gx_bs h
    refine gx_cV (As := [.int (v6)]) (rest := [.int (3), va_rf (some x0), va_rf (some x0)]) (b := b8) hX (tX4_fit w (gx_A X) (gx_l X) (b8) (σ) (v6) hr7) (lw_V q690 q691 q692 q93 q693) ⟨rfl, dsX4_fit⟩ (by decide) (Nat.le_of_ble_eq_true rfl) (xk_rc hX (ci := 4) (by decide) (by decide) hkb) (by rw [eb]; rfl) (gx_w8 (gx_kI (gx_kR (gx_kR gx_k0))) (Nat.le_of_ble_eq_true rfl)) dX5_act_123 ⟨Nat.le_refl _, Nat.le_refl _⟩ rfl ?_
    refine gx_iconst (v := 0) hX dX5_act_126 (by decide) ?_
    refine gx_iconst (v := 0) hX dX5_act_127 (by decide) ?_
    obtain ⟨b10, hb, h⟩ := gx_bs h
    obtain ⟨eb, hkb⟩ := xk_isS hb
    obtain ⟨r9, hr9, h⟩ := gx_bs h
    refine gx_cV (As := [.int (3), .int (r7), .int (0), .int (0)]) (rest := [va_rf (some x0)]) (b := b10) hX (tX5_holds w (gx_A X) (gx_l X) N (b10) (σ) (3) (r7) (0) (0) hr9) (lw_V q988 q990 qs18 q100 q991) ⟨rfl, dsX5_holds⟩ (by decide) (Nat.le_of_ble_eq_true rfl) (xk_rc hX (ci := 5) (by decide) (by decide) hkb) (by rw [eb]; rfl) (gx_w8 (gx_kR gx_k0) (Nat.le_of_ble_eq_true rfl)) dX5_act_128 ⟨Nat.le_refl _, Nat.le_refl _⟩ rfl ?_
    refine gx_if_eq (tgt := 138) hX dX5_act_131 (by decide) h (fun h => ?_) (fun h => ?_)
    · refine gx_sub hX (lv' := [none, none, none]) ⟨Or.inl rfl, ⟨Or.inl rfl, ⟨Or.inr rfl, trivial⟩⟩⟩ ?_
      exact tX5_act_B138 hX  h
    · refine gx_iconst (v := 1) hX dX5_act_134 (by decide) ?_
      refine gx_goto (tgt := 139) hX dX5_act_135 (by decide) ?_
      refine gx_sub hX (lv' := [none, none, none]) ⟨Or.inl rfl, ⟨Or.inl rfl, ⟨Or.inr rfl, trivial⟩⟩⟩ ?_
      exact tX5_act_B139 hX  h
def fX5_act_B99 (N : Nat) (x0 : Nat)   (σ : xk_C) (x1 : Option Nat) (x2 : Option Nat) (y0 : Int32) (y1 : Int32) (y2 : Int32) (y3 : Int32) : Option (xk_C × Unit) := (xk_is (σ) 6 (some x0)).bind fun b18 => (fX5_holds N (b18) (σ) (y3) (y2) (y1) (y0)).bind fun r17 => if r17.2 = 0 then fX5_act_B111 N x0 (r17.1) (x1) else (xk_is (r17.1) 6 (some x0)).bind fun b20 => (fX5_knockAt N (b20) (r17.1) (x2)).bind fun r19 => some (r19.1, ())
set_option maxHeartbeats 4000000 in
theorem eX5_act_B99 {r : xk_C × Unit} {N : Nat} {x0 : Nat}   {σ : xk_C} {x1 : Option Nat} {x2 : Option Nat} {y0 : Int32} {y1 : Int32} {y2 : Int32} {y3 : Int32} : xk_er r σ (fX5_act_B99 N x0 σ x1 x2 y0 y1 y2 y3) := by
  unfold fX5_act_B99
  exact (xk_er_rd (fun _ => (xk_er_ca (eX5_holds) (fun _ => (xk_er_ite (eX5_act_B111 ) (xk_er_rd (fun _ => (xk_er_ca (eX5_knockAt) (fun _ => xk_er_ret)))))))))
set_option maxHeartbeats 4000000 in
theorem tX5_act_B99 {w : gw_W} {X : gx_X} {N : Nat} {x0 : Nat} {r : xk_C × Unit} (hX : gx_O (gw_I w (gx_A X)) X iX5_act 137 0 0 (xk_P (gx_A X) w r.1) (.returned none))  {σ : xk_C} {x1 : Option Nat} {x2 : Option Nat} {y0 : Int32} {y1 : Int32} {y2 : Int32} {y3 : Int32} (h : fX5_act_B99 N x0 σ x1 x2 y0 y1 y2 y3 = some r) : gx_G X (xk_P (gx_A X) w (σ)) 0 0 [some (va_rf (some x0)), some (va_rf (x1)), some (va_rf (x2))] 99 [.int (y0), .int (y1), .int (y2), .int (y3), va_rf (some x0)] := by
  unfold fX5_act_B99 at h
  obtain ⟨b18, hb, h⟩ := gx_bs h
  obtain ⟨eb, hkb⟩ := xk_isS hb
  obtain ⟨r17, hr17, h⟩ := gx_bs h
  refine gx_cV (As := [.int (y3), .int (y2), .int (y1), .int (y0)]) (rest := []) (b := b18) hX (tX5_holds w (gx_A X) (gx_l X) N (b18) (σ) (y3) (y2) (y1) (y0) hr17) (lw_V q988 q990 qs18 q100 q991) ⟨rfl, dsX5_holds⟩ (by decide) (Nat.le_of_ble_eq_true rfl) (xk_rc hX (ci := 5) (by decide) (by decide) hkb) (by rw [eb]; rfl) (gx_w8 gx_k0 (Nat.le_of_ble_eq_true rfl)) dX5_act_99 ⟨Nat.le_refl _, Nat.le_refl _⟩ rfl ?_
  refine gx_if_eq (tgt := 111) hX dX5_act_102 (by decide) h (fun h => ?_) (fun h => ?_)
  · refine gx_sub hX (lv' := [some (va_rf (some x0)), some (va_rf (x1)), none]) ⟨Or.inr rfl, ⟨Or.inr rfl, ⟨Or.inl rfl, trivial⟩⟩⟩ ?_
    exact tX5_act_B111 hX  h
  · refine gx_aload_n hX dX5_act_105 rfl ?_
    refine gx_aload_n hX dX5_act_106 rfl ?_
    obtain ⟨b20, hb, h⟩ := gx_bs h
    obtain ⟨eb, hkb⟩ := xk_isS hb
    obtain ⟨r19, hr19, h⟩ := gx_bs h
    refine gx_cV (As := [va_rf (x2)]) (rest := []) (b := b20) hX (tX5_knockAt w (gx_A X) (gx_l X) N (b20) (r17.1) (x2) hr19) (lw_V q998 q1000 qs20 q100 q1001) ⟨rfl, dsX5_knockAt⟩ (by decide) (Nat.le_of_ble_eq_true rfl) (xk_rc hX (ci := 5) (by decide) (by decide) hkb) (by rw [eb]; rfl) (gx_w8 gx_k0 (Nat.le_of_ble_eq_true rfl)) dX5_act_107 ⟨Nat.le_refl _, Nat.le_refl _⟩ rfl ?_
    cases h
    exact gx_vret hX rfl dX5_act_110 rfl ⟨rfl, rfl⟩ (fun _ h => h)
def fX5_act_B57 (N : Nat) (x0 : Nat)   (σ : xk_C) (x1 : Option Nat) : Option (xk_C × Unit) := (xk_is (σ) 6 (some x0)).bind fun b4 => (fX5_other N (b4) (σ)).bind fun r3 => if r3 = none then fX5_act_B111 N x0 (σ) (x1) else (xk_gr (σ) 53 (r3)).bind fun v11 => (xk_gi (σ) 47 (some x0)).bind fun v12 => (xk_is (σ) 5 (v11)).bind fun b14 => (fX4_fit (b14) (σ) (v12)).bind fun r13 => (xk_gi (σ) 47 (r3)).bind fun v15 => (xk_gr (σ) 54 (some x0)).bind fun v16 => if v16 = r3 then (xk_gi (σ) 49 (some x0)).bind fun v21 => fX5_act_B99 N x0 (σ) (x1) (r3) (v21) (v15) (r13) (1) else fX5_act_B99 N x0 (σ) (x1) (r3) (0) (v15) (r13) (1)
set_option maxHeartbeats 4000000 in
theorem eX5_act_B57 {r : xk_C × Unit} {N : Nat} {x0 : Nat}   {σ : xk_C} {x1 : Option Nat} : xk_er r σ (fX5_act_B57 N x0 σ x1) := by
  unfold fX5_act_B57
  exact (xk_er_rd (fun _ => (xk_er_rd (fun _ => (xk_er_ite (eX5_act_B111 ) (xk_er_rd (fun _ => (xk_er_rd (fun _ => (xk_er_rd (fun _ => (xk_er_rd (fun _ => (xk_er_rd (fun _ => (xk_er_rd (fun _ => (xk_er_ite (xk_er_rd (fun _ => (eX5_act_B99 ))) (eX5_act_B99 )))))))))))))))))))
set_option maxHeartbeats 4000000 in
theorem tX5_act_B57 {w : gw_W} {X : gx_X} {N : Nat} {x0 : Nat} {r : xk_C × Unit} (hX : gx_O (gw_I w (gx_A X)) X iX5_act 137 0 0 (xk_P (gx_A X) w r.1) (.returned none))  {σ : xk_C} {x1 : Option Nat} (h : fX5_act_B57 N x0 σ x1 = some r) : gx_G X (xk_P (gx_A X) w (σ)) 0 0 [some (va_rf (some x0)), some (va_rf (x1)), none] 57 [] := by
  unfold fX5_act_B57 at h
  refine gx_aload_n hX dX5_act_57 rfl ?_
  obtain ⟨b4, hb, h⟩ := gx_bs h
  obtain ⟨eb, hkb⟩ := xk_isS hb
  obtain ⟨r3, hr3, h⟩ := gx_bs h
  refine gx_cV (As := []) (rest := []) (b := b4) hX (tX5_other w (gx_A X) (gx_l X) N (b4) (σ)  hr3) (lw_V q993 q995 qs19 q100 q996) ⟨rfl, dsX5_other⟩ (by decide) (Nat.le_of_ble_eq_true rfl) (xk_rc hX (ci := 5) (by decide) (by decide) hkb) (by rw [eb]; rfl) (gx_w8 gx_k0 (Nat.le_of_ble_eq_true rfl)) dX5_act_58 ⟨Nat.le_refl _, Nat.le_refl _⟩ rfl ?_
  refine gx_astore_n hX dX5_act_61 (Nat.le_of_ble_eq_true rfl) gx_c1r (lv' := [some (va_rf (some x0)), some (va_rf (x1)), some (va_rf (r3))]) rfl ?_
  refine gx_aload_n hX dX5_act_62 rfl ?_
  refine gx_ifnull (tgt := 111) hX dX5_act_63 (by decide) h (fun h => ?_) (fun h => ?_)
  · refine gx_sub hX (lv' := [some (va_rf (some x0)), some (va_rf (x1)), none]) ⟨Or.inr rfl, ⟨Or.inr rfl, ⟨Or.inl rfl, trivial⟩⟩⟩ ?_
    exact tX5_act_B111 hX  h
  · refine gx_aload_n hX dX5_act_66 rfl ?_
    refine gx_iconst (v := 1) hX dX5_act_67 (by decide) ?_
    refine gx_aload_n hX dX5_act_68 rfl ?_
    refine xk_getr hX 53 q574 (fun _ h => h) rfl dX5_act_69 h (fun v11 h => ?_)
    refine gx_aload_n hX dX5_act_72 rfl ?_
    refine xk_geti hX 47 q554 (fun _ h => h) rfl dX5_act_73 h (fun v12 h => ?_)
    obtain ⟨b14, hb, h⟩ := gx_bs h
    obtain ⟨eb, hkb⟩ := xk_isS hb
    obtain ⟨r13, hr13, h⟩ := gx_bs h
    refine gx_cV (As := [.int (v12)]) (rest := [.int (1), va_rf (some x0)]) (b := b14) hX (tX4_fit w (gx_A X) (gx_l X) (b14) (σ) (v12) hr13) (lw_V q690 q691 q692 q93 q693) ⟨rfl, dsX4_fit⟩ (by decide) (Nat.le_of_ble_eq_true rfl) (xk_rc hX (ci := 4) (by decide) (by decide) hkb) (by rw [eb]; rfl) (gx_w8 (gx_kI (gx_kR gx_k0)) (Nat.le_of_ble_eq_true rfl)) dX5_act_76 ⟨Nat.le_refl _, Nat.le_refl _⟩ rfl ?_
    refine gx_aload_n hX dX5_act_79 rfl ?_
    refine xk_geti hX 47 q554 (fun _ h => h) rfl dX5_act_80 h (fun v15 h => ?_)
    refine gx_aload_n hX dX5_act_83 rfl ?_
    refine xk_getr hX 54 q578 (fun _ h => h) rfl dX5_act_84 h (fun v16 h => ?_)
    refine gx_aload_n hX dX5_act_87 rfl ?_
    refine gx_acmp_ne (tgt := 98) hX dX5_act_88 (by decide) h (fun h => ?_) (fun h => ?_)
    · refine gx_aload_n hX dX5_act_91 rfl ?_
      refine xk_geti hX 49 q563 (fun _ h => h) rfl dX5_act_92 h (fun v21 h => ?_)
      refine gx_goto (tgt := 99) hX dX5_act_95 (by decide) ?_
      exact tX5_act_B99 hX  h
    · refine gx_iconst (v := 0) hX dX5_act_98 (by decide) ?_
      exact tX5_act_B99 hX  h
def fX5_act (N : Nat) (x0 : Nat) (σ : xk_C)  : Option (xk_C × Unit) := (xk_is (σ) 6 (some x0)).bind fun b2 => (fX5_lying N (b2) (σ)).bind fun r1 => if r1 = none then fX5_act_B57 N x0 (σ) (r1) else (xk_gi (σ) 47 (some x0)).bind fun v22 => (xk_is (σ) 5 (r1)).bind fun b24 => (fX4_fit (b24) (σ) (v22)).bind fun r23 => (xk_is (σ) 6 (some x0)).bind fun b26 => (fX5_fit (b26) (σ)).bind fun r25 => if (r23) ≤ r25 then fX5_act_B57 N x0 (σ) (r1) else (xk_gi (σ) 47 (some x0)).bind fun v27 => (xk_is (σ) 5 (r1)).bind fun b29 => (fX4_fit (b29) (σ) (v27)).bind fun r28 => (xk_is (σ) 6 (some x0)).bind fun b31 => (fX5_holds N (b31) (σ) (0) (r28) (0) (0)).bind fun r30 => if r30.2 = 0 then fX5_act_B57 N x0 (r30.1) (r1) else (xk_gr (r30.1) 53 (some x0)).bind fun v32 => (xk_is (r30.1) 5 (v32)).bind fun b34 => (fX4_become (b34) (r30.1) (0) (none)).bind fun r33 => (xk_is (r33.1) 6 (some x0)).bind fun b36 => (fX5_goTo (b36) (r33.1) (r1)).bind fun r35 => some (r35.1, ())
set_option maxHeartbeats 4000000 in
theorem eX5_act {N : Nat} {x0 : Nat} {σ : xk_C}  : ∀ p, fX5_act N x0 σ = some p → xk_n p.1 = xk_n σ ∧ xk_s p.1 = xk_s σ := fun r => show xk_er r σ (fX5_act N x0 σ) from by
  unfold fX5_act
  exact (xk_er_rd (fun _ => (xk_er_rd (fun _ => (xk_er_ite (eX5_act_B57 ) (xk_er_rd (fun _ => (xk_er_rd (fun _ => (xk_er_rd (fun _ => (xk_er_rd (fun _ => (xk_er_rd (fun _ => (xk_er_ite (eX5_act_B57 ) (xk_er_rd (fun _ => (xk_er_rd (fun _ => (xk_er_rd (fun _ => (xk_er_rd (fun _ => (xk_er_ca (eX5_holds) (fun _ => (xk_er_ite (eX5_act_B57 ) (xk_er_rd (fun _ => (xk_er_rd (fun _ => (xk_er_ca (eX4_become) (fun _ => (xk_er_rd (fun _ => (xk_er_ca (eX5_goTo) (fun _ => xk_er_ret)))))))))))))))))))))))))))))))))))))
theorem mX5_act {N : Nat} {x0 : Nat} {σ : xk_C}  : ∀ p, fX5_act N x0 σ = some p → xk_n σ ≤ xk_n p.1 ∧ xk_s σ ≤ xk_s p.1 := fun p h => xk_le_of (eX5_act p h)
set_option maxHeartbeats 4000000 in
theorem tX5_act (w : gw_W) (A : Nat → Prop) (l : Launch) (N : Nat) (x0 : Nat) (σ : xk_C)  {r : xk_C × Unit} (h : fX5_act N x0 σ = some r) : gx_T (gw_I w A) A l yX5_act iX5_act 137 [va_rf (some x0)] (xk_P A w σ) 0 0 (xk_P A w r.1) (.returned none) := by
  refine gx_T.of (gw_I.inv w A) (by decide) ⟨rfl, rfl⟩ (gx_kR gx_k0) (Nat.le_of_ble_eq_true rfl) (fun X hl hAx hX => ?_)
  subst hl
  subst hAx
  show gx_G X (xk_P (gx_A X) w (σ)) 0 0 [some (va_rf (some x0)), none, none] 0 []
  unfold fX5_act at h
  refine gx_aload_n hX dX5_act_0 rfl ?_
  obtain ⟨b2, hb, h⟩ := gx_bs h
  obtain ⟨eb, hkb⟩ := xk_isS hb
  obtain ⟨r1, hr1, h⟩ := gx_bs h
  refine gx_cV (As := []) (rest := []) (b := b2) hX (tX5_lying w (gx_A X) (gx_l X) N (b2) (σ)  hr1) (lw_V q969 q970 q971 q100 q972) ⟨rfl, dsX5_lying⟩ (by decide) (Nat.le_of_ble_eq_true rfl) (xk_rc hX (ci := 5) (by decide) (by decide) hkb) (by rw [eb]; rfl) (gx_w8 gx_k0 (Nat.le_of_ble_eq_true rfl)) dX5_act_1 ⟨Nat.le_refl _, Nat.le_refl _⟩ rfl ?_
  refine gx_astore_n hX dX5_act_4 (Nat.le_of_ble_eq_true rfl) gx_c1r (lv' := [some (va_rf (some x0)), some (va_rf (r1)), none]) rfl ?_
  refine gx_aload_n hX dX5_act_5 rfl ?_
  refine gx_ifnull (tgt := 57) hX dX5_act_6 (by decide) h (fun h => ?_) (fun h => ?_)
  · exact tX5_act_B57 hX  h
  · refine gx_aload_n hX dX5_act_9 rfl ?_
    refine gx_aload_n hX dX5_act_10 rfl ?_
    refine xk_geti hX 47 q554 (fun _ h => h) rfl dX5_act_11 h (fun v22 h => ?_)
    obtain ⟨b24, hb, h⟩ := gx_bs h
    obtain ⟨eb, hkb⟩ := xk_isS hb
    obtain ⟨r23, hr23, h⟩ := gx_bs h
    refine gx_cV (As := [.int (v22)]) (rest := []) (b := b24) hX (tX4_fit w (gx_A X) (gx_l X) (b24) (σ) (v22) hr23) (lw_V q690 q691 q692 q93 q693) ⟨rfl, dsX4_fit⟩ (by decide) (Nat.le_of_ble_eq_true rfl) (xk_rc hX (ci := 4) (by decide) (by decide) hkb) (by rw [eb]; rfl) (gx_w8 gx_k0 (Nat.le_of_ble_eq_true rfl)) dX5_act_14 ⟨Nat.le_refl _, Nat.le_refl _⟩ rfl ?_
    refine gx_aload_n hX dX5_act_17 rfl ?_
    obtain ⟨b26, hb, h⟩ := gx_bs h
    obtain ⟨eb, hkb⟩ := xk_isS hb
    obtain ⟨r25, hr25, h⟩ := gx_bs h
    refine gx_cV (As := []) (rest := [.int (r23)]) (b := b26) hX (tX5_fit w (gx_A X) (gx_l X) (b26) (σ)  hr25) (lw_V q987 q687 q688 q100 q689) ⟨rfl, dsX5_fit⟩ (by decide) (Nat.le_of_ble_eq_true rfl) (xk_rc hX (ci := 5) (by decide) (by decide) hkb) (by rw [eb]; rfl) (gx_w8 (gx_kI gx_k0) (Nat.le_of_ble_eq_true rfl)) dX5_act_18 ⟨Nat.le_refl _, Nat.le_refl _⟩ rfl ?_
    refine gx_icmp_le (tgt := 57) hX dX5_act_21 (by decide) h (fun h => ?_) (fun h => ?_)
    · exact tX5_act_B57 hX  h
    · refine gx_aload_n hX dX5_act_24 rfl ?_
      refine gx_iconst (v := 0) hX dX5_act_25 (by decide) ?_
      refine gx_aload_n hX dX5_act_26 rfl ?_
      refine gx_aload_n hX dX5_act_27 rfl ?_
      refine xk_geti hX 47 q554 (fun _ h => h) rfl dX5_act_28 h (fun v27 h => ?_)
      obtain ⟨b29, hb, h⟩ := gx_bs h
      obtain ⟨eb, hkb⟩ := xk_isS hb
      obtain ⟨r28, hr28, h⟩ := gx_bs h
      refine gx_cV (As := [.int (v27)]) (rest := [.int (0), va_rf (some x0)]) (b := b29) hX (tX4_fit w (gx_A X) (gx_l X) (b29) (σ) (v27) hr28) (lw_V q690 q691 q692 q93 q693) ⟨rfl, dsX4_fit⟩ (by decide) (Nat.le_of_ble_eq_true rfl) (xk_rc hX (ci := 4) (by decide) (by decide) hkb) (by rw [eb]; rfl) (gx_w8 (gx_kI (gx_kR gx_k0)) (Nat.le_of_ble_eq_true rfl)) dX5_act_31 ⟨Nat.le_refl _, Nat.le_refl _⟩ rfl ?_
      refine gx_iconst (v := 0) hX dX5_act_34 (by decide) ?_
      refine gx_iconst (v := 0) hX dX5_act_35 (by decide) ?_
      obtain ⟨b31, hb, h⟩ := gx_bs h
      obtain ⟨eb, hkb⟩ := xk_isS hb
      obtain ⟨r30, hr30, h⟩ := gx_bs h
      refine gx_cV (As := [.int (0), .int (r28), .int (0), .int (0)]) (rest := []) (b := b31) hX (tX5_holds w (gx_A X) (gx_l X) N (b31) (σ) (0) (r28) (0) (0) hr30) (lw_V q988 q990 qs18 q100 q991) ⟨rfl, dsX5_holds⟩ (by decide) (Nat.le_of_ble_eq_true rfl) (xk_rc hX (ci := 5) (by decide) (by decide) hkb) (by rw [eb]; rfl) (gx_w8 gx_k0 (Nat.le_of_ble_eq_true rfl)) dX5_act_36 ⟨Nat.le_refl _, Nat.le_refl _⟩ rfl ?_
      refine gx_if_eq (tgt := 57) hX dX5_act_39 (by decide) h (fun h => ?_) (fun h => ?_)
      · exact tX5_act_B57 hX  h
      · refine gx_aload_n hX dX5_act_42 rfl ?_
        refine xk_getr hX 53 q574 (fun _ h => h) rfl dX5_act_43 h (fun v32 h => ?_)
        refine gx_iconst (v := 0) hX dX5_act_46 (by decide) ?_
        refine gx_null hX dX5_act_47 ?_
        obtain ⟨b34, hb, h⟩ := gx_bs h
        obtain ⟨eb, hkb⟩ := xk_isS hb
        obtain ⟨r33, hr33, h⟩ := gx_bs h
        refine gx_cV (As := [.int (0), va_rf (none)]) (rest := []) (b := b34) hX (tX4_become w (gx_A X) (gx_l X) (b34) (r30.1) (0) (none) hr33) (lw_V q614 q615 q616 q93 q617) ⟨rfl, dsX4_become⟩ (by decide) (Nat.le_of_ble_eq_true rfl) (xk_rc hX (ci := 4) (by decide) (by decide) hkb) (by rw [eb]; rfl) (gx_w8 gx_k0 (Nat.le_of_ble_eq_true rfl)) dX5_act_48 ⟨Nat.le_refl _, Nat.le_refl _⟩ rfl ?_
        refine gx_aload_n hX dX5_act_51 rfl ?_
        refine gx_aload_n hX dX5_act_52 rfl ?_
        obtain ⟨b36, hb, h⟩ := gx_bs h
        obtain ⟨eb, hkb⟩ := xk_isS hb
        obtain ⟨r35, hr35, h⟩ := gx_bs h
        refine gx_cV (As := [va_rf (r1)]) (rest := []) (b := b36) hX (tX5_goTo w (gx_A X) (gx_l X) (b36) (r33.1) (r1) hr35) (lw_V q977 q978 q979 q100 q980) ⟨rfl, dsX5_goTo⟩ (by decide) (Nat.le_of_ble_eq_true rfl) (xk_rc hX (ci := 5) (by decide) (by decide) hkb) (by rw [eb]; rfl) (gx_w8 gx_k0 (Nat.le_of_ble_eq_true rfl)) dX5_act_53 ⟨Nat.le_refl _, Nat.le_refl _⟩ rfl ?_
        cases h
        exact gx_vret hX rfl dX5_act_56 rfl ⟨rfl, rfl⟩ (fun _ h => h)
abbrev iX5_stepOn : gx_M := (RX5, "stepOn", cX5_stepOn, 2, none)
theorem dsX5_stepOn : gx_ds yX5_stepOn 0 := by decide +kernel
def fX5_stepOn (N : Nat) (x0 : Nat) (σ : xk_C)  : Option (xk_C × Unit) := (xk_gr (σ) 53 (some x0)).bind fun v1 => if v1 = none then (xk_is (σ) 6 (some x0)).bind fun b9 => (fX5_lying N (b9) (σ)).bind fun r8 => if r8 = none then some (σ, ()) else (xk_is (σ) 6 (some x0)).bind fun b11 => (fX5_goTo (b11) (σ) (r8)).bind fun r10 => some (r10.1, ()) else (xk_gi (σ) 48 (some x0)).bind fun v2 => (xk_pi (σ) 48 (some x0) ((v2) - (1))).bind fun σ3 => (xk_gi (σ3) 48 (some x0)).bind fun v4 => if v4 = 0 then (xk_gr (σ3) 53 (some x0)).bind fun v5 => (xk_is (σ3) 6 (some x0)).bind fun b7 => (fX5_houseIn (b7) (σ3) (v5)).bind fun r6 => some (r6.1, ()) else some (σ3, ())
set_option maxHeartbeats 4000000 in
theorem eX5_stepOn {N : Nat} {x0 : Nat} {σ : xk_C}  : ∀ p, fX5_stepOn N x0 σ = some p → xk_n p.1 = xk_n σ ∧ xk_s p.1 = xk_s σ := fun r => show xk_er r σ (fX5_stepOn N x0 σ) from by
  unfold fX5_stepOn
  exact (xk_er_rd (fun _ => (xk_er_ite (xk_er_rd (fun _ => (xk_er_rd (fun _ => (xk_er_ite xk_er_ret (xk_er_rd (fun _ => (xk_er_ca (eX5_goTo) (fun _ => xk_er_ret))))))))) (xk_er_rd (fun _ => (xk_er_op xk_e_pi (fun _ => (xk_er_rd (fun _ => (xk_er_ite (xk_er_rd (fun _ => (xk_er_rd (fun _ => (xk_er_ca (eX5_houseIn) (fun _ => xk_er_ret)))))) xk_er_ret))))))))))
theorem mX5_stepOn {N : Nat} {x0 : Nat} {σ : xk_C}  : ∀ p, fX5_stepOn N x0 σ = some p → xk_n σ ≤ xk_n p.1 ∧ xk_s σ ≤ xk_s p.1 := fun p h => xk_le_of (eX5_stepOn p h)
set_option maxHeartbeats 4000000 in
theorem tX5_stepOn (w : gw_W) (A : Nat → Prop) (l : Launch) (N : Nat) (x0 : Nat) (σ : xk_C)  {r : xk_C × Unit} (h : fX5_stepOn N x0 σ = some r) : gx_T (gw_I w A) A l yX5_stepOn iX5_stepOn 6 [va_rf (some x0)] (xk_P A w σ) 0 0 (xk_P A w r.1) (.returned none) := by
  refine gx_T.of (gw_I.inv w A) (by decide) ⟨rfl, rfl⟩ (gx_kR gx_k0) (Nat.le_of_ble_eq_true rfl) (fun X hl hAx hX => ?_)
  subst hl
  subst hAx
  show gx_G X (xk_P (gx_A X) w (σ)) 0 0 [some (va_rf (some x0)), none] 0 []
  unfold fX5_stepOn at h
  refine gx_aload_n hX dX5_stepOn_0 rfl ?_
  refine xk_getr hX 53 q574 (fun _ h => h) rfl dX5_stepOn_1 h (fun v1 h => ?_)
  refine gx_ifnonnull (tgt := 22) hX dX5_stepOn_4 (by decide) h (fun h => ?_) (fun h => ?_)
  · refine gx_aload_n hX dX5_stepOn_7 rfl ?_
    obtain ⟨b9, hb, h⟩ := gx_bs h
    obtain ⟨eb, hkb⟩ := xk_isS hb
    obtain ⟨r8, hr8, h⟩ := gx_bs h
    refine gx_cV (As := []) (rest := []) (b := b9) hX (tX5_lying w (gx_A X) (gx_l X) N (b9) (σ)  hr8) (lw_V q969 q970 q971 q100 q972) ⟨rfl, dsX5_lying⟩ (by decide) (Nat.le_of_ble_eq_true rfl) (xk_rc hX (ci := 5) (by decide) (by decide) hkb) (by rw [eb]; rfl) (gx_w8 gx_k0 (Nat.le_of_ble_eq_true rfl)) dX5_stepOn_8 ⟨Nat.le_refl _, Nat.le_refl _⟩ rfl ?_
    refine gx_astore_n hX dX5_stepOn_11 (Nat.le_of_ble_eq_true rfl) gx_c1r (lv' := [some (va_rf (some x0)), some (va_rf (r8))]) rfl ?_
    refine gx_aload_n hX dX5_stepOn_12 rfl ?_
    refine gx_ifnull (tgt := 21) hX dX5_stepOn_13 (by decide) h (fun h => ?_) (fun h => ?_)
    · cases h
      exact gx_vret hX rfl dX5_stepOn_21 rfl ⟨rfl, rfl⟩ (fun _ h => h)
    · refine gx_aload_n hX dX5_stepOn_16 rfl ?_
      refine gx_aload_n hX dX5_stepOn_17 rfl ?_
      obtain ⟨b11, hb, h⟩ := gx_bs h
      obtain ⟨eb, hkb⟩ := xk_isS hb
      obtain ⟨r10, hr10, h⟩ := gx_bs h
      refine gx_cV (As := [va_rf (r8)]) (rest := []) (b := b11) hX (tX5_goTo w (gx_A X) (gx_l X) (b11) (σ) (r8) hr10) (lw_V q977 q978 q979 q100 q980) ⟨rfl, dsX5_goTo⟩ (by decide) (Nat.le_of_ble_eq_true rfl) (xk_rc hX (ci := 5) (by decide) (by decide) hkb) (by rw [eb]; rfl) (gx_w8 gx_k0 (Nat.le_of_ble_eq_true rfl)) dX5_stepOn_18 ⟨Nat.le_refl _, Nat.le_refl _⟩ rfl ?_
      cases h
      exact gx_vret hX rfl dX5_stepOn_21 rfl ⟨rfl, rfl⟩ (fun _ h => h)
  · refine gx_aload_n hX dX5_stepOn_22 rfl ?_
    refine gx_dup hX dX5_stepOn_23 (gx_cat _) ?_
    refine xk_geti hX 48 q559 (fun _ h => h) rfl dX5_stepOn_24 h (fun v2 h => ?_)
    refine gx_iconst (v := 1) hX dX5_stepOn_27 (by decide) ?_
    refine gx_isub hX dX5_stepOn_28 ?_
    refine xk_puti hX 48 xk_ty48 rfl q559 (fun _ h => h) rfl rfl dX5_stepOn_29 h (fun σ3 hτ h => ?_)
    refine gx_aload_n hX dX5_stepOn_32 rfl ?_
    refine xk_geti hX 48 q559 (fun _ h => h) rfl dX5_stepOn_33 h (fun v4 h => ?_)
    refine gx_if_ne (tgt := 47) hX dX5_stepOn_36 (by decide) h (fun h => ?_) (fun h => ?_)
    · refine gx_aload_n hX dX5_stepOn_39 rfl ?_
      refine gx_aload_n hX dX5_stepOn_40 rfl ?_
      refine xk_getr hX 53 q574 (fun _ h => h) rfl dX5_stepOn_41 h (fun v5 h => ?_)
      obtain ⟨b7, hb, h⟩ := gx_bs h
      obtain ⟨eb, hkb⟩ := xk_isS hb
      obtain ⟨r6, hr6, h⟩ := gx_bs h
      refine gx_cV (As := [va_rf (v5)]) (rest := []) (b := b7) hX (tX5_houseIn w (gx_A X) (gx_l X) (b7) (σ3) (v5) hr6) (lw_V q981 q611 q612 q100 q613) ⟨rfl, dsX5_houseIn⟩ (by decide) (Nat.le_of_ble_eq_true rfl) (xk_rc hX (ci := 5) (by decide) (by decide) hkb) (by rw [eb]; rfl) (gx_w8 gx_k0 (Nat.le_of_ble_eq_true rfl)) dX5_stepOn_44 ⟨Nat.le_refl _, Nat.le_refl _⟩ rfl ?_
      cases h
      exact gx_vret hX rfl dX5_stepOn_47 rfl ⟨rfl, rfl⟩ (fun _ h => h)
    · cases h
      exact gx_vret hX rfl dX5_stepOn_47 rfl ⟨rfl, rfl⟩ (fun _ h => h)
