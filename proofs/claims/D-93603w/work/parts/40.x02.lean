set_option maxRecDepth 100000
abbrev iX0_shellAt : gx_M := (RX0, "shellAt", cX0_shellAt, 2, some (.object "ShellBeach$Shell"))
theorem dsX0_shellAt : gx_ds yX0_shellAt 1 := by decide +kernel
def fX0_shellAt_B15 (x0 : Nat) (σ : xk_C)    : Option (Option Nat) := some (none)
set_option maxHeartbeats 4000000 in
theorem tX0_shellAt_B15 {w : gw_W} {X : gx_X} {x0 : Nat} {σ : xk_C} {r : Option Nat} (hX : gx_O (gw_I w (gx_A X)) X iX0_shellAt 5 0 0 (xk_P (gx_A X) w σ) (.returned (some (va_rf r))))   (h : fX0_shellAt_B15 x0 σ = some r) : gx_G X (xk_P (gx_A X) w (σ)) 0 0 [none, none] 15 [] := by
  unfold fX0_shellAt_B15 at h
  refine gx_null hX dX0_shellAt_15 ?_
  refine gx_goto (tgt := 30) hX dX0_shellAt_16 (by decide) ?_
  cases h
  exact gx_aret hX rfl (Or.inl ⟨_, rfl⟩) dX0_shellAt_30 rfl ⟨rfl, rfl⟩ (fun _ h => h)
def fX0_shellAt (x0 : Nat) (σ : xk_C) (x1 : Int32) : Option (Option Nat) := if (x1) < 0 then fX0_shellAt_B15 x0 σ else (xk_gr (σ) 0 (some x0)).bind fun v1 => (xk_is (σ) 21 (v1)).bind fun b3 => (fJ2_size (b3) (σ)).bind fun r2 => if (x1) < r2 then (xk_gr (σ) 0 (some x0)).bind fun v4 => (xk_is (σ) 21 (v4)).bind fun b6 => (fJ2_get (b6) (σ) (x1)).bind fun r5 => (xk_ck (σ) 5 (r5)).bind fun u7 => some (r5) else fX0_shellAt_B15 x0 σ
set_option maxHeartbeats 4000000 in
theorem tX0_shellAt (w : gw_W) (A : Nat → Prop) (l : Launch) (x0 : Nat) (σ : xk_C) (x1 : Int32) {r : Option Nat} (h : fX0_shellAt x0 σ x1 = some r) : gx_T (gw_I w A) A l yX0_shellAt iX0_shellAt 5 [va_rf (some x0), .int (x1)] (xk_P A w σ) 0 0 (xk_P A w σ) (.returned (some (va_rf r))) := by
  refine gx_T.of (gw_I.inv w A) (by decide) ⟨rfl, rfl⟩ (gx_kR (gx_kI gx_k0)) (Nat.le_of_ble_eq_true rfl) (fun X hl hAx hX => ?_)
  subst hl
  subst hAx
  show gx_G X (xk_P (gx_A X) w (σ)) 0 0 [some (va_rf (some x0)), some (.int (x1))] 0 []
  unfold fX0_shellAt at h
  refine gx_iload_n hX dX0_shellAt_0 rfl ?_
  refine gx_if_lt (tgt := 15) hX dX0_shellAt_1 (by decide) h (fun h => ?_) (fun h => ?_)
  · refine gx_sub hX (lv' := [none, none]) ⟨Or.inl rfl, ⟨Or.inl rfl, trivial⟩⟩ ?_
    exact tX0_shellAt_B15 hX  h
  · refine gx_iload_n hX dX0_shellAt_4 rfl ?_
    refine gx_aload_n hX dX0_shellAt_5 rfl ?_
    refine xk_getr hX 0 q209 (fun _ h => h) rfl dX0_shellAt_6 h (fun v1 h => ?_)
    obtain ⟨b3, hb, h⟩ := gx_bs h
    obtain ⟨eb, hkb⟩ := xk_isS hb
    obtain ⟨r2, hr2, h⟩ := gx_bs h
    refine gx_cV (As := []) (rest := [.int (x1)]) (b := b3) hX (tJ2_size w (gx_A X) (gx_l X) (b3) (σ)  hr2) (lw_V q314 q315 q316 q89 q317) ⟨rfl, dsJ2_size⟩ (by decide) (Nat.le_of_ble_eq_true rfl) (xk_rc hX (ci := 20) (by decide) (by decide) hkb) (by rw [eb]; rfl) (gx_w8 (gx_kI gx_k0) (Nat.le_of_ble_eq_true rfl)) dX0_shellAt_9 ⟨Nat.le_refl _, Nat.le_refl _⟩ rfl ?_
    refine gx_icmp_lt (tgt := 19) hX dX0_shellAt_12 (by decide) h (fun h => ?_) (fun h => ?_)
    · refine gx_aload_n hX dX0_shellAt_19 rfl ?_
      refine xk_getr hX 0 q209 (fun _ h => h) rfl dX0_shellAt_20 h (fun v4 h => ?_)
      refine gx_iload_n hX dX0_shellAt_23 rfl ?_
      obtain ⟨b6, hb, h⟩ := gx_bs h
      obtain ⟨eb, hkb⟩ := xk_isS hb
      obtain ⟨r5, hr5, h⟩ := gx_bs h
      refine gx_cV (As := [.int (x1)]) (rest := []) (b := b6) hX (tJ2_get w (gx_A X) (gx_l X) (b6) (σ) (x1) hr5) (lw_V q433 q434 q435 q89 q436) ⟨rfl, dsJ2_get⟩ (by decide) (Nat.le_of_ble_eq_true rfl) (xk_rc hX (ci := 20) (by decide) (by decide) hkb) (by rw [eb]; rfl) (gx_w8 gx_k0 (Nat.le_of_ble_eq_true rfl)) dX0_shellAt_24 ⟨Nat.le_refl _, Nat.le_refl _⟩ rfl ?_
      refine xk_castC hX 4 ⟨by decide, by decide⟩ q206 dX0_shellAt_27 h (fun h => ?_)
      cases h
      exact gx_aret hX rfl (Or.inl ⟨_, rfl⟩) dX0_shellAt_30 rfl ⟨rfl, rfl⟩ (fun _ h => h)
    · refine gx_sub hX (lv' := [none, none]) ⟨Or.inl rfl, ⟨Or.inl rfl, trivial⟩⟩ ?_
      exact tX0_shellAt_B15 hX  h
abbrev iX6_init : gx_M := (RX6, "<init>", cX6_init, 3, none)
theorem dsX6_init : gx_ds yX6_init 2 := by decide +kernel
def fX6_init (x0 : Nat) (σ : xk_C) (x1 : Option Nat) (x2 : Option Nat) : Option (xk_C × Unit) := (xk_pr (σ) 58 (some x0) (x1)).bind fun σ1 => (xk_pr (σ1) 57 (some x0) (x2)).bind fun σ2 => some (σ2, ())
set_option maxHeartbeats 4000000 in
theorem eX6_init {x0 : Nat} {σ : xk_C} {x1 : Option Nat} {x2 : Option Nat} : ∀ p, fX6_init x0 σ x1 x2 = some p → xk_n p.1 = xk_n σ ∧ xk_s p.1 = xk_s σ := fun r => show xk_er r σ (fX6_init x0 σ x1 x2) from by
  unfold fX6_init
  exact (xk_er_op xk_e_pr (fun _ => (xk_er_op xk_e_pr (fun _ => xk_er_ret))))
theorem mX6_init {x0 : Nat} {σ : xk_C} {x1 : Option Nat} {x2 : Option Nat} : ∀ p, fX6_init x0 σ x1 x2 = some p → xk_n σ ≤ xk_n p.1 ∧ xk_s σ ≤ xk_s p.1 := fun p h => xk_le_of (eX6_init p h)
set_option maxHeartbeats 4000000 in
theorem tX6_init (w : gw_W) (A : Nat → Prop) (l : Launch) (x0 : Nat) (σ : xk_C) (x1 : Option Nat) (x2 : Option Nat) {r : xk_C × Unit} (h : fX6_init x0 σ x1 x2 = some r) : gx_T (gw_I w A) A l yX6_init iX6_init 2 [va_rf (some x0), va_rf (x1), va_rf (x2)] (xk_P A w σ) 0 0 (xk_P A w r.1) (.returned none) := by
  refine gx_T.of (gw_I.inv w A) (by decide) ⟨rfl, rfl⟩ (gx_kR (gx_kR (gx_kR gx_k0))) (Nat.le_of_ble_eq_true rfl) (fun X hl hAx hX => ?_)
  subst hl
  subst hAx
  show gx_G X (xk_P (gx_A X) w (σ)) 0 0 [some (va_rf (some x0)), some (va_rf (x1)), some (va_rf (x2))] 0 []
  unfold fX6_init at h
  refine gx_aload_n hX dX6_init_0 rfl ?_
  refine gx_aload_n hX dX6_init_1 rfl ?_
  refine xk_putrF hX 58 xk_ty58 (Or.inl ⟨_, rfl⟩) q464 rfl ⟨rfl, rfl, rfl⟩ dX6_init_2 h (fun σ1 hτ h => ?_)
  refine gx_aload_n hX dX6_init_5 rfl ?_
  refine gx_obj (b := x0) hX ⟨q462, q127, q128⟩ (by decide) (gx_w8 gx_k0 (Nat.le_of_ble_eq_true rfl)) dX6_init_6 rfl ?_
  refine gx_aload_n hX dX6_init_9 rfl ?_
  refine gx_aload_n hX dX6_init_10 rfl ?_
  refine xk_putrF hX 57 xk_ty57 (Or.inl ⟨_, rfl⟩) q463 rfl ⟨rfl, rfl, rfl⟩ dX6_init_11 h (fun σ2 hτ h => ?_)
  cases h
  exact gx_vret hX rfl dX6_init_14 rfl ⟨rfl, rfl⟩ (fun _ h => h)
abbrev iX8_init : gx_M := (RX8, "<init>", cX8_init, 3, none)
theorem dsX8_init : gx_ds yX8_init 2 := by decide +kernel
def fX8_init (x0 : Nat) (σ : xk_C) (x1 : Option Nat) (x2 : Option Nat) : Option (xk_C × Unit) := (xk_pr (σ) 60 (some x0) (x1)).bind fun σ1 => (fX6_init (x0) (σ1) (x1) (x2)).bind fun r2 => some (r2.1, ())
set_option maxHeartbeats 4000000 in
theorem eX8_init {x0 : Nat} {σ : xk_C} {x1 : Option Nat} {x2 : Option Nat} : ∀ p, fX8_init x0 σ x1 x2 = some p → xk_n p.1 = xk_n σ ∧ xk_s p.1 = xk_s σ := fun r => show xk_er r σ (fX8_init x0 σ x1 x2) from by
  unfold fX8_init
  exact (xk_er_op xk_e_pr (fun _ => (xk_er_ca (eX6_init) (fun _ => xk_er_ret))))
theorem mX8_init {x0 : Nat} {σ : xk_C} {x1 : Option Nat} {x2 : Option Nat} : ∀ p, fX8_init x0 σ x1 x2 = some p → xk_n σ ≤ xk_n p.1 ∧ xk_s σ ≤ xk_s p.1 := fun p h => xk_le_of (eX8_init p h)
set_option maxHeartbeats 4000000 in
theorem tX8_init (w : gw_W) (A : Nat → Prop) (l : Launch) (x0 : Nat) (σ : xk_C) (x1 : Option Nat) (x2 : Option Nat) {r : xk_C × Unit} (h : fX8_init x0 σ x1 x2 = some r) : gx_T (gw_I w A) A l yX8_init iX8_init 3 [va_rf (some x0), va_rf (x1), va_rf (x2)] (xk_P A w σ) 0 0 (xk_P A w r.1) (.returned none) := by
  refine gx_T.of (gw_I.inv w A) (by decide) ⟨rfl, rfl⟩ (gx_kR (gx_kR (gx_kR gx_k0))) (Nat.le_of_ble_eq_true rfl) (fun X hl hAx hX => ?_)
  subst hl
  subst hAx
  show gx_G X (xk_P (gx_A X) w (σ)) 0 0 [some (va_rf (some x0)), some (va_rf (x1)), some (va_rf (x2))] 0 []
  unfold fX8_init at h
  refine gx_aload_n hX dX8_init_0 rfl ?_
  refine gx_aload_n hX dX8_init_1 rfl ?_
  refine xk_putrF hX 60 xk_ty60 (Or.inl ⟨_, rfl⟩) q488 rfl ⟨rfl, rfl, rfl⟩ dX8_init_2 h (fun σ1 hτ h => ?_)
  refine gx_aload_n hX dX8_init_5 rfl ?_
  refine gx_aload_n hX dX8_init_6 rfl ?_
  refine gx_aload_n hX dX8_init_7 rfl ?_
  obtain ⟨r2, hr2, h⟩ := gx_bs h
  refine gx_cI (As := [va_rf (x1), va_rf (x2)]) (rest := []) (b := x0) (C2 := RX6) (nm2 := "<init>") hX (tX6_init w (gx_A X) (gx_l X) (x0) (σ1) (x1) (x2) hr2) (lw_meth q461) ⟨q101, q487, q460⟩ ⟨rfl, dsX6_init⟩ (by decide) (Nat.le_of_ble_eq_true rfl) rfl (gx_w8 gx_k0 (Nat.le_of_ble_eq_true rfl)) dX8_init_8 ⟨Nat.le_refl _, Nat.le_refl _⟩ rfl ?_
  cases h
  exact gx_vret hX rfl dX8_init_11 rfl ⟨rfl, rfl⟩ (fun _ h => h)
abbrev iX12_init : gx_M := (RX12, "<init>", cX12_init, 3, none)
theorem dsX12_init : gx_ds yX12_init 2 := by decide +kernel
def fX12_init (x0 : Nat) (σ : xk_C) (x1 : Option Nat) (x2 : Option Nat) : Option (xk_C × Unit) := (xk_pr (σ) 64 (some x0) (x1)).bind fun σ1 => (fX6_init (x0) (σ1) (x1) (x2)).bind fun r2 => some (r2.1, ())
set_option maxHeartbeats 4000000 in
theorem eX12_init {x0 : Nat} {σ : xk_C} {x1 : Option Nat} {x2 : Option Nat} : ∀ p, fX12_init x0 σ x1 x2 = some p → xk_n p.1 = xk_n σ ∧ xk_s p.1 = xk_s σ := fun r => show xk_er r σ (fX12_init x0 σ x1 x2) from by
  unfold fX12_init
  exact (xk_er_op xk_e_pr (fun _ => (xk_er_ca (eX6_init) (fun _ => xk_er_ret))))
theorem mX12_init {x0 : Nat} {σ : xk_C} {x1 : Option Nat} {x2 : Option Nat} : ∀ p, fX12_init x0 σ x1 x2 = some p → xk_n σ ≤ xk_n p.1 ∧ xk_s σ ≤ xk_s p.1 := fun p h => xk_le_of (eX12_init p h)
set_option maxHeartbeats 4000000 in
theorem tX12_init (w : gw_W) (A : Nat → Prop) (l : Launch) (x0 : Nat) (σ : xk_C) (x1 : Option Nat) (x2 : Option Nat) {r : xk_C × Unit} (h : fX12_init x0 σ x1 x2 = some r) : gx_T (gw_I w A) A l yX12_init iX12_init 3 [va_rf (some x0), va_rf (x1), va_rf (x2)] (xk_P A w σ) 0 0 (xk_P A w r.1) (.returned none) := by
  refine gx_T.of (gw_I.inv w A) (by decide) ⟨rfl, rfl⟩ (gx_kR (gx_kR (gx_kR gx_k0))) (Nat.le_of_ble_eq_true rfl) (fun X hl hAx hX => ?_)
  subst hl
  subst hAx
  show gx_G X (xk_P (gx_A X) w (σ)) 0 0 [some (va_rf (some x0)), some (va_rf (x1)), some (va_rf (x2))] 0 []
  unfold fX12_init at h
  refine gx_aload_n hX dX12_init_0 rfl ?_
  refine gx_aload_n hX dX12_init_1 rfl ?_
  refine xk_putrF hX 64 xk_ty64 (Or.inl ⟨_, rfl⟩) q540 rfl ⟨rfl, rfl, rfl⟩ dX12_init_2 h (fun σ1 hτ h => ?_)
  refine gx_aload_n hX dX12_init_5 rfl ?_
  refine gx_aload_n hX dX12_init_6 rfl ?_
  refine gx_aload_n hX dX12_init_7 rfl ?_
  obtain ⟨r2, hr2, h⟩ := gx_bs h
  refine gx_cI (As := [va_rf (x1), va_rf (x2)]) (rest := []) (b := x0) (C2 := RX6) (nm2 := "<init>") hX (tX6_init w (gx_A X) (gx_l X) (x0) (σ1) (x1) (x2) hr2) (lw_meth q461) ⟨q101, q539, q460⟩ ⟨rfl, dsX6_init⟩ (by decide) (Nat.le_of_ble_eq_true rfl) rfl (gx_w8 gx_k0 (Nat.le_of_ble_eq_true rfl)) dX12_init_8 ⟨Nat.le_refl _, Nat.le_refl _⟩ rfl ?_
  cases h
  exact gx_vret hX rfl dX12_init_11 rfl ⟨rfl, rfl⟩ (fun _ h => h)
abbrev iX7_init : gx_M := (RX7, "<init>", cX7_init, 3, none)
theorem dsX7_init : gx_ds yX7_init 2 := by decide +kernel
def fX7_init (x0 : Nat) (σ : xk_C) (x1 : Option Nat) (x2 : Option Nat) : Option (xk_C × Unit) := (xk_pr (σ) 59 (some x0) (x1)).bind fun σ1 => (fX6_init (x0) (σ1) (x1) (x2)).bind fun r2 => some (r2.1, ())
set_option maxHeartbeats 4000000 in
theorem eX7_init {x0 : Nat} {σ : xk_C} {x1 : Option Nat} {x2 : Option Nat} : ∀ p, fX7_init x0 σ x1 x2 = some p → xk_n p.1 = xk_n σ ∧ xk_s p.1 = xk_s σ := fun r => show xk_er r σ (fX7_init x0 σ x1 x2) from by
  unfold fX7_init
  exact (xk_er_op xk_e_pr (fun _ => (xk_er_ca (eX6_init) (fun _ => xk_er_ret))))
theorem mX7_init {x0 : Nat} {σ : xk_C} {x1 : Option Nat} {x2 : Option Nat} : ∀ p, fX7_init x0 σ x1 x2 = some p → xk_n σ ≤ xk_n p.1 ∧ xk_s σ ≤ xk_s p.1 := fun p h => xk_le_of (eX7_init p h)
set_option maxHeartbeats 4000000 in
theorem tX7_init (w : gw_W) (A : Nat → Prop) (l : Launch) (x0 : Nat) (σ : xk_C) (x1 : Option Nat) (x2 : Option Nat) {r : xk_C × Unit} (h : fX7_init x0 σ x1 x2 = some r) : gx_T (gw_I w A) A l yX7_init iX7_init 3 [va_rf (some x0), va_rf (x1), va_rf (x2)] (xk_P A w σ) 0 0 (xk_P A w r.1) (.returned none) := by
  refine gx_T.of (gw_I.inv w A) (by decide) ⟨rfl, rfl⟩ (gx_kR (gx_kR (gx_kR gx_k0))) (Nat.le_of_ble_eq_true rfl) (fun X hl hAx hX => ?_)
  subst hl
  subst hAx
  show gx_G X (xk_P (gx_A X) w (σ)) 0 0 [some (va_rf (some x0)), some (va_rf (x1)), some (va_rf (x2))] 0 []
  unfold fX7_init at h
  refine gx_aload_n hX dX7_init_0 rfl ?_
  refine gx_aload_n hX dX7_init_1 rfl ?_
  refine xk_putrF hX 59 xk_ty59 (Or.inl ⟨_, rfl⟩) q476 rfl ⟨rfl, rfl, rfl⟩ dX7_init_2 h (fun σ1 hτ h => ?_)
  refine gx_aload_n hX dX7_init_5 rfl ?_
  refine gx_aload_n hX dX7_init_6 rfl ?_
  refine gx_aload_n hX dX7_init_7 rfl ?_
  obtain ⟨r2, hr2, h⟩ := gx_bs h
  refine gx_cI (As := [va_rf (x1), va_rf (x2)]) (rest := []) (b := x0) (C2 := RX6) (nm2 := "<init>") hX (tX6_init w (gx_A X) (gx_l X) (x0) (σ1) (x1) (x2) hr2) (lw_meth q461) ⟨q101, q475, q460⟩ ⟨rfl, dsX6_init⟩ (by decide) (Nat.le_of_ble_eq_true rfl) rfl (gx_w8 gx_k0 (Nat.le_of_ble_eq_true rfl)) dX7_init_8 ⟨Nat.le_refl _, Nat.le_refl _⟩ rfl ?_
  cases h
  exact gx_vret hX rfl dX7_init_11 rfl ⟨rfl, rfl⟩ (fun _ h => h)
abbrev iX11_init : gx_M := (RX11, "<init>", cX11_init, 3, none)
theorem dsX11_init : gx_ds yX11_init 2 := by decide +kernel
def fX11_init (x0 : Nat) (σ : xk_C) (x1 : Option Nat) (x2 : Option Nat) : Option (xk_C × Unit) := (xk_pr (σ) 63 (some x0) (x1)).bind fun σ1 => (fX7_init (x0) (σ1) (x1) (x2)).bind fun r2 => some (r2.1, ())
set_option maxHeartbeats 4000000 in
theorem eX11_init {x0 : Nat} {σ : xk_C} {x1 : Option Nat} {x2 : Option Nat} : ∀ p, fX11_init x0 σ x1 x2 = some p → xk_n p.1 = xk_n σ ∧ xk_s p.1 = xk_s σ := fun r => show xk_er r σ (fX11_init x0 σ x1 x2) from by
  unfold fX11_init
  exact (xk_er_op xk_e_pr (fun _ => (xk_er_ca (eX7_init) (fun _ => xk_er_ret))))
theorem mX11_init {x0 : Nat} {σ : xk_C} {x1 : Option Nat} {x2 : Option Nat} : ∀ p, fX11_init x0 σ x1 x2 = some p → xk_n σ ≤ xk_n p.1 ∧ xk_s σ ≤ xk_s p.1 := fun p h => xk_le_of (eX11_init p h)
set_option maxHeartbeats 4000000 in
theorem tX11_init (w : gw_W) (A : Nat → Prop) (l : Launch) (x0 : Nat) (σ : xk_C) (x1 : Option Nat) (x2 : Option Nat) {r : xk_C × Unit} (h : fX11_init x0 σ x1 x2 = some r) : gx_T (gw_I w A) A l yX11_init iX11_init 4 [va_rf (some x0), va_rf (x1), va_rf (x2)] (xk_P A w σ) 0 0 (xk_P A w r.1) (.returned none) := by
  refine gx_T.of (gw_I.inv w A) (by decide) ⟨rfl, rfl⟩ (gx_kR (gx_kR (gx_kR gx_k0))) (Nat.le_of_ble_eq_true rfl) (fun X hl hAx hX => ?_)
  subst hl
  subst hAx
  show gx_G X (xk_P (gx_A X) w (σ)) 0 0 [some (va_rf (some x0)), some (va_rf (x1)), some (va_rf (x2))] 0 []
  unfold fX11_init at h
  refine gx_aload_n hX dX11_init_0 rfl ?_
  refine gx_aload_n hX dX11_init_1 rfl ?_
  refine xk_putrF hX 63 xk_ty63 (Or.inl ⟨_, rfl⟩) q527 rfl ⟨rfl, rfl, rfl⟩ dX11_init_2 h (fun σ1 hτ h => ?_)
  refine gx_aload_n hX dX11_init_5 rfl ?_
  refine gx_aload_n hX dX11_init_6 rfl ?_
  refine gx_aload_n hX dX11_init_7 rfl ?_
  obtain ⟨r2, hr2, h⟩ := gx_bs h
  refine gx_cI (As := [va_rf (x1), va_rf (x2)]) (rest := []) (b := x0) (C2 := RX7) (nm2 := "<init>") hX (tX7_init w (gx_A X) (gx_l X) (x0) (σ1) (x1) (x2) hr2) (lw_meth q474) ⟨q102, q526, q473⟩ ⟨rfl, dsX7_init⟩ (by decide) (Nat.le_of_ble_eq_true rfl) rfl (gx_w8 gx_k0 (Nat.le_of_ble_eq_true rfl)) dX11_init_8 ⟨Nat.le_refl _, Nat.le_refl _⟩ rfl ?_
  cases h
  exact gx_vret hX rfl dX11_init_11 rfl ⟨rfl, rfl⟩ (fun _ h => h)
abbrev iX9_init : gx_M := (RX9, "<init>", cX9_init, 3, none)
theorem dsX9_init : gx_ds yX9_init 2 := by decide +kernel
def fX9_init (x0 : Nat) (σ : xk_C) (x1 : Option Nat) (x2 : Option Nat) : Option (xk_C × Unit) := (xk_pr (σ) 61 (some x0) (x1)).bind fun σ1 => (fX7_init (x0) (σ1) (x1) (x2)).bind fun r2 => some (r2.1, ())
set_option maxHeartbeats 4000000 in
theorem eX9_init {x0 : Nat} {σ : xk_C} {x1 : Option Nat} {x2 : Option Nat} : ∀ p, fX9_init x0 σ x1 x2 = some p → xk_n p.1 = xk_n σ ∧ xk_s p.1 = xk_s σ := fun r => show xk_er r σ (fX9_init x0 σ x1 x2) from by
  unfold fX9_init
  exact (xk_er_op xk_e_pr (fun _ => (xk_er_ca (eX7_init) (fun _ => xk_er_ret))))
theorem mX9_init {x0 : Nat} {σ : xk_C} {x1 : Option Nat} {x2 : Option Nat} : ∀ p, fX9_init x0 σ x1 x2 = some p → xk_n σ ≤ xk_n p.1 ∧ xk_s σ ≤ xk_s p.1 := fun p h => xk_le_of (eX9_init p h)
set_option maxHeartbeats 4000000 in
theorem tX9_init (w : gw_W) (A : Nat → Prop) (l : Launch) (x0 : Nat) (σ : xk_C) (x1 : Option Nat) (x2 : Option Nat) {r : xk_C × Unit} (h : fX9_init x0 σ x1 x2 = some r) : gx_T (gw_I w A) A l yX9_init iX9_init 4 [va_rf (some x0), va_rf (x1), va_rf (x2)] (xk_P A w σ) 0 0 (xk_P A w r.1) (.returned none) := by
  refine gx_T.of (gw_I.inv w A) (by decide) ⟨rfl, rfl⟩ (gx_kR (gx_kR (gx_kR gx_k0))) (Nat.le_of_ble_eq_true rfl) (fun X hl hAx hX => ?_)
  subst hl
  subst hAx
  show gx_G X (xk_P (gx_A X) w (σ)) 0 0 [some (va_rf (some x0)), some (va_rf (x1)), some (va_rf (x2))] 0 []
  unfold fX9_init at h
  refine gx_aload_n hX dX9_init_0 rfl ?_
  refine gx_aload_n hX dX9_init_1 rfl ?_
  refine xk_putrF hX 61 xk_ty61 (Or.inl ⟨_, rfl⟩) q500 rfl ⟨rfl, rfl, rfl⟩ dX9_init_2 h (fun σ1 hτ h => ?_)
  refine gx_aload_n hX dX9_init_5 rfl ?_
  refine gx_aload_n hX dX9_init_6 rfl ?_
  refine gx_aload_n hX dX9_init_7 rfl ?_
  obtain ⟨r2, hr2, h⟩ := gx_bs h
  refine gx_cI (As := [va_rf (x1), va_rf (x2)]) (rest := []) (b := x0) (C2 := RX7) (nm2 := "<init>") hX (tX7_init w (gx_A X) (gx_l X) (x0) (σ1) (x1) (x2) hr2) (lw_meth q474) ⟨q102, q499, q473⟩ ⟨rfl, dsX7_init⟩ (by decide) (Nat.le_of_ble_eq_true rfl) rfl (gx_w8 gx_k0 (Nat.le_of_ble_eq_true rfl)) dX9_init_8 ⟨Nat.le_refl _, Nat.le_refl _⟩ rfl ?_
  cases h
  exact gx_vret hX rfl dX9_init_11 rfl ⟨rfl, rfl⟩ (fun _ h => h)
abbrev iX10_init : gx_M := (RX10, "<init>", cX10_init, 3, none)
theorem dsX10_init : gx_ds yX10_init 2 := by decide +kernel
def fX10_init (x0 : Nat) (σ : xk_C) (x1 : Option Nat) (x2 : Option Nat) : Option (xk_C × Unit) := (xk_pr (σ) 62 (some x0) (x1)).bind fun σ1 => (fX9_init (x0) (σ1) (x1) (x2)).bind fun r2 => some (r2.1, ())
set_option maxHeartbeats 4000000 in
theorem eX10_init {x0 : Nat} {σ : xk_C} {x1 : Option Nat} {x2 : Option Nat} : ∀ p, fX10_init x0 σ x1 x2 = some p → xk_n p.1 = xk_n σ ∧ xk_s p.1 = xk_s σ := fun r => show xk_er r σ (fX10_init x0 σ x1 x2) from by
  unfold fX10_init
  exact (xk_er_op xk_e_pr (fun _ => (xk_er_ca (eX9_init) (fun _ => xk_er_ret))))
theorem mX10_init {x0 : Nat} {σ : xk_C} {x1 : Option Nat} {x2 : Option Nat} : ∀ p, fX10_init x0 σ x1 x2 = some p → xk_n σ ≤ xk_n p.1 ∧ xk_s σ ≤ xk_s p.1 := fun p h => xk_le_of (eX10_init p h)
set_option maxHeartbeats 4000000 in
theorem tX10_init (w : gw_W) (A : Nat → Prop) (l : Launch) (x0 : Nat) (σ : xk_C) (x1 : Option Nat) (x2 : Option Nat) {r : xk_C × Unit} (h : fX10_init x0 σ x1 x2 = some r) : gx_T (gw_I w A) A l yX10_init iX10_init 5 [va_rf (some x0), va_rf (x1), va_rf (x2)] (xk_P A w σ) 0 0 (xk_P A w r.1) (.returned none) := by
  refine gx_T.of (gw_I.inv w A) (by decide) ⟨rfl, rfl⟩ (gx_kR (gx_kR (gx_kR gx_k0))) (Nat.le_of_ble_eq_true rfl) (fun X hl hAx hX => ?_)
  subst hl
  subst hAx
  show gx_G X (xk_P (gx_A X) w (σ)) 0 0 [some (va_rf (some x0)), some (va_rf (x1)), some (va_rf (x2))] 0 []
  unfold fX10_init at h
  refine gx_aload_n hX dX10_init_0 rfl ?_
  refine gx_aload_n hX dX10_init_1 rfl ?_
  refine xk_putrF hX 62 xk_ty62 (Or.inl ⟨_, rfl⟩) q513 rfl ⟨rfl, rfl, rfl⟩ dX10_init_2 h (fun σ1 hτ h => ?_)
  refine gx_aload_n hX dX10_init_5 rfl ?_
  refine gx_aload_n hX dX10_init_6 rfl ?_
  refine gx_aload_n hX dX10_init_7 rfl ?_
  obtain ⟨r2, hr2, h⟩ := gx_bs h
  refine gx_cI (As := [va_rf (x1), va_rf (x2)]) (rest := []) (b := x0) (C2 := RX9) (nm2 := "<init>") hX (tX9_init w (gx_A X) (gx_l X) (x0) (σ1) (x1) (x2) hr2) (lw_meth q498) ⟨q104, q512, q497⟩ ⟨rfl, dsX9_init⟩ (by decide) (Nat.le_of_ble_eq_true rfl) rfl (gx_w8 gx_k0 (Nat.le_of_ble_eq_true rfl)) dX10_init_8 ⟨Nat.le_refl _, Nat.le_refl _⟩ rfl ?_
  cases h
  exact gx_vret hX rfl dX10_init_11 rfl ⟨rfl, rfl⟩ (fun _ h => h)
abbrev iX5_init : gx_M := (RX5, "<init>", cX5_init, 5, none)
theorem dsX5_init : gx_ds yX5_init 4 := by decide +kernel
def fX5_init (x0 : Nat) (σ : xk_C) (x1 : Option Nat) (x2 : Int32) (x3 : Int32) (x4 : Int32) : Option (xk_C × Unit) := (xk_pr (σ) 56 (some x0) (x1)).bind fun σ1 => (xk_na (σ1) 5 (nI 7)).bind fun σ2 => (xk_nw (σ2) 6).bind fun σ3 => (xk_gr (σ3) 56 (some x0)).bind fun v4 => (fX6_init ((xk_n (σ2))) (σ3) (v4) (some x0)).bind fun r5 => (xk_sa (r5.1) 5 (some (xk_n (σ1))) (0) (some (xk_n (σ2)))).bind fun σ6 => (xk_nw (σ6) 7).bind fun σ7 => (xk_gr (σ7) 56 (some x0)).bind fun v8 => (fX7_init ((xk_n (σ6))) (σ7) (v8) (some x0)).bind fun r9 => (xk_sa (r9.1) 5 (some (xk_n (σ1))) (1) (some (xk_n (σ6)))).bind fun σ10 => (xk_nw (σ10) 8).bind fun σ11 => (xk_gr (σ11) 56 (some x0)).bind fun v12 => (fX8_init ((xk_n (σ10))) (σ11) (v12) (some x0)).bind fun r13 => (xk_sa (r13.1) 5 (some (xk_n (σ1))) (2) (some (xk_n (σ10)))).bind fun σ14 => (xk_nw (σ14) 9).bind fun σ15 => (xk_gr (σ15) 56 (some x0)).bind fun v16 => (fX9_init ((xk_n (σ14))) (σ15) (v16) (some x0)).bind fun r17 => (xk_sa (r17.1) 5 (some (xk_n (σ1))) (3) (some (xk_n (σ14)))).bind fun σ18 => (xk_nw (σ18) 10).bind fun σ19 => (xk_gr (σ19) 56 (some x0)).bind fun v20 => (fX10_init ((xk_n (σ18))) (σ19) (v20) (some x0)).bind fun r21 => (xk_sa (r21.1) 5 (some (xk_n (σ1))) (4) (some (xk_n (σ18)))).bind fun σ22 => (xk_nw (σ22) 11).bind fun σ23 => (xk_gr (σ23) 56 (some x0)).bind fun v24 => (fX11_init ((xk_n (σ22))) (σ23) (v24) (some x0)).bind fun r25 => (xk_sa (r25.1) 5 (some (xk_n (σ1))) (5) (some (xk_n (σ22)))).bind fun σ26 => (xk_nw (σ26) 12).bind fun σ27 => (xk_gr (σ27) 56 (some x0)).bind fun v28 => (fX12_init ((xk_n (σ26))) (σ27) (v28) (some x0)).bind fun r29 => (xk_sa (r29.1) 5 (some (xk_n (σ1))) (nI 6) (some (xk_n (σ26)))).bind fun σ30 => (xk_pr (σ30) 45 (some x0) (some (xk_n (σ1)))).bind fun σ31 => (xk_pi (σ31) 44 (some x0) (x2)).bind fun σ32 => (xk_pi (σ32) 46 (some x0) (x3)).bind fun σ33 => (xk_pi (σ33) 47 (some x0) (x4)).bind fun σ34 => some (σ34, ())
set_option maxHeartbeats 4000000 in
theorem mX5_init {x0 : Nat} {σ : xk_C} {x1 : Option Nat} {x2 : Int32} {x3 : Int32} {x4 : Int32} : ∀ p, fX5_init x0 σ x1 x2 x3 x4 = some p → xk_n σ ≤ xk_n p.1 ∧ xk_s σ ≤ xk_s p.1 := fun r => show xk_lr r σ (fX5_init x0 σ x1 x2 x3 x4) from by
  unfold fX5_init
  exact (xk_lr_op xk_m_pr (fun _ => (xk_lr_op xk_m_na (fun _ => (xk_lr_op xk_m_nw (fun _ => (xk_lr_rd (fun _ => (xk_lr_ca (mX6_init) (fun _ => (xk_lr_op xk_m_sa (fun _ => (xk_lr_op xk_m_nw (fun _ => (xk_lr_rd (fun _ => (xk_lr_ca (mX7_init) (fun _ => (xk_lr_op xk_m_sa (fun _ => (xk_lr_op xk_m_nw (fun _ => (xk_lr_rd (fun _ => (xk_lr_ca (mX8_init) (fun _ => (xk_lr_op xk_m_sa (fun _ => (xk_lr_op xk_m_nw (fun _ => (xk_lr_rd (fun _ => (xk_lr_ca (mX9_init) (fun _ => (xk_lr_op xk_m_sa (fun _ => (xk_lr_op xk_m_nw (fun _ => (xk_lr_rd (fun _ => (xk_lr_ca (mX10_init) (fun _ => (xk_lr_op xk_m_sa (fun _ => (xk_lr_op xk_m_nw (fun _ => (xk_lr_rd (fun _ => (xk_lr_ca (mX11_init) (fun _ => (xk_lr_op xk_m_sa (fun _ => (xk_lr_op xk_m_nw (fun _ => (xk_lr_rd (fun _ => (xk_lr_ca (mX12_init) (fun _ => (xk_lr_op xk_m_sa (fun _ => (xk_lr_op xk_m_pr (fun _ => (xk_lr_op xk_m_pi (fun _ => (xk_lr_op xk_m_pi (fun _ => (xk_lr_op xk_m_pi (fun _ => xk_lr_ret))))))))))))))))))))))))))))))))))))))))))))))))))))))))))))))))))))
set_option maxHeartbeats 4000000 in
theorem tX5_init (w : gw_W) (A : Nat → Prop) (l : Launch) (x0 : Nat) (σ : xk_C) (x1 : Option Nat) (x2 : Int32) (x3 : Int32) (x4 : Int32) {r : xk_C × Unit} (h : fX5_init x0 σ x1 x2 x3 x4 = some r) : gx_T (gw_I w A) A l yX5_init iX5_init 6 [va_rf (some x0), va_rf (x1), .int (x2), .int (x3), .int (x4)] (xk_P A w σ) (xk_n r.1 - xk_n σ) (xk_s r.1 - xk_s σ) (xk_P A w r.1) (.returned none) := by
  refine gx_T.of (gw_I.inv w A) (by decide) ⟨rfl, rfl⟩ (gx_kR (gx_kR (gx_kI (gx_kI (gx_kI gx_k0))))) (Nat.le_of_ble_eq_true rfl) (fun X hl hAx hX => ?_)
  subst hl
  subst hAx
  show gx_G X (xk_P (gx_A X) w (σ)) 0 0 [some (va_rf (some x0)), some (va_rf (x1)), some (.int (x2)), some (.int (x3)), some (.int (x4))] 0 []
  have hu := mX5_init _ h
  unfold fX5_init at h
  refine xk_G0 (a := xk_n σ) (b := xk_s σ) ?_
  have hm : xk_n σ ≤ xk_n σ ∧ xk_s σ ≤ xk_s σ := ⟨Nat.le_refl _, Nat.le_refl _⟩
  refine gx_aload_n hX dX5_init_0 rfl ?_
  refine gx_aload_n hX dX5_init_1 rfl ?_
  refine xk_putrF hX 56 xk_ty56 (Or.inl ⟨_, rfl⟩) q582 rfl ⟨rfl, rfl, rfl⟩ dX5_init_2 h (fun σ1 hτ h => xk_Gt hτ ?_)
  have hm := xk_hme hm hτ
  have hu := xk_hue hu hτ
  refine gx_aload_n hX dX5_init_5 rfl ?_
  refine gx_obj (b := x0) hX ⟨q455, q127, q128⟩ (by decide) (gx_w8 gx_k0 (Nat.le_of_ble_eq_true rfl)) dX5_init_6 rfl ?_
  refine gx_aload_n hX dX5_init_9 rfl ?_
  refine gx_bipush (v := nI 7) hX dX5_init_10 (by decide) ?_
  refine xk_anew hX 5 ⟨by decide, by decide⟩ q456 dX5_init_12 h (fun σ2 hτ h => ?_)
  have hu := xk_use (C := σ2) h (xk_lr_op xk_m_nw (fun _ => (xk_lr_rd (fun _ => (xk_lr_ca (mX6_init) (fun _ => (xk_lr_op xk_m_sa (fun _ => (xk_lr_op xk_m_nw (fun _ => (xk_lr_rd (fun _ => (xk_lr_ca (mX7_init) (fun _ => (xk_lr_op xk_m_sa (fun _ => (xk_lr_op xk_m_nw (fun _ => (xk_lr_rd (fun _ => (xk_lr_ca (mX8_init) (fun _ => (xk_lr_op xk_m_sa (fun _ => (xk_lr_op xk_m_nw (fun _ => (xk_lr_rd (fun _ => (xk_lr_ca (mX9_init) (fun _ => (xk_lr_op xk_m_sa (fun _ => (xk_lr_op xk_m_nw (fun _ => (xk_lr_rd (fun _ => (xk_lr_ca (mX10_init) (fun _ => (xk_lr_op xk_m_sa (fun _ => (xk_lr_op xk_m_nw (fun _ => (xk_lr_rd (fun _ => (xk_lr_ca (mX11_init) (fun _ => (xk_lr_op xk_m_sa (fun _ => (xk_lr_op xk_m_nw (fun _ => (xk_lr_rd (fun _ => (xk_lr_ca (mX12_init) (fun _ => (xk_lr_op xk_m_sa (fun _ => (xk_lr_op xk_m_pr (fun _ => (xk_lr_op xk_m_pi (fun _ => (xk_lr_op xk_m_pi (fun _ => (xk_lr_op xk_m_pi (fun _ => xk_lr_ret))))))))))))))))))))))))))))))))))))))))))))))))))))))))))))))))
  refine ⟨xk_hfm hm hτ hu, xk_Gm hm hτ ?_⟩
  have hm := xk_hmm hm hτ
  refine gx_dup hX dX5_init_15 (gx_cat _) ?_
  refine gx_iconst (v := 0) hX dX5_init_16 (by decide) ?_
  refine xk_new hX 6 ⟨by decide, by decide⟩ ⟨q456, q458, q101⟩ dX5_init_17 h (fun σ3 hτ h => ?_)
  have hu := xk_use (C := σ3) h (xk_lr_rd (fun _ => (xk_lr_ca (mX6_init) (fun _ => (xk_lr_op xk_m_sa (fun _ => (xk_lr_op xk_m_nw (fun _ => (xk_lr_rd (fun _ => (xk_lr_ca (mX7_init) (fun _ => (xk_lr_op xk_m_sa (fun _ => (xk_lr_op xk_m_nw (fun _ => (xk_lr_rd (fun _ => (xk_lr_ca (mX8_init) (fun _ => (xk_lr_op xk_m_sa (fun _ => (xk_lr_op xk_m_nw (fun _ => (xk_lr_rd (fun _ => (xk_lr_ca (mX9_init) (fun _ => (xk_lr_op xk_m_sa (fun _ => (xk_lr_op xk_m_nw (fun _ => (xk_lr_rd (fun _ => (xk_lr_ca (mX10_init) (fun _ => (xk_lr_op xk_m_sa (fun _ => (xk_lr_op xk_m_nw (fun _ => (xk_lr_rd (fun _ => (xk_lr_ca (mX11_init) (fun _ => (xk_lr_op xk_m_sa (fun _ => (xk_lr_op xk_m_nw (fun _ => (xk_lr_rd (fun _ => (xk_lr_ca (mX12_init) (fun _ => (xk_lr_op xk_m_sa (fun _ => (xk_lr_op xk_m_pr (fun _ => (xk_lr_op xk_m_pi (fun _ => (xk_lr_op xk_m_pi (fun _ => (xk_lr_op xk_m_pi (fun _ => xk_lr_ret))))))))))))))))))))))))))))))))))))))))))))))))))))))))))))))
  refine ⟨xk_hfm hm hτ hu, xk_Gm hm hτ ?_⟩
  have hm := xk_hmm hm hτ
  refine gx_dup hX dX5_init_20 (gx_cat _) ?_
  refine gx_aload_n hX dX5_init_21 rfl ?_
  refine xk_getr hX 56 q582 (fun _ h => h) rfl dX5_init_22 h (fun v4 h => ?_)
  refine gx_aload_n hX dX5_init_25 rfl ?_
  obtain ⟨r5, hr5, h⟩ := gx_bs h
  have he := eX6_init _ hr5
  refine gx_cI (As := [va_rf (v4), va_rf (some x0)]) (rest := [va_rf (some (xk_n (σ2))), .int (0), va_rf (some (xk_n (σ1))), va_rf (some (xk_n (σ1))), va_rf (some x0)]) (b := (xk_n (σ2))) (C2 := RX6) (nm2 := "<init>") hX (tX6_init w (gx_A X) (gx_l X) ((xk_n (σ2))) (σ3) (v4) (some x0) hr5) (lw_meth q461) ⟨q101, q459, q460⟩ ⟨rfl, dsX6_init⟩ (by decide) (Nat.le_of_ble_eq_true rfl) rfl (gx_w8 (gx_kR (gx_kI (gx_kR (gx_kR (gx_kR gx_k0))))) (Nat.le_of_ble_eq_true rfl)) dX5_init_26 (xk_hfe hu) rfl (xk_Ge he ?_)
  have hm := xk_hme hm he
  have hu := xk_hue hu he
  refine xk_aastore hX 5 ⟨by decide, by decide⟩ dX5_init_29 h (fun σ6 hτ h => xk_Gt hτ ?_)
  have hm := xk_hme hm hτ
  have hu := xk_hue hu hτ
  refine gx_dup hX dX5_init_30 (gx_cat _) ?_
  refine gx_iconst (v := 1) hX dX5_init_31 (by decide) ?_
  refine xk_new hX 7 ⟨by decide, by decide⟩ ⟨q470, q471, q102⟩ dX5_init_32 h (fun σ7 hτ h => ?_)
  have hu := xk_use (C := σ7) h (xk_lr_rd (fun _ => (xk_lr_ca (mX7_init) (fun _ => (xk_lr_op xk_m_sa (fun _ => (xk_lr_op xk_m_nw (fun _ => (xk_lr_rd (fun _ => (xk_lr_ca (mX8_init) (fun _ => (xk_lr_op xk_m_sa (fun _ => (xk_lr_op xk_m_nw (fun _ => (xk_lr_rd (fun _ => (xk_lr_ca (mX9_init) (fun _ => (xk_lr_op xk_m_sa (fun _ => (xk_lr_op xk_m_nw (fun _ => (xk_lr_rd (fun _ => (xk_lr_ca (mX10_init) (fun _ => (xk_lr_op xk_m_sa (fun _ => (xk_lr_op xk_m_nw (fun _ => (xk_lr_rd (fun _ => (xk_lr_ca (mX11_init) (fun _ => (xk_lr_op xk_m_sa (fun _ => (xk_lr_op xk_m_nw (fun _ => (xk_lr_rd (fun _ => (xk_lr_ca (mX12_init) (fun _ => (xk_lr_op xk_m_sa (fun _ => (xk_lr_op xk_m_pr (fun _ => (xk_lr_op xk_m_pi (fun _ => (xk_lr_op xk_m_pi (fun _ => (xk_lr_op xk_m_pi (fun _ => xk_lr_ret))))))))))))))))))))))))))))))))))))))))))))))))))))))
  refine ⟨xk_hfm hm hτ hu, xk_Gm hm hτ ?_⟩
  have hm := xk_hmm hm hτ
  refine gx_dup hX dX5_init_35 (gx_cat _) ?_
  refine gx_aload_n hX dX5_init_36 rfl ?_
  refine xk_getr hX 56 q582 (fun _ h => h) rfl dX5_init_37 h (fun v8 h => ?_)
  refine gx_aload_n hX dX5_init_40 rfl ?_
  obtain ⟨r9, hr9, h⟩ := gx_bs h
  have he := eX7_init _ hr9
  refine gx_cI (As := [va_rf (v8), va_rf (some x0)]) (rest := [va_rf (some (xk_n (σ6))), .int (1), va_rf (some (xk_n (σ1))), va_rf (some (xk_n (σ1))), va_rf (some x0)]) (b := (xk_n (σ6))) (C2 := RX7) (nm2 := "<init>") hX (tX7_init w (gx_A X) (gx_l X) ((xk_n (σ6))) (σ7) (v8) (some x0) hr9) (lw_meth q474) ⟨q102, q472, q473⟩ ⟨rfl, dsX7_init⟩ (by decide) (Nat.le_of_ble_eq_true rfl) rfl (gx_w8 (gx_kR (gx_kI (gx_kR (gx_kR (gx_kR gx_k0))))) (Nat.le_of_ble_eq_true rfl)) dX5_init_41 (xk_hfe hu) rfl (xk_Ge he ?_)
  have hm := xk_hme hm he
  have hu := xk_hue hu he
  refine xk_aastore hX 5 ⟨by decide, by decide⟩ dX5_init_44 h (fun σ10 hτ h => xk_Gt hτ ?_)
  have hm := xk_hme hm hτ
  have hu := xk_hue hu hτ
  refine gx_dup hX dX5_init_45 (gx_cat _) ?_
  refine gx_iconst (v := 2) hX dX5_init_46 (by decide) ?_
  refine xk_new hX 8 ⟨by decide, by decide⟩ ⟨q482, q483, q103⟩ dX5_init_47 h (fun σ11 hτ h => ?_)
  have hu := xk_use (C := σ11) h (xk_lr_rd (fun _ => (xk_lr_ca (mX8_init) (fun _ => (xk_lr_op xk_m_sa (fun _ => (xk_lr_op xk_m_nw (fun _ => (xk_lr_rd (fun _ => (xk_lr_ca (mX9_init) (fun _ => (xk_lr_op xk_m_sa (fun _ => (xk_lr_op xk_m_nw (fun _ => (xk_lr_rd (fun _ => (xk_lr_ca (mX10_init) (fun _ => (xk_lr_op xk_m_sa (fun _ => (xk_lr_op xk_m_nw (fun _ => (xk_lr_rd (fun _ => (xk_lr_ca (mX11_init) (fun _ => (xk_lr_op xk_m_sa (fun _ => (xk_lr_op xk_m_nw (fun _ => (xk_lr_rd (fun _ => (xk_lr_ca (mX12_init) (fun _ => (xk_lr_op xk_m_sa (fun _ => (xk_lr_op xk_m_pr (fun _ => (xk_lr_op xk_m_pi (fun _ => (xk_lr_op xk_m_pi (fun _ => (xk_lr_op xk_m_pi (fun _ => xk_lr_ret))))))))))))))))))))))))))))))))))))))))))))))
  refine ⟨xk_hfm hm hτ hu, xk_Gm hm hτ ?_⟩
  have hm := xk_hmm hm hτ
  refine gx_dup hX dX5_init_50 (gx_cat _) ?_
  refine gx_aload_n hX dX5_init_51 rfl ?_
  refine xk_getr hX 56 q582 (fun _ h => h) rfl dX5_init_52 h (fun v12 h => ?_)
  refine gx_aload_n hX dX5_init_55 rfl ?_
  obtain ⟨r13, hr13, h⟩ := gx_bs h
  have he := eX8_init _ hr13
  refine gx_cI (As := [va_rf (v12), va_rf (some x0)]) (rest := [va_rf (some (xk_n (σ10))), .int (2), va_rf (some (xk_n (σ1))), va_rf (some (xk_n (σ1))), va_rf (some x0)]) (b := (xk_n (σ10))) (C2 := RX8) (nm2 := "<init>") hX (tX8_init w (gx_A X) (gx_l X) ((xk_n (σ10))) (σ11) (v12) (some x0) hr13) (lw_meth q486) ⟨q103, q484, q485⟩ ⟨rfl, dsX8_init⟩ (by decide) (Nat.le_of_ble_eq_true rfl) rfl (gx_w8 (gx_kR (gx_kI (gx_kR (gx_kR (gx_kR gx_k0))))) (Nat.le_of_ble_eq_true rfl)) dX5_init_56 (xk_hfe hu) rfl (xk_Ge he ?_)
  have hm := xk_hme hm he
  have hu := xk_hue hu he
  refine xk_aastore hX 5 ⟨by decide, by decide⟩ dX5_init_59 h (fun σ14 hτ h => xk_Gt hτ ?_)
  have hm := xk_hme hm hτ
  have hu := xk_hue hu hτ
  refine gx_dup hX dX5_init_60 (gx_cat _) ?_
  refine gx_iconst (v := 3) hX dX5_init_61 (by decide) ?_
  refine xk_new hX 9 ⟨by decide, by decide⟩ ⟨q494, q495, q104⟩ dX5_init_62 h (fun σ15 hτ h => ?_)
  have hu := xk_use (C := σ15) h (xk_lr_rd (fun _ => (xk_lr_ca (mX9_init) (fun _ => (xk_lr_op xk_m_sa (fun _ => (xk_lr_op xk_m_nw (fun _ => (xk_lr_rd (fun _ => (xk_lr_ca (mX10_init) (fun _ => (xk_lr_op xk_m_sa (fun _ => (xk_lr_op xk_m_nw (fun _ => (xk_lr_rd (fun _ => (xk_lr_ca (mX11_init) (fun _ => (xk_lr_op xk_m_sa (fun _ => (xk_lr_op xk_m_nw (fun _ => (xk_lr_rd (fun _ => (xk_lr_ca (mX12_init) (fun _ => (xk_lr_op xk_m_sa (fun _ => (xk_lr_op xk_m_pr (fun _ => (xk_lr_op xk_m_pi (fun _ => (xk_lr_op xk_m_pi (fun _ => (xk_lr_op xk_m_pi (fun _ => xk_lr_ret))))))))))))))))))))))))))))))))))))))
  refine ⟨xk_hfm hm hτ hu, xk_Gm hm hτ ?_⟩
  have hm := xk_hmm hm hτ
  refine gx_dup hX dX5_init_65 (gx_cat _) ?_
  refine gx_aload_n hX dX5_init_66 rfl ?_
  refine xk_getr hX 56 q582 (fun _ h => h) rfl dX5_init_67 h (fun v16 h => ?_)
  refine gx_aload_n hX dX5_init_70 rfl ?_
  obtain ⟨r17, hr17, h⟩ := gx_bs h
  have he := eX9_init _ hr17
  refine gx_cI (As := [va_rf (v16), va_rf (some x0)]) (rest := [va_rf (some (xk_n (σ14))), .int (3), va_rf (some (xk_n (σ1))), va_rf (some (xk_n (σ1))), va_rf (some x0)]) (b := (xk_n (σ14))) (C2 := RX9) (nm2 := "<init>") hX (tX9_init w (gx_A X) (gx_l X) ((xk_n (σ14))) (σ15) (v16) (some x0) hr17) (lw_meth q498) ⟨q104, q496, q497⟩ ⟨rfl, dsX9_init⟩ (by decide) (Nat.le_of_ble_eq_true rfl) rfl (gx_w8 (gx_kR (gx_kI (gx_kR (gx_kR (gx_kR gx_k0))))) (Nat.le_of_ble_eq_true rfl)) dX5_init_71 (xk_hfe hu) rfl (xk_Ge he ?_)
  have hm := xk_hme hm he
  have hu := xk_hue hu he
  refine xk_aastore hX 5 ⟨by decide, by decide⟩ dX5_init_74 h (fun σ18 hτ h => xk_Gt hτ ?_)
  have hm := xk_hme hm hτ
  have hu := xk_hue hu hτ
  refine gx_dup hX dX5_init_75 (gx_cat _) ?_
  refine gx_iconst (v := 4) hX dX5_init_76 (by decide) ?_
  refine xk_new hX 10 ⟨by decide, by decide⟩ ⟨q507, q508, q105⟩ dX5_init_77 h (fun σ19 hτ h => ?_)
  have hu := xk_use (C := σ19) h (xk_lr_rd (fun _ => (xk_lr_ca (mX10_init) (fun _ => (xk_lr_op xk_m_sa (fun _ => (xk_lr_op xk_m_nw (fun _ => (xk_lr_rd (fun _ => (xk_lr_ca (mX11_init) (fun _ => (xk_lr_op xk_m_sa (fun _ => (xk_lr_op xk_m_nw (fun _ => (xk_lr_rd (fun _ => (xk_lr_ca (mX12_init) (fun _ => (xk_lr_op xk_m_sa (fun _ => (xk_lr_op xk_m_pr (fun _ => (xk_lr_op xk_m_pi (fun _ => (xk_lr_op xk_m_pi (fun _ => (xk_lr_op xk_m_pi (fun _ => xk_lr_ret))))))))))))))))))))))))))))))
  refine ⟨xk_hfm hm hτ hu, xk_Gm hm hτ ?_⟩
  have hm := xk_hmm hm hτ
  refine gx_dup hX dX5_init_80 (gx_cat _) ?_
  refine gx_aload_n hX dX5_init_81 rfl ?_
  refine xk_getr hX 56 q582 (fun _ h => h) rfl dX5_init_82 h (fun v20 h => ?_)
  refine gx_aload_n hX dX5_init_85 rfl ?_
  obtain ⟨r21, hr21, h⟩ := gx_bs h
  have he := eX10_init _ hr21
  refine gx_cI (As := [va_rf (v20), va_rf (some x0)]) (rest := [va_rf (some (xk_n (σ18))), .int (4), va_rf (some (xk_n (σ1))), va_rf (some (xk_n (σ1))), va_rf (some x0)]) (b := (xk_n (σ18))) (C2 := RX10) (nm2 := "<init>") hX (tX10_init w (gx_A X) (gx_l X) ((xk_n (σ18))) (σ19) (v20) (some x0) hr21) (lw_meth q511) ⟨q105, q509, q510⟩ ⟨rfl, dsX10_init⟩ (by decide) (Nat.le_of_ble_eq_true rfl) rfl (gx_w8 (gx_kR (gx_kI (gx_kR (gx_kR (gx_kR gx_k0))))) (Nat.le_of_ble_eq_true rfl)) dX5_init_86 (xk_hfe hu) rfl (xk_Ge he ?_)
  have hm := xk_hme hm he
  have hu := xk_hue hu he
  refine xk_aastore hX 5 ⟨by decide, by decide⟩ dX5_init_89 h (fun σ22 hτ h => xk_Gt hτ ?_)
  have hm := xk_hme hm hτ
  have hu := xk_hue hu hτ
  refine gx_dup hX dX5_init_90 (gx_cat _) ?_
  refine gx_iconst (v := 5) hX dX5_init_91 (by decide) ?_
  refine xk_new hX 11 ⟨by decide, by decide⟩ ⟨q521, q522, q106⟩ dX5_init_92 h (fun σ23 hτ h => ?_)
  have hu := xk_use (C := σ23) h (xk_lr_rd (fun _ => (xk_lr_ca (mX11_init) (fun _ => (xk_lr_op xk_m_sa (fun _ => (xk_lr_op xk_m_nw (fun _ => (xk_lr_rd (fun _ => (xk_lr_ca (mX12_init) (fun _ => (xk_lr_op xk_m_sa (fun _ => (xk_lr_op xk_m_pr (fun _ => (xk_lr_op xk_m_pi (fun _ => (xk_lr_op xk_m_pi (fun _ => (xk_lr_op xk_m_pi (fun _ => xk_lr_ret))))))))))))))))))))))
  refine ⟨xk_hfm hm hτ hu, xk_Gm hm hτ ?_⟩
  have hm := xk_hmm hm hτ
  refine gx_dup hX dX5_init_95 (gx_cat _) ?_
  refine gx_aload_n hX dX5_init_96 rfl ?_
  refine xk_getr hX 56 q582 (fun _ h => h) rfl dX5_init_97 h (fun v24 h => ?_)
  refine gx_aload_n hX dX5_init_100 rfl ?_
  obtain ⟨r25, hr25, h⟩ := gx_bs h
  have he := eX11_init _ hr25
  refine gx_cI (As := [va_rf (v24), va_rf (some x0)]) (rest := [va_rf (some (xk_n (σ22))), .int (5), va_rf (some (xk_n (σ1))), va_rf (some (xk_n (σ1))), va_rf (some x0)]) (b := (xk_n (σ22))) (C2 := RX11) (nm2 := "<init>") hX (tX11_init w (gx_A X) (gx_l X) ((xk_n (σ22))) (σ23) (v24) (some x0) hr25) (lw_meth q525) ⟨q106, q523, q524⟩ ⟨rfl, dsX11_init⟩ (by decide) (Nat.le_of_ble_eq_true rfl) rfl (gx_w8 (gx_kR (gx_kI (gx_kR (gx_kR (gx_kR gx_k0))))) (Nat.le_of_ble_eq_true rfl)) dX5_init_101 (xk_hfe hu) rfl (xk_Ge he ?_)
  have hm := xk_hme hm he
  have hu := xk_hue hu he
  refine xk_aastore hX 5 ⟨by decide, by decide⟩ dX5_init_104 h (fun σ26 hτ h => xk_Gt hτ ?_)
  have hm := xk_hme hm hτ
  have hu := xk_hue hu hτ
  refine gx_dup hX dX5_init_105 (gx_cat _) ?_
  refine gx_bipush (v := nI 6) hX dX5_init_106 (by decide) ?_
  refine xk_new hX 12 ⟨by decide, by decide⟩ ⟨q534, q535, q107⟩ dX5_init_108 h (fun σ27 hτ h => ?_)
  have hu := xk_use (C := σ27) h (xk_lr_rd (fun _ => (xk_lr_ca (mX12_init) (fun _ => (xk_lr_op xk_m_sa (fun _ => (xk_lr_op xk_m_pr (fun _ => (xk_lr_op xk_m_pi (fun _ => (xk_lr_op xk_m_pi (fun _ => (xk_lr_op xk_m_pi (fun _ => xk_lr_ret))))))))))))))
  refine ⟨xk_hfm hm hτ hu, xk_Gm hm hτ ?_⟩
  have hm := xk_hmm hm hτ
  refine gx_dup hX dX5_init_111 (gx_cat _) ?_
  refine gx_aload_n hX dX5_init_112 rfl ?_
  refine xk_getr hX 56 q582 (fun _ h => h) rfl dX5_init_113 h (fun v28 h => ?_)
  refine gx_aload_n hX dX5_init_116 rfl ?_
  obtain ⟨r29, hr29, h⟩ := gx_bs h
  have he := eX12_init _ hr29
  refine gx_cI (As := [va_rf (v28), va_rf (some x0)]) (rest := [va_rf (some (xk_n (σ26))), .int (nI 6), va_rf (some (xk_n (σ1))), va_rf (some (xk_n (σ1))), va_rf (some x0)]) (b := (xk_n (σ26))) (C2 := RX12) (nm2 := "<init>") hX (tX12_init w (gx_A X) (gx_l X) ((xk_n (σ26))) (σ27) (v28) (some x0) hr29) (lw_meth q538) ⟨q107, q536, q537⟩ ⟨rfl, dsX12_init⟩ (by decide) (Nat.le_of_ble_eq_true rfl) rfl (gx_w8 (gx_kR (gx_kI (gx_kR (gx_kR (gx_kR gx_k0))))) (Nat.le_of_ble_eq_true rfl)) dX5_init_117 (xk_hfe hu) rfl (xk_Ge he ?_)
  have hm := xk_hme hm he
  have hu := xk_hue hu he
  refine xk_aastore hX 5 ⟨by decide, by decide⟩ dX5_init_120 h (fun σ30 hτ h => xk_Gt hτ ?_)
  have hm := xk_hme hm hτ
  have hu := xk_hue hu hτ
  refine xk_putrF hX 45 xk_ty45 (Or.inr ⟨_, rfl⟩) q550 rfl ⟨rfl, rfl, rfl⟩ dX5_init_121 h (fun σ31 hτ h => xk_Gt hτ ?_)
  have hm := xk_hme hm hτ
  have hu := xk_hue hu hτ
  refine gx_aload_n hX dX5_init_124 rfl ?_
  refine gx_iload_n hX dX5_init_125 rfl ?_
  refine xk_putiF hX 44 xk_ty44 rfl q546 rfl ⟨rfl, rfl, rfl⟩ dX5_init_126 h (fun σ32 hτ h => xk_Gt hτ ?_)
  have hm := xk_hme hm hτ
  have hu := xk_hue hu hτ
  refine gx_aload_n hX dX5_init_129 rfl ?_
  refine gx_iload_n hX dX5_init_130 rfl ?_
  refine xk_puti hX 46 xk_ty46 rfl q551 (fun _ h => h) rfl rfl dX5_init_131 h (fun σ33 hτ h => xk_Gt hτ ?_)
  have hm := xk_hme hm hτ
  have hu := xk_hue hu hτ
  refine gx_aload_n hX dX5_init_134 rfl ?_
  refine gx_iload hX dX5_init_135 rfl ?_
  refine xk_puti hX 47 xk_ty47 rfl q554 (fun _ h => h) rfl rfl dX5_init_137 h (fun σ34 hτ h => xk_Gt hτ ?_)
  have hm := xk_hme hm hτ
  have hu := xk_hue hu hτ
  cases h
  exact gx_vret hX rfl dX5_init_140 rfl ⟨rfl, rfl⟩ (fun _ h => h)
abbrev iX4_become : gx_M := (RX4, "become", cX4_become, 3, none)
theorem dsX4_become : gx_ds yX4_become 2 := by decide +kernel
def fX4_become (x0 : Nat) (σ : xk_C) (x1 : Int32) (x2 : Option Nat) : Option (xk_C × Unit) := (xk_pi (σ) 42 (some x0) (x1)).bind fun σ1 => (xk_pr (σ1) 43 (some x0) (x2)).bind fun σ2 => some (σ2, ())
set_option maxHeartbeats 4000000 in
theorem eX4_become {x0 : Nat} {σ : xk_C} {x1 : Int32} {x2 : Option Nat} : ∀ p, fX4_become x0 σ x1 x2 = some p → xk_n p.1 = xk_n σ ∧ xk_s p.1 = xk_s σ := fun r => show xk_er r σ (fX4_become x0 σ x1 x2) from by
  unfold fX4_become
  exact (xk_er_op xk_e_pi (fun _ => (xk_er_op xk_e_pr (fun _ => xk_er_ret))))
theorem mX4_become {x0 : Nat} {σ : xk_C} {x1 : Int32} {x2 : Option Nat} : ∀ p, fX4_become x0 σ x1 x2 = some p → xk_n σ ≤ xk_n p.1 ∧ xk_s σ ≤ xk_s p.1 := fun p h => xk_le_of (eX4_become p h)
set_option maxHeartbeats 4000000 in
theorem tX4_become (w : gw_W) (A : Nat → Prop) (l : Launch) (x0 : Nat) (σ : xk_C) (x1 : Int32) (x2 : Option Nat) {r : xk_C × Unit} (h : fX4_become x0 σ x1 x2 = some r) : gx_T (gw_I w A) A l yX4_become iX4_become 1 [va_rf (some x0), .int (x1), va_rf (x2)] (xk_P A w σ) 0 0 (xk_P A w r.1) (.returned none) := by
  refine gx_T.of (gw_I.inv w A) (by decide) ⟨rfl, rfl⟩ (gx_kR (gx_kI (gx_kR gx_k0))) (Nat.le_of_ble_eq_true rfl) (fun X hl hAx hX => ?_)
  subst hl
  subst hAx
  show gx_G X (xk_P (gx_A X) w (σ)) 0 0 [some (va_rf (some x0)), some (.int (x1)), some (va_rf (x2))] 0 []
  unfold fX4_become at h
  refine gx_aload_n hX dX4_become_0 rfl ?_
  refine gx_iload_n hX dX4_become_1 rfl ?_
  refine xk_puti hX 42 xk_ty42 rfl q337 (fun _ h => h) rfl rfl dX4_become_2 h (fun σ1 hτ h => ?_)
  refine gx_aload_n hX dX4_become_5 rfl ?_
  refine gx_aload_n hX dX4_become_6 rfl ?_
  refine xk_putr hX 43 xk_ty43 (Or.inl ⟨_, rfl⟩) q340 (fun _ h => h) rfl rfl dX4_become_7 h (fun σ2 hτ h => ?_)
  cases h
  exact gx_vret hX rfl dX4_become_10 rfl ⟨rfl, rfl⟩ (fun _ h => h)
abbrev iX5_houseIn : gx_M := (RX5, "houseIn", cX5_houseIn, 2, none)
theorem dsX5_houseIn : gx_ds yX5_houseIn 1 := by decide +kernel
def fX5_houseIn (x0 : Nat) (σ : xk_C) (x1 : Option Nat) : Option (xk_C × Unit) := (xk_pr (σ) 53 (some x0) (x1)).bind fun σ1 => (xk_pi (σ1) 48 (some x0) (0)).bind fun σ2 => (xk_is (σ2) 5 (x1)).bind fun b4 => (fX4_become (b4) (σ2) (1) (some x0)).bind fun r3 => some (r3.1, ())
set_option maxHeartbeats 4000000 in
theorem eX5_houseIn {x0 : Nat} {σ : xk_C} {x1 : Option Nat} : ∀ p, fX5_houseIn x0 σ x1 = some p → xk_n p.1 = xk_n σ ∧ xk_s p.1 = xk_s σ := fun r => show xk_er r σ (fX5_houseIn x0 σ x1) from by
  unfold fX5_houseIn
  exact (xk_er_op xk_e_pr (fun _ => (xk_er_op xk_e_pi (fun _ => (xk_er_rd (fun _ => (xk_er_ca (eX4_become) (fun _ => xk_er_ret))))))))
theorem mX5_houseIn {x0 : Nat} {σ : xk_C} {x1 : Option Nat} : ∀ p, fX5_houseIn x0 σ x1 = some p → xk_n σ ≤ xk_n p.1 ∧ xk_s σ ≤ xk_s p.1 := fun p h => xk_le_of (eX5_houseIn p h)
set_option maxHeartbeats 4000000 in
theorem tX5_houseIn (w : gw_W) (A : Nat → Prop) (l : Launch) (x0 : Nat) (σ : xk_C) (x1 : Option Nat) {r : xk_C × Unit} (h : fX5_houseIn x0 σ x1 = some r) : gx_T (gw_I w A) A l yX5_houseIn iX5_houseIn 2 [va_rf (some x0), va_rf (x1)] (xk_P A w σ) 0 0 (xk_P A w r.1) (.returned none) := by
  refine gx_T.of (gw_I.inv w A) (by decide) ⟨rfl, rfl⟩ (gx_kR (gx_kR gx_k0)) (Nat.le_of_ble_eq_true rfl) (fun X hl hAx hX => ?_)
  subst hl
  subst hAx
  show gx_G X (xk_P (gx_A X) w (σ)) 0 0 [some (va_rf (some x0)), some (va_rf (x1))] 0 []
  unfold fX5_houseIn at h
  refine gx_aload_n hX dX5_houseIn_0 rfl ?_
  refine gx_aload_n hX dX5_houseIn_1 rfl ?_
  refine xk_putr hX 53 xk_ty53 (Or.inl ⟨_, rfl⟩) q574 (fun _ h => h) rfl rfl dX5_houseIn_2 h (fun σ1 hτ h => ?_)
  refine gx_aload_n hX dX5_houseIn_5 rfl ?_
  refine gx_iconst (v := 0) hX dX5_houseIn_6 (by decide) ?_
  refine xk_puti hX 48 xk_ty48 rfl q559 (fun _ h => h) rfl rfl dX5_houseIn_7 h (fun σ2 hτ h => ?_)
  refine gx_aload_n hX dX5_houseIn_10 rfl ?_
  refine gx_iconst (v := 1) hX dX5_houseIn_11 (by decide) ?_
  refine gx_aload_n hX dX5_houseIn_12 rfl ?_
  obtain ⟨b4, hb, h⟩ := gx_bs h
  obtain ⟨eb, hkb⟩ := xk_isS hb
  obtain ⟨r3, hr3, h⟩ := gx_bs h
  refine gx_cV (As := [.int (1), va_rf (some x0)]) (rest := []) (b := b4) hX (tX4_become w (gx_A X) (gx_l X) (b4) (σ2) (1) (some x0) hr3) (lw_V q614 q615 q616 q93 q617) ⟨rfl, dsX4_become⟩ (by decide) (Nat.le_of_ble_eq_true rfl) (xk_rc hX (ci := 4) (by decide) (by decide) hkb) (by rw [eb]; rfl) (gx_w8 gx_k0 (Nat.le_of_ble_eq_true rfl)) dX5_houseIn_13 ⟨Nat.le_refl _, Nat.le_refl _⟩ rfl ?_
  cases h
  exact gx_vret hX rfl dX5_houseIn_16 rfl ⟨rfl, rfl⟩ (fun _ h => h)
abbrev iX4_liesIn : gx_M := (RX4, "liesIn", cX4_liesIn, 2, some .boolean)
theorem dsX4_liesIn : gx_ds yX4_liesIn 1 := by decide +kernel
def fX4_liesIn (x0 : Nat) (σ : xk_C) (x1 : Int32) : Option (Int32) := (xk_gi (σ) 42 (some x0)).bind fun v1 => if v1 = 0 then (xk_gi (σ) 41 (some x0)).bind fun v2 => if v2 = x1 then some (1) else some (0) else some (0)
set_option maxHeartbeats 4000000 in
theorem tX4_liesIn (w : gw_W) (A : Nat → Prop) (l : Launch) (x0 : Nat) (σ : xk_C) (x1 : Int32) {r : Int32} (h : fX4_liesIn x0 σ x1 = some r) : gx_T (gw_I w A) A l yX4_liesIn iX4_liesIn 1 [va_rf (some x0), .int (x1)] (xk_P A w σ) 0 0 (xk_P A w σ) (.returned (some (.int r))) := by
  refine gx_T.of (gw_I.inv w A) (by decide) ⟨rfl, rfl⟩ (gx_kR (gx_kI gx_k0)) (Nat.le_of_ble_eq_true rfl) (fun X hl hAx hX => ?_)
  subst hl
  subst hAx
  show gx_G X (xk_P (gx_A X) w (σ)) 0 0 [some (va_rf (some x0)), some (.int (x1))] 0 []
  unfold fX4_liesIn at h
  refine gx_aload_n hX dX4_liesIn_0 rfl ?_
  refine xk_geti hX 42 q337 (fun _ h => h) rfl dX4_liesIn_1 h (fun v1 h => ?_)
  refine gx_if_ne (tgt := 19) hX dX4_liesIn_4 (by decide) h (fun h => ?_) (fun h => ?_)
  · refine gx_aload_n hX dX4_liesIn_7 rfl ?_
    refine xk_geti hX 41 q332 (fun _ h => h) rfl dX4_liesIn_8 h (fun v2 h => ?_)
    refine gx_iload_n hX dX4_liesIn_11 rfl ?_
    refine gx_icmp_ne (tgt := 19) hX dX4_liesIn_12 (by decide) h (fun h => ?_) (fun h => ?_)
    · refine gx_iconst (v := 1) hX dX4_liesIn_15 (by decide) ?_
      refine gx_goto (tgt := 20) hX dX4_liesIn_16 (by decide) ?_
      cases h
      exact gx_zret hX rfl rfl dX4_liesIn_20 rfl ⟨rfl, rfl⟩ (fun _ h => h)
    · refine gx_iconst (v := 0) hX dX4_liesIn_19 (by decide) ?_
      cases h
      exact gx_zret hX rfl rfl dX4_liesIn_20 rfl ⟨rfl, rfl⟩ (fun _ h => h)
  · refine gx_iconst (v := 0) hX dX4_liesIn_19 (by decide) ?_
    cases h
    exact gx_zret hX rfl rfl dX4_liesIn_20 rfl ⟨rfl, rfl⟩ (fun _ h => h)
abbrev iX0_crab : gx_M := (RX0, "crab", cX0_crab, 5, some .int)
theorem dsX0_crab : gx_ds yX0_crab 3 := by decide +kernel
def fX0_crab_B116 (x0 : Nat)   (σ : xk_C) (x4 : Option Nat) : Option (xk_C × Int32) := (xk_gr (σ) 3 (some x0)).bind fun v11 => (xk_is (σ) 21 (v11)).bind fun b13 => (fJ2_add (b13) (σ) (x4)).bind fun r12 => (xk_gi (r12.1) 44 (x4)).bind fun v14 => some (r12.1, v14)
set_option maxHeartbeats 4000000 in
theorem lX0_crab_B116 {r : xk_C × Int32} {x0 : Nat}   {σ : xk_C} {x4 : Option Nat} : xk_lr r σ (fX0_crab_B116 x0 σ x4) := by
  unfold fX0_crab_B116
  exact (xk_lr_rd (fun _ => (xk_lr_rd (fun _ => (xk_lr_ca (mJ2_add) (fun _ => (xk_lr_rd (fun _ => xk_lr_ret))))))))
set_option maxHeartbeats 4000000 in
theorem tX0_crab_B116 {w : gw_W} {X : gx_X} {x0 : Nat} {n0 s0 : Nat} {r : xk_C × Int32} (hX : gx_O (gw_I w (gx_A X)) X iX0_crab 8 (xk_n r.1 - n0) (xk_s r.1 - s0) (xk_P (gx_A X) w r.1) (.returned (some (.int r.2))))  {σ : xk_C} {x4 : Option Nat} (hm : n0 ≤ xk_n σ ∧ s0 ≤ xk_s σ) (h : fX0_crab_B116 x0 σ x4 = some r) : gx_G X (xk_P (gx_A X) w (σ)) (xk_n (σ) - n0) (xk_s (σ) - s0) [some (va_rf (some x0)), none, none, none, some (va_rf (x4))] 116 [] := by
  have hu := lX0_crab_B116 (r := r)  h
  unfold fX0_crab_B116 at h
  refine gx_aload_n hX dX0_crab_116 rfl ?_
  refine xk_getr hX 3 q214 (fun _ h => h) rfl dX0_crab_117 h (fun v11 h => ?_)
  refine gx_aload hX dX0_crab_120 rfl ?_
  obtain ⟨b13, hb, h⟩ := gx_bs h
  obtain ⟨eb, hkb⟩ := xk_isS hb
  obtain ⟨r12, hr12, h⟩ := gx_bs h
  have hl := (mJ2_add) _ hr12
  have hu := xk_use (C := r12.1) h (xk_lr_rd (fun _ => xk_lr_ret))
  refine gx_cV (As := [va_rf (x4)]) (rest := []) (b := b13) hX (tJ2_add w (gx_A X) (gx_l X) (b13) (σ) (x4) hr12) (lw_V q357 q358 q359 q89 q360) ⟨rfl, dsJ2_add⟩ (by decide) (Nat.le_of_ble_eq_true rfl) (xk_rc hX (ci := 20) (by decide) (by decide) hkb) (by rw [eb]; rfl) (gx_w8 gx_k0 (Nat.le_of_ble_eq_true rfl)) dX0_crab_122 (xk_hfc hm hl hu) rfl (xk_Gc hm hl ?_)
  have hm := xk_hmc hm hl
  refine gx_pop hX dX0_crab_125 rfl ?_
  refine gx_aload hX dX0_crab_126 rfl ?_
  refine xk_getiN hX 44 q549 rfl dX0_crab_128 h (fun v14 h => ?_)
  cases h
  exact gx_iret hX rfl dX0_crab_131 rfl ⟨rfl, rfl⟩ (fun _ h => h)
def fX0_crab_B61 (x0 : Nat)   (σ : xk_C) (x1 : Int32) (x2 : Int32) (x3 : Int32) : Option (xk_C × Int32) := (xk_gr (σ) 3 (some x0)).bind fun v3 => (xk_is (σ) 21 (v3)).bind fun b5 => (fJ2_size (b5) (σ)).bind fun r4 => if r4 = nI 12 then some (σ, (-4)) else (xk_nw (σ) 5).bind fun σ6 => (xk_gr (σ6) 3 (some x0)).bind fun v7 => (xk_is (σ6) 21 (v7)).bind fun b9 => (fJ2_size (b9) (σ6)).bind fun r8 => (fX5_init ((xk_n (σ))) (σ6) (some x0) (r8) (x1) (x2)).bind fun r10 => if x3 = (-1) then fX0_crab_B116 x0 (r10.1) (some (xk_n (σ))) else (xk_gr (r10.1) 0 (some x0)).bind fun v15 => (xk_is (r10.1) 21 (v15)).bind fun b17 => (fJ2_get (b17) (r10.1) (x3)).bind fun r16 => (xk_ck (r10.1) 5 (r16)).bind fun u18 => (xk_is (r10.1) 6 (some (xk_n (σ)))).bind fun b20 => (fX5_houseIn (b20) (r10.1) (r16)).bind fun r19 => fX0_crab_B116 x0 (r19.1) (some (xk_n (σ)))
set_option maxHeartbeats 4000000 in
theorem lX0_crab_B61 {r : xk_C × Int32} {x0 : Nat}   {σ : xk_C} {x1 : Int32} {x2 : Int32} {x3 : Int32} : xk_lr r σ (fX0_crab_B61 x0 σ x1 x2 x3) := by
  unfold fX0_crab_B61
  exact (xk_lr_rd (fun _ => (xk_lr_rd (fun _ => (xk_lr_rd (fun _ => (xk_lr_ite xk_lr_ret (xk_lr_op xk_m_nw (fun _ => (xk_lr_rd (fun _ => (xk_lr_rd (fun _ => (xk_lr_rd (fun _ => (xk_lr_ca (mX5_init) (fun _ => (xk_lr_ite (lX0_crab_B116 ) (xk_lr_rd (fun _ => (xk_lr_rd (fun _ => (xk_lr_rd (fun _ => (xk_lr_rd (fun _ => (xk_lr_rd (fun _ => (xk_lr_ca (mX5_houseIn) (fun _ => (lX0_crab_B116 )))))))))))))))))))))))))))))))
set_option maxHeartbeats 4000000 in
theorem tX0_crab_B61 {w : gw_W} {X : gx_X} {x0 : Nat} {n0 s0 : Nat} {r : xk_C × Int32} (hX : gx_O (gw_I w (gx_A X)) X iX0_crab 8 (xk_n r.1 - n0) (xk_s r.1 - s0) (xk_P (gx_A X) w r.1) (.returned (some (.int r.2))))  {σ : xk_C} {x1 : Int32} {x2 : Int32} {x3 : Int32} (hm : n0 ≤ xk_n σ ∧ s0 ≤ xk_s σ) (h : fX0_crab_B61 x0 σ x1 x2 x3 = some r) : gx_G X (xk_P (gx_A X) w (σ)) (xk_n (σ) - n0) (xk_s (σ) - s0) [some (va_rf (some x0)), some (.int (x1)), some (.int (x2)), some (.int (x3)), none] 61 [] := by
  have hu := lX0_crab_B61 (r := r)  h
  unfold fX0_crab_B61 at h
  refine gx_aload_n hX dX0_crab_61 rfl ?_
  refine xk_getr hX 3 q214 (fun _ h => h) rfl dX0_crab_62 h (fun v3 h => ?_)
  obtain ⟨b5, hb, h⟩ := gx_bs h
  obtain ⟨eb, hkb⟩ := xk_isS hb
  obtain ⟨r4, hr4, h⟩ := gx_bs h
  refine gx_cV (As := []) (rest := []) (b := b5) hX (tJ2_size w (gx_A X) (gx_l X) (b5) (σ)  hr4) (lw_V q314 q315 q316 q89 q317) ⟨rfl, dsJ2_size⟩ (by decide) (Nat.le_of_ble_eq_true rfl) (xk_rc hX (ci := 20) (by decide) (by decide) hkb) (by rw [eb]; rfl) (gx_w8 gx_k0 (Nat.le_of_ble_eq_true rfl)) dX0_crab_65 (xk_hfe hu) rfl (xk_Gz ?_)
  refine gx_bipush (v := nI 12) hX dX0_crab_68 (by decide) ?_
  refine gx_icmp_ne (tgt := 76) hX dX0_crab_70 (by decide) h (fun h => ?_) (fun h => ?_)
  · refine gx_bipush (v := (-4)) hX dX0_crab_73 (by decide) ?_
    cases h
    exact gx_iret hX rfl dX0_crab_75 rfl ⟨rfl, rfl⟩ (fun _ h => h)
  · refine xk_new hX 5 ⟨by decide, by decide⟩ ⟨q204, q451, q100⟩ dX0_crab_76 h (fun σ6 hτ h => ?_)
    have hu := xk_use (C := σ6) h (xk_lr_rd (fun _ => (xk_lr_rd (fun _ => (xk_lr_rd (fun _ => (xk_lr_ca (mX5_init) (fun _ => (xk_lr_ite (lX0_crab_B116 ) (xk_lr_rd (fun _ => (xk_lr_rd (fun _ => (xk_lr_rd (fun _ => (xk_lr_rd (fun _ => (xk_lr_rd (fun _ => (xk_lr_ca (mX5_houseIn) (fun _ => (lX0_crab_B116 ))))))))))))))))))))))
    refine ⟨xk_hfm hm hτ hu, xk_Gm hm hτ ?_⟩
    have hm := xk_hmm hm hτ
    refine gx_dup hX dX0_crab_79 (gx_cat _) ?_
    refine gx_aload_n hX dX0_crab_80 rfl ?_
    refine gx_aload_n hX dX0_crab_81 rfl ?_
    refine xk_getr hX 3 q214 (fun _ h => h) rfl dX0_crab_82 h (fun v7 h => ?_)
    obtain ⟨b9, hb, h⟩ := gx_bs h
    obtain ⟨eb, hkb⟩ := xk_isS hb
    obtain ⟨r8, hr8, h⟩ := gx_bs h
    refine gx_cV (As := []) (rest := [va_rf (some x0), va_rf (some (xk_n (σ))), va_rf (some (xk_n (σ)))]) (b := b9) hX (tJ2_size w (gx_A X) (gx_l X) (b9) (σ6)  hr8) (lw_V q314 q315 q316 q89 q317) ⟨rfl, dsJ2_size⟩ (by decide) (Nat.le_of_ble_eq_true rfl) (xk_rc hX (ci := 20) (by decide) (by decide) hkb) (by rw [eb]; rfl) (gx_w8 (gx_kR (gx_kR (gx_kR gx_k0))) (Nat.le_of_ble_eq_true rfl)) dX0_crab_85 (xk_hfe hu) rfl (xk_Gz ?_)
    refine gx_iload_n hX dX0_crab_88 rfl ?_
    refine gx_iload_n hX dX0_crab_89 rfl ?_
    obtain ⟨r10, hr10, h⟩ := gx_bs h
    have hl := (mX5_init) _ hr10
    have hu := xk_use (C := r10.1) h (xk_lr_ite (lX0_crab_B116 ) (xk_lr_rd (fun _ => (xk_lr_rd (fun _ => (xk_lr_rd (fun _ => (xk_lr_rd (fun _ => (xk_lr_rd (fun _ => (xk_lr_ca (mX5_houseIn) (fun _ => (lX0_crab_B116 ))))))))))))))
    refine gx_cI (As := [va_rf (some x0), .int (r8), .int (x1), .int (x2)]) (rest := [va_rf (some (xk_n (σ)))]) (b := (xk_n (σ))) (C2 := RX5) (nm2 := "<init>") hX (tX5_init w (gx_A X) (gx_l X) ((xk_n (σ))) (σ6) (some x0) (r8) (x1) (x2) hr10) (lw_meth q454) ⟨q100, q452, q453⟩ ⟨rfl, dsX5_init⟩ (by decide) (Nat.le_of_ble_eq_true rfl) rfl (gx_w8 (gx_kR gx_k0) (Nat.le_of_ble_eq_true rfl)) dX0_crab_90 (xk_hfc hm hl hu) rfl (xk_Gc hm hl ?_)
    have hm := xk_hmc hm hl
    refine gx_astore hX dX0_crab_93 (Nat.le_of_ble_eq_true rfl) gx_c1i (lv' := [some (va_rf (some x0)), some (.int (x1)), some (.int (x2)), some (.int (x3)), some (va_rf (some (xk_n (σ))))]) rfl ?_
    refine gx_iload_n hX dX0_crab_95 rfl ?_
    refine gx_iconst (v := (-1)) hX dX0_crab_96 (by decide) ?_
    refine gx_icmp_eq (tgt := 116) hX dX0_crab_97 (by decide) h (fun h => ?_) (fun h => ?_)
    · refine gx_sub hX (lv' := [some (va_rf (some x0)), none, none, none, some (va_rf (some (xk_n (σ))))]) ⟨Or.inr rfl, ⟨Or.inl rfl, ⟨Or.inl rfl, ⟨Or.inl rfl, ⟨Or.inr rfl, trivial⟩⟩⟩⟩⟩ ?_
      exact tX0_crab_B116 hX  hm h
    · refine gx_aload hX dX0_crab_100 rfl ?_
      refine gx_aload_n hX dX0_crab_102 rfl ?_
      refine xk_getr hX 0 q209 (fun _ h => h) rfl dX0_crab_103 h (fun v15 h => ?_)
      refine gx_iload_n hX dX0_crab_106 rfl ?_
      obtain ⟨b17, hb, h⟩ := gx_bs h
      obtain ⟨eb, hkb⟩ := xk_isS hb
      obtain ⟨r16, hr16, h⟩ := gx_bs h
      refine gx_cV (As := [.int (x3)]) (rest := [va_rf (some (xk_n (σ)))]) (b := b17) hX (tJ2_get w (gx_A X) (gx_l X) (b17) (r10.1) (x3) hr16) (lw_V q433 q434 q435 q89 q436) ⟨rfl, dsJ2_get⟩ (by decide) (Nat.le_of_ble_eq_true rfl) (xk_rc hX (ci := 20) (by decide) (by decide) hkb) (by rw [eb]; rfl) (gx_w8 (gx_kR gx_k0) (Nat.le_of_ble_eq_true rfl)) dX0_crab_107 (xk_hfe hu) rfl (xk_Gz ?_)
      refine xk_castC hX 4 ⟨by decide, by decide⟩ q206 dX0_crab_110 h (fun h => ?_)
      obtain ⟨b20, hb, h⟩ := gx_bs h
      obtain ⟨eb, hkb⟩ := xk_isS hb
      obtain ⟨r19, hr19, h⟩ := gx_bs h
      have he := eX5_houseIn _ hr19
      refine gx_cV (As := [va_rf (r16)]) (rest := []) (b := b20) hX (tX5_houseIn w (gx_A X) (gx_l X) (b20) (r10.1) (r16) hr19) (lw_V q610 q611 q612 q100 q613) ⟨rfl, dsX5_houseIn⟩ (by decide) (Nat.le_of_ble_eq_true rfl) (xk_rc hX (ci := 5) (by decide) (by decide) hkb) (by rw [eb]; rfl) (gx_w8 gx_k0 (Nat.le_of_ble_eq_true rfl)) dX0_crab_113 (xk_hfe hu) rfl (xk_Ge he ?_)
      have hm := xk_hme hm he
      have hu := xk_hue hu he
      refine gx_sub hX (lv' := [some (va_rf (some x0)), none, none, none, some (va_rf (some (xk_n (σ))))]) ⟨Or.inr rfl, ⟨Or.inl rfl, ⟨Or.inl rfl, ⟨Or.inl rfl, ⟨Or.inr rfl, trivial⟩⟩⟩⟩⟩ ?_
      exact tX0_crab_B116 hX  hm h
def fX0_crab_B22 (x0 : Nat)   (σ : xk_C) (x1 : Int32) (x2 : Int32) (x3 : Int32) : Option (xk_C × Int32) := (fX0_in  (x2) (1) (nI 40)).bind fun r2 => if r2 = 0 then some (σ, (-2)) else if x3 = (-1) then fX0_crab_B61 x0 (σ) (x1) (x2) (x3) else (xk_gr (σ) 0 (some x0)).bind fun v21 => (xk_is (σ) 21 (v21)).bind fun b23 => (fJ2_get (b23) (σ) (x3)).bind fun r22 => (xk_ck (σ) 5 (r22)).bind fun u24 => (xk_is (σ) 5 (r22)).bind fun b26 => (fX4_liesIn (b26) (σ) (x1)).bind fun r25 => if r25 = 0 then some (σ, (-3)) else fX0_crab_B61 x0 (σ) (x1) (x2) (x3)
set_option maxHeartbeats 4000000 in
theorem lX0_crab_B22 {r : xk_C × Int32} {x0 : Nat}   {σ : xk_C} {x1 : Int32} {x2 : Int32} {x3 : Int32} : xk_lr r σ (fX0_crab_B22 x0 σ x1 x2 x3) := by
  unfold fX0_crab_B22
  exact (xk_lr_rd (fun _ => (xk_lr_ite xk_lr_ret (xk_lr_ite (lX0_crab_B61 ) (xk_lr_rd (fun _ => (xk_lr_rd (fun _ => (xk_lr_rd (fun _ => (xk_lr_rd (fun _ => (xk_lr_rd (fun _ => (xk_lr_rd (fun _ => (xk_lr_ite xk_lr_ret (lX0_crab_B61 ))))))))))))))))))
set_option maxHeartbeats 4000000 in
theorem tX0_crab_B22 {w : gw_W} {X : gx_X} {x0 : Nat} {n0 s0 : Nat} {r : xk_C × Int32} (hX : gx_O (gw_I w (gx_A X)) X iX0_crab 8 (xk_n r.1 - n0) (xk_s r.1 - s0) (xk_P (gx_A X) w r.1) (.returned (some (.int r.2))))  {σ : xk_C} {x1 : Int32} {x2 : Int32} {x3 : Int32} (hm : n0 ≤ xk_n σ ∧ s0 ≤ xk_s σ) (h : fX0_crab_B22 x0 σ x1 x2 x3 = some r) : gx_G X (xk_P (gx_A X) w (σ)) (xk_n (σ) - n0) (xk_s (σ) - s0) [some (va_rf (some x0)), some (.int (x1)), some (.int (x2)), some (.int (x3)), none] 22 [] := by
  have hu := lX0_crab_B22 (r := r)  h
  unfold fX0_crab_B22 at h
  refine gx_iload_n hX dX0_crab_22 rfl ?_
  refine gx_iconst (v := 1) hX dX0_crab_23 (by decide) ?_
  refine gx_bipush (v := nI 40) hX dX0_crab_24 (by decide) ?_
  obtain ⟨r2, hr2, h⟩ := gx_bs h
  refine gx_cS (As := [.int (x2), .int (1), .int (nI 40)]) (rest := []) hX (tX0_in w (gx_A X) (gx_l X) (xk_P (gx_A X) w (σ)) (x2) (1) (nI 40) hr2) (lw_S q311 q312 q86 q313) dsX0_in (by decide) (Nat.le_of_ble_eq_true rfl) rfl (gx_w8 gx_k0 (Nat.le_of_ble_eq_true rfl)) dX0_crab_26 (xk_hfe hu) rfl (xk_Gz ?_)
  refine gx_if_ne (tgt := 35) hX dX0_crab_29 (by decide) h (fun h => ?_) (fun h => ?_)
  · refine gx_bipush (v := (-2)) hX dX0_crab_32 (by decide) ?_
    cases h
    exact gx_iret hX rfl dX0_crab_34 rfl ⟨rfl, rfl⟩ (fun _ h => h)
  · refine gx_iload_n hX dX0_crab_35 rfl ?_
    refine gx_iconst (v := (-1)) hX dX0_crab_36 (by decide) ?_
    refine gx_icmp_eq (tgt := 61) hX dX0_crab_37 (by decide) h (fun h => ?_) (fun h => ?_)
    · exact tX0_crab_B61 hX  hm h
    · refine gx_aload_n hX dX0_crab_40 rfl ?_
      refine xk_getr hX 0 q209 (fun _ h => h) rfl dX0_crab_41 h (fun v21 h => ?_)
      refine gx_iload_n hX dX0_crab_44 rfl ?_
      obtain ⟨b23, hb, h⟩ := gx_bs h
      obtain ⟨eb, hkb⟩ := xk_isS hb
      obtain ⟨r22, hr22, h⟩ := gx_bs h
      refine gx_cV (As := [.int (x3)]) (rest := []) (b := b23) hX (tJ2_get w (gx_A X) (gx_l X) (b23) (σ) (x3) hr22) (lw_V q433 q434 q435 q89 q436) ⟨rfl, dsJ2_get⟩ (by decide) (Nat.le_of_ble_eq_true rfl) (xk_rc hX (ci := 20) (by decide) (by decide) hkb) (by rw [eb]; rfl) (gx_w8 gx_k0 (Nat.le_of_ble_eq_true rfl)) dX0_crab_45 (xk_hfe hu) rfl (xk_Gz ?_)
      refine xk_castC hX 4 ⟨by decide, by decide⟩ q206 dX0_crab_48 h (fun h => ?_)
      refine gx_iload_n hX dX0_crab_51 rfl ?_
      obtain ⟨b26, hb, h⟩ := gx_bs h
      obtain ⟨eb, hkb⟩ := xk_isS hb
      obtain ⟨r25, hr25, h⟩ := gx_bs h
      refine gx_cV (As := [.int (x1)]) (rest := []) (b := b26) hX (tX4_liesIn w (gx_A X) (gx_l X) (b26) (σ) (x1) hr25) (lw_V q447 q448 q449 q93 q450) ⟨rfl, dsX4_liesIn⟩ (by decide) (Nat.le_of_ble_eq_true rfl) (xk_rc hX (ci := 4) (by decide) (by decide) hkb) (by rw [eb]; rfl) (gx_w8 gx_k0 (Nat.le_of_ble_eq_true rfl)) dX0_crab_52 (xk_hfe hu) rfl (xk_Gz ?_)
      refine gx_if_ne (tgt := 61) hX dX0_crab_55 (by decide) h (fun h => ?_) (fun h => ?_)
      · refine gx_bipush (v := (-3)) hX dX0_crab_58 (by decide) ?_
        cases h
        exact gx_iret hX rfl dX0_crab_60 rfl ⟨rfl, rfl⟩ (fun _ h => h)
      · exact tX0_crab_B61 hX  hm h
def fX0_crab (x0 : Nat) (σ : xk_C) (x1 : Int32) (x2 : Int32) (x3 : Int32) : Option (xk_C × Int32) := (fX0_isCell  (x1)).bind fun r1 => if r1 = 0 then some (σ, (-1)) else if x3 = (-1) then fX0_crab_B22 x0 (σ) (x1) (x2) (x3) else (xk_is (σ) 1 (some x0)).bind fun b28 => (fX0_shellAt (b28) (σ) (x3)).bind fun r27 => if r27 = none then some (σ, (-1)) else fX0_crab_B22 x0 (σ) (x1) (x2) (x3)
set_option maxHeartbeats 4000000 in
theorem mX0_crab {x0 : Nat} {σ : xk_C} {x1 : Int32} {x2 : Int32} {x3 : Int32} : ∀ p, fX0_crab x0 σ x1 x2 x3 = some p → xk_n σ ≤ xk_n p.1 ∧ xk_s σ ≤ xk_s p.1 := fun r => show xk_lr r σ (fX0_crab x0 σ x1 x2 x3) from by
  unfold fX0_crab
  exact (xk_lr_rd (fun _ => (xk_lr_ite xk_lr_ret (xk_lr_ite (lX0_crab_B22 ) (xk_lr_rd (fun _ => (xk_lr_rd (fun _ => (xk_lr_ite xk_lr_ret (lX0_crab_B22 ))))))))))
set_option maxHeartbeats 4000000 in
theorem tX0_crab (w : gw_W) (A : Nat → Prop) (l : Launch) (x0 : Nat) (σ : xk_C) (x1 : Int32) (x2 : Int32) (x3 : Int32) {r : xk_C × Int32} (h : fX0_crab x0 σ x1 x2 x3 = some r) : gx_T (gw_I w A) A l yX0_crab iX0_crab 8 [va_rf (some x0), .int (x1), .int (x2), .int (x3)] (xk_P A w σ) (xk_n r.1 - xk_n σ) (xk_s r.1 - xk_s σ) (xk_P A w r.1) (.returned (some (.int r.2))) := by
  refine gx_T.of (gw_I.inv w A) (by decide) ⟨rfl, rfl⟩ (gx_kR (gx_kI (gx_kI (gx_kI gx_k0)))) (Nat.le_of_ble_eq_true rfl) (fun X hl hAx hX => ?_)
  subst hl
  subst hAx
  show gx_G X (xk_P (gx_A X) w (σ)) 0 0 [some (va_rf (some x0)), some (.int (x1)), some (.int (x2)), some (.int (x3)), none] 0 []
  have hu := mX0_crab _ h
  unfold fX0_crab at h
  refine xk_G0 (a := xk_n σ) (b := xk_s σ) ?_
  have hm : xk_n σ ≤ xk_n σ ∧ xk_s σ ≤ xk_s σ := ⟨Nat.le_refl _, Nat.le_refl _⟩
  refine gx_iload_n hX dX0_crab_0 rfl ?_
  obtain ⟨r1, hr1, h⟩ := gx_bs h
  refine gx_cS (As := [.int (x1)]) (rest := []) hX (tX0_isCell w (gx_A X) (gx_l X) (xk_P (gx_A X) w (σ)) (x1) hr1) (lw_S q308 q309 q86 q310) dsX0_isCell (by decide) (Nat.le_of_ble_eq_true rfl) rfl (gx_w8 gx_k0 (Nat.le_of_ble_eq_true rfl)) dX0_crab_1 (xk_hfe hu) rfl (xk_Gz ?_)
  refine gx_if_eq (tgt := 20) hX dX0_crab_4 (by decide) h (fun h => ?_) (fun h => ?_)
  · refine gx_iconst (v := (-1)) hX dX0_crab_20 (by decide) ?_
    cases h
    exact gx_iret hX rfl dX0_crab_21 rfl ⟨rfl, rfl⟩ (fun _ h => h)
  · refine gx_iload_n hX dX0_crab_7 rfl ?_
    refine gx_iconst (v := (-1)) hX dX0_crab_8 (by decide) ?_
    refine gx_icmp_eq (tgt := 22) hX dX0_crab_9 (by decide) h (fun h => ?_) (fun h => ?_)
    · exact tX0_crab_B22 hX  hm h
    · refine gx_aload_n hX dX0_crab_12 rfl ?_
      refine gx_iload_n hX dX0_crab_13 rfl ?_
      obtain ⟨b28, hb, h⟩ := gx_bs h
      obtain ⟨eb, hkb⟩ := xk_isS hb
      obtain ⟨r27, hr27, h⟩ := gx_bs h
      refine gx_cV (As := [.int (x3)]) (rest := []) (b := b28) hX (tX0_shellAt w (gx_A X) (gx_l X) (b28) (σ) (x3) hr27) (lw_V q429 q431 qs3 q86 q432) ⟨rfl, dsX0_shellAt⟩ (by decide) (Nat.le_of_ble_eq_true rfl) (xk_rc hX (ci := 0) (by decide) (by decide) hkb) (by rw [eb]; rfl) (gx_w8 gx_k0 (Nat.le_of_ble_eq_true rfl)) dX0_crab_14 (xk_hfe hu) rfl (xk_Gz ?_)
      refine gx_ifnonnull (tgt := 22) hX dX0_crab_17 (by decide) h (fun h => ?_) (fun h => ?_)
      · refine gx_iconst (v := (-1)) hX dX0_crab_20 (by decide) ?_
        cases h
        exact gx_iret hX rfl dX0_crab_21 rfl ⟨rfl, rfl⟩ (fun _ h => h)
      · exact tX0_crab_B22 hX  hm h
abbrev iX0_crabAt : gx_M := (RX0, "crabAt", cX0_crabAt, 2, some (.object "ShellBeach$Crab"))
theorem dsX0_crabAt : gx_ds yX0_crabAt 1 := by decide +kernel
def fX0_crabAt_B15 (x0 : Nat) (σ : xk_C)    : Option (Option Nat) := some (none)
set_option maxHeartbeats 4000000 in
theorem tX0_crabAt_B15 {w : gw_W} {X : gx_X} {x0 : Nat} {σ : xk_C} {r : Option Nat} (hX : gx_O (gw_I w (gx_A X)) X iX0_crabAt 5 0 0 (xk_P (gx_A X) w σ) (.returned (some (va_rf r))))   (h : fX0_crabAt_B15 x0 σ = some r) : gx_G X (xk_P (gx_A X) w (σ)) 0 0 [none, none] 15 [] := by
  unfold fX0_crabAt_B15 at h
  refine gx_null hX dX0_crabAt_15 ?_
  refine gx_goto (tgt := 30) hX dX0_crabAt_16 (by decide) ?_
  cases h
  exact gx_aret hX rfl (Or.inl ⟨_, rfl⟩) dX0_crabAt_30 rfl ⟨rfl, rfl⟩ (fun _ h => h)
def fX0_crabAt (x0 : Nat) (σ : xk_C) (x1 : Int32) : Option (Option Nat) := if (x1) < 0 then fX0_crabAt_B15 x0 σ else (xk_gr (σ) 3 (some x0)).bind fun v1 => (xk_is (σ) 21 (v1)).bind fun b3 => (fJ2_size (b3) (σ)).bind fun r2 => if (x1) < r2 then (xk_gr (σ) 3 (some x0)).bind fun v4 => (xk_is (σ) 21 (v4)).bind fun b6 => (fJ2_get (b6) (σ) (x1)).bind fun r5 => (xk_ck (σ) 6 (r5)).bind fun u7 => some (r5) else fX0_crabAt_B15 x0 σ
set_option maxHeartbeats 4000000 in
theorem tX0_crabAt (w : gw_W) (A : Nat → Prop) (l : Launch) (x0 : Nat) (σ : xk_C) (x1 : Int32) {r : Option Nat} (h : fX0_crabAt x0 σ x1 = some r) : gx_T (gw_I w A) A l yX0_crabAt iX0_crabAt 5 [va_rf (some x0), .int (x1)] (xk_P A w σ) 0 0 (xk_P A w σ) (.returned (some (va_rf r))) := by
  refine gx_T.of (gw_I.inv w A) (by decide) ⟨rfl, rfl⟩ (gx_kR (gx_kI gx_k0)) (Nat.le_of_ble_eq_true rfl) (fun X hl hAx hX => ?_)
  subst hl
  subst hAx
  show gx_G X (xk_P (gx_A X) w (σ)) 0 0 [some (va_rf (some x0)), some (.int (x1))] 0 []
  unfold fX0_crabAt at h
  refine gx_iload_n hX dX0_crabAt_0 rfl ?_
  refine gx_if_lt (tgt := 15) hX dX0_crabAt_1 (by decide) h (fun h => ?_) (fun h => ?_)
  · refine gx_sub hX (lv' := [none, none]) ⟨Or.inl rfl, ⟨Or.inl rfl, trivial⟩⟩ ?_
    exact tX0_crabAt_B15 hX  h
  · refine gx_iload_n hX dX0_crabAt_4 rfl ?_
    refine gx_aload_n hX dX0_crabAt_5 rfl ?_
    refine xk_getr hX 3 q214 (fun _ h => h) rfl dX0_crabAt_6 h (fun v1 h => ?_)
    obtain ⟨b3, hb, h⟩ := gx_bs h
    obtain ⟨eb, hkb⟩ := xk_isS hb
    obtain ⟨r2, hr2, h⟩ := gx_bs h
    refine gx_cV (As := []) (rest := [.int (x1)]) (b := b3) hX (tJ2_size w (gx_A X) (gx_l X) (b3) (σ)  hr2) (lw_V q314 q315 q316 q89 q317) ⟨rfl, dsJ2_size⟩ (by decide) (Nat.le_of_ble_eq_true rfl) (xk_rc hX (ci := 20) (by decide) (by decide) hkb) (by rw [eb]; rfl) (gx_w8 (gx_kI gx_k0) (Nat.le_of_ble_eq_true rfl)) dX0_crabAt_9 ⟨Nat.le_refl _, Nat.le_refl _⟩ rfl ?_
    refine gx_icmp_lt (tgt := 19) hX dX0_crabAt_12 (by decide) h (fun h => ?_) (fun h => ?_)
    · refine gx_aload_n hX dX0_crabAt_19 rfl ?_
      refine xk_getr hX 3 q214 (fun _ h => h) rfl dX0_crabAt_20 h (fun v4 h => ?_)
      refine gx_iload_n hX dX0_crabAt_23 rfl ?_
      obtain ⟨b6, hb, h⟩ := gx_bs h
      obtain ⟨eb, hkb⟩ := xk_isS hb
      obtain ⟨r5, hr5, h⟩ := gx_bs h
      refine gx_cV (As := [.int (x1)]) (rest := []) (b := b6) hX (tJ2_get w (gx_A X) (gx_l X) (b6) (σ) (x1) hr5) (lw_V q433 q434 q435 q89 q436) ⟨rfl, dsJ2_get⟩ (by decide) (Nat.le_of_ble_eq_true rfl) (xk_rc hX (ci := 20) (by decide) (by decide) hkb) (by rw [eb]; rfl) (gx_w8 gx_k0 (Nat.le_of_ble_eq_true rfl)) dX0_crabAt_24 ⟨Nat.le_refl _, Nat.le_refl _⟩ rfl ?_
      refine xk_castC hX 5 ⟨by decide, by decide⟩ q204 dX0_crabAt_27 h (fun h => ?_)
      cases h
      exact gx_aret hX rfl (Or.inl ⟨_, rfl⟩) dX0_crabAt_30 rfl ⟨rfl, rfl⟩ (fun _ h => h)
    · refine gx_sub hX (lv' := [none, none]) ⟨Or.inl rfl, ⟨Or.inl rfl, trivial⟩⟩ ?_
      exact tX0_crabAt_B15 hX  h
abbrev iX0_habitAt : gx_M := (RX0, "habitAt", cX0_habitAt, 2, some (.object "ShellBeach$Habit"))
theorem dsX0_habitAt : gx_ds yX0_habitAt 1 := by decide +kernel
def fX0_habitAt_B15 (x0 : Nat) (σ : xk_C)    : Option (Option Nat) := some (none)
set_option maxHeartbeats 4000000 in
theorem tX0_habitAt_B15 {w : gw_W} {X : gx_X} {x0 : Nat} {σ : xk_C} {r : Option Nat} (hX : gx_O (gw_I w (gx_A X)) X iX0_habitAt 5 0 0 (xk_P (gx_A X) w σ) (.returned (some (va_rf r))))   (h : fX0_habitAt_B15 x0 σ = some r) : gx_G X (xk_P (gx_A X) w (σ)) 0 0 [none, none] 15 [] := by
  unfold fX0_habitAt_B15 at h
  refine gx_null hX dX0_habitAt_15 ?_
  refine gx_goto (tgt := 30) hX dX0_habitAt_16 (by decide) ?_
  cases h
  exact gx_aret hX rfl (Or.inl ⟨_, rfl⟩) dX0_habitAt_30 rfl ⟨rfl, rfl⟩ (fun _ h => h)
def fX0_habitAt (x0 : Nat) (σ : xk_C) (x1 : Int32) : Option (Option Nat) := if (x1) < 0 then fX0_habitAt_B15 x0 σ else (xk_gr (σ) 11 (some x0)).bind fun v1 => (xk_is (σ) 21 (v1)).bind fun b3 => (fJ2_size (b3) (σ)).bind fun r2 => if (x1) < r2 then (xk_gr (σ) 11 (some x0)).bind fun v4 => (xk_is (σ) 21 (v4)).bind fun b6 => (fJ2_get (b6) (σ) (x1)).bind fun r5 => (xk_ck (σ) 14 (r5)).bind fun u7 => some (r5) else fX0_habitAt_B15 x0 σ
set_option maxHeartbeats 4000000 in
theorem tX0_habitAt (w : gw_W) (A : Nat → Prop) (l : Launch) (x0 : Nat) (σ : xk_C) (x1 : Int32) {r : Option Nat} (h : fX0_habitAt x0 σ x1 = some r) : gx_T (gw_I w A) A l yX0_habitAt iX0_habitAt 5 [va_rf (some x0), .int (x1)] (xk_P A w σ) 0 0 (xk_P A w σ) (.returned (some (va_rf r))) := by
  refine gx_T.of (gw_I.inv w A) (by decide) ⟨rfl, rfl⟩ (gx_kR (gx_kI gx_k0)) (Nat.le_of_ble_eq_true rfl) (fun X hl hAx hX => ?_)
  subst hl
  subst hAx
  show gx_G X (xk_P (gx_A X) w (σ)) 0 0 [some (va_rf (some x0)), some (.int (x1))] 0 []
  unfold fX0_habitAt at h
  refine gx_iload_n hX dX0_habitAt_0 rfl ?_
  refine gx_if_lt (tgt := 15) hX dX0_habitAt_1 (by decide) h (fun h => ?_) (fun h => ?_)
  · refine gx_sub hX (lv' := [none, none]) ⟨Or.inl rfl, ⟨Or.inl rfl, trivial⟩⟩ ?_
    exact tX0_habitAt_B15 hX  h
  · refine gx_iload_n hX dX0_habitAt_4 rfl ?_
    refine gx_aload_n hX dX0_habitAt_5 rfl ?_
    refine xk_getr hX 11 q232 (fun _ h => h) rfl dX0_habitAt_6 h (fun v1 h => ?_)
    obtain ⟨b3, hb, h⟩ := gx_bs h
    obtain ⟨eb, hkb⟩ := xk_isS hb
    obtain ⟨r2, hr2, h⟩ := gx_bs h
    refine gx_cV (As := []) (rest := [.int (x1)]) (b := b3) hX (tJ2_size w (gx_A X) (gx_l X) (b3) (σ)  hr2) (lw_V q314 q315 q316 q89 q317) ⟨rfl, dsJ2_size⟩ (by decide) (Nat.le_of_ble_eq_true rfl) (xk_rc hX (ci := 20) (by decide) (by decide) hkb) (by rw [eb]; rfl) (gx_w8 (gx_kI gx_k0) (Nat.le_of_ble_eq_true rfl)) dX0_habitAt_9 ⟨Nat.le_refl _, Nat.le_refl _⟩ rfl ?_
    refine gx_icmp_lt (tgt := 19) hX dX0_habitAt_12 (by decide) h (fun h => ?_) (fun h => ?_)
    · refine gx_aload_n hX dX0_habitAt_19 rfl ?_
      refine xk_getr hX 11 q232 (fun _ h => h) rfl dX0_habitAt_20 h (fun v4 h => ?_)
      refine gx_iload_n hX dX0_habitAt_23 rfl ?_
      obtain ⟨b6, hb, h⟩ := gx_bs h
      obtain ⟨eb, hkb⟩ := xk_isS hb
      obtain ⟨r5, hr5, h⟩ := gx_bs h
      refine gx_cV (As := [.int (x1)]) (rest := []) (b := b6) hX (tJ2_get w (gx_A X) (gx_l X) (b6) (σ) (x1) hr5) (lw_V q433 q434 q435 q89 q436) ⟨rfl, dsJ2_get⟩ (by decide) (Nat.le_of_ble_eq_true rfl) (xk_rc hX (ci := 20) (by decide) (by decide) hkb) (by rw [eb]; rfl) (gx_w8 gx_k0 (Nat.le_of_ble_eq_true rfl)) dX0_habitAt_24 ⟨Nat.le_refl _, Nat.le_refl _⟩ rfl ?_
      refine xk_castC hX 13 ⟨by decide, by decide⟩ q630 dX0_habitAt_27 h (fun h => ?_)
      cases h
      exact gx_aret hX rfl (Or.inl ⟨_, rfl⟩) dX0_habitAt_30 rfl ⟨rfl, rfl⟩ (fun _ h => h)
    · refine gx_sub hX (lv' := [none, none]) ⟨Or.inl rfl, ⟨Or.inl rfl, trivial⟩⟩ ?_
      exact tX0_habitAt_B15 hX  h
abbrev iX0_habit : gx_M := (RX0, "habit", cX0_habit, 5, some .int)
theorem dsX0_habit : gx_ds yX0_habit 2 := by decide +kernel
def fX0_habit_B44 (x0 : Nat)   (σ : xk_C) (x2 : Int32) (x3 : Option Nat) (y0 : Int32) : Option (xk_C × Int32) := (xk_is (σ) 1 (some x0)).bind fun b7 => (fX0_habitAt (b7) (σ) (x2)).bind fun r6 => (xk_pr (σ) 55 (x3) (r6)).bind fun σ8 => some (σ8, y0)
set_option maxHeartbeats 4000000 in
theorem tX0_habit_B44 {w : gw_W} {X : gx_X} {x0 : Nat} {r : xk_C × Int32} (hX : gx_O (gw_I w (gx_A X)) X iX0_habit 6 0 0 (xk_P (gx_A X) w r.1) (.returned (some (.int r.2))))  {σ : xk_C} {x2 : Int32} {x3 : Option Nat} {y0 : Int32} (h : fX0_habit_B44 x0 σ x2 x3 y0 = some r) : gx_G X (xk_P (gx_A X) w (σ)) 0 0 [some (va_rf (some x0)), none, some (.int (x2)), some (va_rf (x3)), none] 44 [.int (y0)] := by
  unfold fX0_habit_B44 at h
  refine gx_istore hX dX0_habit_44 (Nat.le_of_ble_eq_true rfl) gx_c1r (lv' := [some (va_rf (some x0)), none, some (.int (x2)), some (va_rf (x3)), some (.int (y0))]) rfl ?_
  refine gx_aload_n hX dX0_habit_46 rfl ?_
  refine gx_aload_n hX dX0_habit_47 rfl ?_
  refine gx_iload_n hX dX0_habit_48 rfl ?_
  obtain ⟨b7, hb, h⟩ := gx_bs h
  obtain ⟨eb, hkb⟩ := xk_isS hb
  obtain ⟨r6, hr6, h⟩ := gx_bs h
  refine gx_cV (As := [.int (x2)]) (rest := [va_rf (x3)]) (b := b7) hX (tX0_habitAt w (gx_A X) (gx_l X) (b7) (σ) (x2) hr6) (lw_V q626 q628 qs5 q86 q629) ⟨rfl, dsX0_habitAt⟩ (by decide) (Nat.le_of_ble_eq_true rfl) (xk_rc hX (ci := 0) (by decide) (by decide) hkb) (by rw [eb]; rfl) (gx_w8 (gx_kR gx_k0) (Nat.le_of_ble_eq_true rfl)) dX0_habit_49 ⟨Nat.le_refl _, Nat.le_refl _⟩ rfl ?_
  refine xk_putrN hX 55 xk_ty55 (Or.inl ⟨_, rfl⟩) q580 rfl rfl dX0_habit_52 h (fun σ8 hτ h => ?_)
  refine gx_iload hX dX0_habit_55 rfl ?_
  cases h
  exact gx_iret hX rfl dX0_habit_57 rfl ⟨rfl, rfl⟩ (fun _ h => h)
def fX0_habit_B25 (x0 : Nat)   (σ : xk_C) (x2 : Int32) (x3 : Option Nat) : Option (xk_C × Int32) := (xk_gr (σ) 55 (x3)).bind fun v3 => if v3 = none then fX0_habit_B44 x0 (σ) (x2) (x3) ((-5)) else (xk_gr (σ) 55 (x3)).bind fun v4 => (xk_gi (σ) 65 (v4)).bind fun v5 => fX0_habit_B44 x0 (σ) (x2) (x3) (v5)
set_option maxHeartbeats 4000000 in
theorem tX0_habit_B25 {w : gw_W} {X : gx_X} {x0 : Nat} {r : xk_C × Int32} (hX : gx_O (gw_I w (gx_A X)) X iX0_habit 6 0 0 (xk_P (gx_A X) w r.1) (.returned (some (.int r.2))))  {σ : xk_C} {x2 : Int32} {x3 : Option Nat} (h : fX0_habit_B25 x0 σ x2 x3 = some r) : gx_G X (xk_P (gx_A X) w (σ)) 0 0 [some (va_rf (some x0)), none, some (.int (x2)), some (va_rf (x3)), none] 25 [] := by
  unfold fX0_habit_B25 at h
  refine gx_aload_n hX dX0_habit_25 rfl ?_
  refine xk_getrN hX 55 q580 rfl dX0_habit_26 h (fun v3 h => ?_)
  refine gx_ifnonnull (tgt := 37) hX dX0_habit_29 (by decide) h (fun h => ?_) (fun h => ?_)
  · refine gx_bipush (v := (-5)) hX dX0_habit_32 (by decide) ?_
    refine gx_goto (tgt := 44) hX dX0_habit_34 (by decide) ?_
    exact tX0_habit_B44 hX  h
  · refine gx_aload_n hX dX0_habit_37 rfl ?_
    refine xk_getrN hX 55 q580 rfl dX0_habit_38 h (fun v4 h => ?_)
    refine xk_getiN hX 65 q739 rfl dX0_habit_41 h (fun v5 h => ?_)
    exact tX0_habit_B44 hX  h
def fX0_habit (x0 : Nat) (σ : xk_C) (x1 : Int32) (x2 : Int32) : Option (xk_C × Int32) := (xk_is (σ) 1 (some x0)).bind fun b2 => (fX0_crabAt (b2) (σ) (x1)).bind fun r1 => if r1 = none then some (σ, (-1)) else if x2 = (-1) then fX0_habit_B25 x0 (σ) (x2) (r1) else (xk_is (σ) 1 (some x0)).bind fun b10 => (fX0_habitAt (b10) (σ) (x2)).bind fun r9 => if r9 = none then some (σ, (-1)) else fX0_habit_B25 x0 (σ) (x2) (r1)
set_option maxHeartbeats 4000000 in
theorem tX0_habit (w : gw_W) (A : Nat → Prop) (l : Launch) (x0 : Nat) (σ : xk_C) (x1 : Int32) (x2 : Int32) {r : xk_C × Int32} (h : fX0_habit x0 σ x1 x2 = some r) : gx_T (gw_I w A) A l yX0_habit iX0_habit 6 [va_rf (some x0), .int (x1), .int (x2)] (xk_P A w σ) 0 0 (xk_P A w r.1) (.returned (some (.int r.2))) := by
  refine gx_T.of (gw_I.inv w A) (by decide) ⟨rfl, rfl⟩ (gx_kR (gx_kI (gx_kI gx_k0))) (Nat.le_of_ble_eq_true rfl) (fun X hl hAx hX => ?_)
  subst hl
  subst hAx
  show gx_G X (xk_P (gx_A X) w (σ)) 0 0 [some (va_rf (some x0)), some (.int (x1)), some (.int (x2)), none, none] 0 []
  unfold fX0_habit at h
  refine gx_aload_n hX dX0_habit_0 rfl ?_
  refine gx_iload_n hX dX0_habit_1 rfl ?_
  obtain ⟨b2, hb, h⟩ := gx_bs h
  obtain ⟨eb, hkb⟩ := xk_isS hb
  obtain ⟨r1, hr1, h⟩ := gx_bs h
  refine gx_cV (As := [.int (x1)]) (rest := []) (b := b2) hX (tX0_crabAt w (gx_A X) (gx_l X) (b2) (σ) (x1) hr1) (lw_V q622 q624 qs4 q86 q625) ⟨rfl, dsX0_crabAt⟩ (by decide) (Nat.le_of_ble_eq_true rfl) (xk_rc hX (ci := 0) (by decide) (by decide) hkb) (by rw [eb]; rfl) (gx_w8 gx_k0 (Nat.le_of_ble_eq_true rfl)) dX0_habit_2 ⟨Nat.le_refl _, Nat.le_refl _⟩ rfl ?_
  refine gx_astore_n hX dX0_habit_5 (Nat.le_of_ble_eq_true rfl) gx_c1i (lv' := [some (va_rf (some x0)), some (.int (x1)), some (.int (x2)), some (va_rf (r1)), none]) rfl ?_
  refine gx_aload_n hX dX0_habit_6 rfl ?_
  refine gx_ifnull (tgt := 23) hX dX0_habit_7 (by decide) h (fun h => ?_) (fun h => ?_)
  · refine gx_iconst (v := (-1)) hX dX0_habit_23 (by decide) ?_
    cases h
    exact gx_iret hX rfl dX0_habit_24 rfl ⟨rfl, rfl⟩ (fun _ h => h)
  · refine gx_iload_n hX dX0_habit_10 rfl ?_
    refine gx_iconst (v := (-1)) hX dX0_habit_11 (by decide) ?_
    refine gx_icmp_eq (tgt := 25) hX dX0_habit_12 (by decide) h (fun h => ?_) (fun h => ?_)
    · refine gx_sub hX (lv' := [some (va_rf (some x0)), none, some (.int (x2)), some (va_rf (r1)), none]) ⟨Or.inr rfl, ⟨Or.inl rfl, ⟨Or.inr rfl, ⟨Or.inr rfl, ⟨Or.inr rfl, trivial⟩⟩⟩⟩⟩ ?_
      exact tX0_habit_B25 hX  h
    · refine gx_aload_n hX dX0_habit_15 rfl ?_
      refine gx_iload_n hX dX0_habit_16 rfl ?_
      obtain ⟨b10, hb, h⟩ := gx_bs h
      obtain ⟨eb, hkb⟩ := xk_isS hb
      obtain ⟨r9, hr9, h⟩ := gx_bs h
      refine gx_cV (As := [.int (x2)]) (rest := []) (b := b10) hX (tX0_habitAt w (gx_A X) (gx_l X) (b10) (σ) (x2) hr9) (lw_V q626 q628 qs5 q86 q629) ⟨rfl, dsX0_habitAt⟩ (by decide) (Nat.le_of_ble_eq_true rfl) (xk_rc hX (ci := 0) (by decide) (by decide) hkb) (by rw [eb]; rfl) (gx_w8 gx_k0 (Nat.le_of_ble_eq_true rfl)) dX0_habit_17 ⟨Nat.le_refl _, Nat.le_refl _⟩ rfl ?_
      refine gx_ifnonnull (tgt := 25) hX dX0_habit_20 (by decide) h (fun h => ?_) (fun h => ?_)
      · refine gx_iconst (v := (-1)) hX dX0_habit_23 (by decide) ?_
        cases h
        exact gx_iret hX rfl dX0_habit_24 rfl ⟨rfl, rfl⟩ (fun _ h => h)
      · refine gx_sub hX (lv' := [some (va_rf (some x0)), none, some (.int (x2)), some (va_rf (r1)), none]) ⟨Or.inr rfl, ⟨Or.inl rfl, ⟨Or.inr rfl, ⟨Or.inr rfl, ⟨Or.inr rfl, trivial⟩⟩⟩⟩⟩ ?_
        exact tX0_habit_B25 hX  h
abbrev iX0_walk : gx_M := (RX0, "walk", cX0_walk, 5, some .int)
theorem dsX0_walk : gx_ds yX0_walk 2 := by decide +kernel
def fX0_walk_B55 (x0 : Nat)   (σ : xk_C) (x4 : Int32) : Option (xk_C × Int32) := some (σ, x4)
set_option maxHeartbeats 4000000 in
theorem tX0_walk_B55 {w : gw_W} {X : gx_X} {x0 : Nat} {r : xk_C × Int32} (hX : gx_O (gw_I w (gx_A X)) X iX0_walk 6 0 0 (xk_P (gx_A X) w r.1) (.returned (some (.int r.2))))  {σ : xk_C} {x4 : Int32} (h : fX0_walk_B55 x0 σ x4 = some r) : gx_G X (xk_P (gx_A X) w (σ)) 0 0 [none, none, none, none, some (.int (x4))] 55 [] := by
  unfold fX0_walk_B55 at h
  refine gx_iload hX dX0_walk_55 rfl ?_
  cases h
  exact gx_iret hX rfl dX0_walk_57 rfl ⟨rfl, rfl⟩ (fun _ h => h)
def fX0_walk (x0 : Nat) (σ : xk_C) (x1 : Int32) (x2 : Int32) : Option (xk_C × Int32) := (xk_is (σ) 1 (some x0)).bind fun b2 => (fX0_crabAt (b2) (σ) (x1)).bind fun r1 => if r1 = none then some (σ, (-1)) else (fX0_isCell  (x2)).bind fun r3 => if r3 = 0 then some (σ, (-1)) else (xk_gi (σ) 50 (r1)).bind fun v4 => if v4 = 0 then (xk_gi (σ) 46 (r1)).bind fun v5 => (xk_pi (σ) 46 (r1) (x2)).bind fun σ6 => (xk_gr (σ6) 53 (r1)).bind fun v7 => if v7 = none then fX0_walk_B55 x0 (σ6) (v5) else (xk_gr (σ6) 53 (r1)).bind fun v8 => (xk_pi (σ6) 41 (v8) (x2)).bind fun σ9 => fX0_walk_B55 x0 (σ9) (v5) else some (σ, (-3))
set_option maxHeartbeats 4000000 in
theorem tX0_walk (w : gw_W) (A : Nat → Prop) (l : Launch) (x0 : Nat) (σ : xk_C) (x1 : Int32) (x2 : Int32) {r : xk_C × Int32} (h : fX0_walk x0 σ x1 x2 = some r) : gx_T (gw_I w A) A l yX0_walk iX0_walk 6 [va_rf (some x0), .int (x1), .int (x2)] (xk_P A w σ) 0 0 (xk_P A w r.1) (.returned (some (.int r.2))) := by
  refine gx_T.of (gw_I.inv w A) (by decide) ⟨rfl, rfl⟩ (gx_kR (gx_kI (gx_kI gx_k0))) (Nat.le_of_ble_eq_true rfl) (fun X hl hAx hX => ?_)
  subst hl
  subst hAx
  show gx_G X (xk_P (gx_A X) w (σ)) 0 0 [some (va_rf (some x0)), some (.int (x1)), some (.int (x2)), none, none] 0 []
  unfold fX0_walk at h
  refine gx_aload_n hX dX0_walk_0 rfl ?_
  refine gx_iload_n hX dX0_walk_1 rfl ?_
  obtain ⟨b2, hb, h⟩ := gx_bs h
  obtain ⟨eb, hkb⟩ := xk_isS hb
  obtain ⟨r1, hr1, h⟩ := gx_bs h
  refine gx_cV (As := [.int (x1)]) (rest := []) (b := b2) hX (tX0_crabAt w (gx_A X) (gx_l X) (b2) (σ) (x1) hr1) (lw_V q622 q624 qs4 q86 q625) ⟨rfl, dsX0_crabAt⟩ (by decide) (Nat.le_of_ble_eq_true rfl) (xk_rc hX (ci := 0) (by decide) (by decide) hkb) (by rw [eb]; rfl) (gx_w8 gx_k0 (Nat.le_of_ble_eq_true rfl)) dX0_walk_2 ⟨Nat.le_refl _, Nat.le_refl _⟩ rfl ?_
  refine gx_astore_n hX dX0_walk_5 (Nat.le_of_ble_eq_true rfl) gx_c1i (lv' := [some (va_rf (some x0)), some (.int (x1)), some (.int (x2)), some (va_rf (r1)), none]) rfl ?_
  refine gx_aload_n hX dX0_walk_6 rfl ?_
  refine gx_ifnull (tgt := 17) hX dX0_walk_7 (by decide) h (fun h => ?_) (fun h => ?_)
  · refine gx_iconst (v := (-1)) hX dX0_walk_17 (by decide) ?_
    cases h
    exact gx_iret hX rfl dX0_walk_18 rfl ⟨rfl, rfl⟩ (fun _ h => h)
  · refine gx_iload_n hX dX0_walk_10 rfl ?_
    obtain ⟨r3, hr3, h⟩ := gx_bs h
    refine gx_cS (As := [.int (x2)]) (rest := []) hX (tX0_isCell w (gx_A X) (gx_l X) (xk_P (gx_A X) w (σ)) (x2) hr3) (lw_S q308 q309 q86 q310) dsX0_isCell (by decide) (Nat.le_of_ble_eq_true rfl) rfl (gx_w8 gx_k0 (Nat.le_of_ble_eq_true rfl)) dX0_walk_11 ⟨Nat.le_refl _, Nat.le_refl _⟩ rfl ?_
    refine gx_if_ne (tgt := 19) hX dX0_walk_14 (by decide) h (fun h => ?_) (fun h => ?_)
    · refine gx_iconst (v := (-1)) hX dX0_walk_17 (by decide) ?_
      cases h
      exact gx_iret hX rfl dX0_walk_18 rfl ⟨rfl, rfl⟩ (fun _ h => h)
    · refine gx_aload_n hX dX0_walk_19 rfl ?_
      refine xk_getiN hX 50 q566 rfl dX0_walk_20 h (fun v4 h => ?_)
      refine gx_if_eq (tgt := 29) hX dX0_walk_23 (by decide) h (fun h => ?_) (fun h => ?_)
      · refine gx_aload_n hX dX0_walk_29 rfl ?_
        refine xk_getiN hX 46 q553 rfl dX0_walk_30 h (fun v5 h => ?_)
        refine gx_istore hX dX0_walk_33 (Nat.le_of_ble_eq_true rfl) gx_c1r (lv' := [some (va_rf (some x0)), some (.int (x1)), some (.int (x2)), some (va_rf (r1)), some (.int (v5))]) rfl ?_
        refine gx_aload_n hX dX0_walk_35 rfl ?_
        refine gx_iload_n hX dX0_walk_36 rfl ?_
        refine xk_putiN hX 46 xk_ty46 rfl q553 rfl rfl dX0_walk_37 h (fun σ6 hτ h => ?_)
        refine gx_aload_n hX dX0_walk_40 rfl ?_
        refine xk_getrN hX 53 q575 rfl dX0_walk_41 h (fun v7 h => ?_)
        refine gx_ifnull (tgt := 55) hX dX0_walk_44 (by decide) h (fun h => ?_) (fun h => ?_)
        · refine gx_sub hX (lv' := [none, none, none, none, some (.int (v5))]) ⟨Or.inl rfl, ⟨Or.inl rfl, ⟨Or.inl rfl, ⟨Or.inl rfl, ⟨Or.inr rfl, trivial⟩⟩⟩⟩⟩ ?_
          exact tX0_walk_B55 hX  h
        · refine gx_aload_n hX dX0_walk_47 rfl ?_
          refine xk_getrN hX 53 q575 rfl dX0_walk_48 h (fun v8 h => ?_)
          refine gx_iload_n hX dX0_walk_51 rfl ?_
          refine xk_putiN hX 41 xk_ty41 rfl q334 rfl rfl dX0_walk_52 h (fun σ9 hτ h => ?_)
          refine gx_sub hX (lv' := [none, none, none, none, some (.int (v5))]) ⟨Or.inl rfl, ⟨Or.inl rfl, ⟨Or.inl rfl, ⟨Or.inl rfl, ⟨Or.inr rfl, trivial⟩⟩⟩⟩⟩ ?_
          exact tX0_walk_B55 hX  h
      · refine gx_bipush (v := (-3)) hX dX0_walk_26 (by decide) ?_
        cases h
        exact gx_iret hX rfl dX0_walk_28 rfl ⟨rfl, rfl⟩ (fun _ h => h)
abbrev iX0_of : gx_M := (RX0, "of", cX0_of, 4, some .int)
theorem dsX0_of : gx_ds yX0_of 2 := by decide +kernel
def fX0_of (x0 : Nat) (σ : xk_C) (x1 : Int32) (x2 : Int32) : Option (Int32) := (xk_is (σ) 1 (some x0)).bind fun b2 => (fX0_shellAt (b2) (σ) (x1)).bind fun r1 => if r1 = none then some ((-1)) else if x2 = 0 then (xk_gi (σ) 42 (r1)).bind fun v3 => some (v3) else if x2 = 1 then (xk_gi (σ) 41 (r1)).bind fun v4 => some (v4) else if x2 = 2 then (xk_gi (σ) 38 (r1)).bind fun v5 => some (v5) else if x2 = 3 then (xk_gi (σ) 39 (r1)).bind fun v6 => some (v6) else if x2 = 4 then (xk_gi (σ) 40 (r1)).bind fun v7 => some (v7) else if x2 = 5 then (xk_gr (σ) 43 (r1)).bind fun v8 => if v8 = none then some ((-5)) else (xk_gr (σ) 43 (r1)).bind fun v9 => (xk_gi (σ) 44 (v9)).bind fun v10 => some (v10) else some ((-1))
set_option maxHeartbeats 4000000 in
theorem tX0_of (w : gw_W) (A : Nat → Prop) (l : Launch) (x0 : Nat) (σ : xk_C) (x1 : Int32) (x2 : Int32) {r : Int32} (h : fX0_of x0 σ x1 x2 = some r) : gx_T (gw_I w A) A l yX0_of iX0_of 6 [va_rf (some x0), .int (x1), .int (x2)] (xk_P A w σ) 0 0 (xk_P A w σ) (.returned (some (.int r))) := by
  refine gx_T.of (gw_I.inv w A) (by decide) ⟨rfl, rfl⟩ (gx_kR (gx_kI (gx_kI gx_k0))) (Nat.le_of_ble_eq_true rfl) (fun X hl hAx hX => ?_)
  subst hl
  subst hAx
  show gx_G X (xk_P (gx_A X) w (σ)) 0 0 [some (va_rf (some x0)), some (.int (x1)), some (.int (x2)), none] 0 []
  unfold fX0_of at h
  refine gx_aload_n hX dX0_of_0 rfl ?_
  refine gx_iload_n hX dX0_of_1 rfl ?_
  obtain ⟨b2, hb, h⟩ := gx_bs h
  obtain ⟨eb, hkb⟩ := xk_isS hb
  obtain ⟨r1, hr1, h⟩ := gx_bs h
  refine gx_cV (As := [.int (x1)]) (rest := []) (b := b2) hX (tX0_shellAt w (gx_A X) (gx_l X) (b2) (σ) (x1) hr1) (lw_V q429 q431 qs3 q86 q432) ⟨rfl, dsX0_shellAt⟩ (by decide) (Nat.le_of_ble_eq_true rfl) (xk_rc hX (ci := 0) (by decide) (by decide) hkb) (by rw [eb]; rfl) (gx_w8 gx_k0 (Nat.le_of_ble_eq_true rfl)) dX0_of_2 ⟨Nat.le_refl _, Nat.le_refl _⟩ rfl ?_
  refine gx_astore_n hX dX0_of_5 (Nat.le_of_ble_eq_true rfl) gx_c1i (lv' := [some (va_rf (some x0)), some (.int (x1)), some (.int (x2)), some (va_rf (r1))]) rfl ?_
  refine gx_aload_n hX dX0_of_6 rfl ?_
  refine gx_ifnonnull (tgt := 12) hX dX0_of_7 (by decide) h (fun h => ?_) (fun h => ?_)
  · refine gx_iconst (v := (-1)) hX dX0_of_10 (by decide) ?_
    cases h
    exact gx_iret hX rfl dX0_of_11 rfl ⟨rfl, rfl⟩ (fun _ h => h)
  · refine gx_iload_n hX dX0_of_12 rfl ?_
    by_cases c0 : x2 = 0
    · rw [if_pos c0] at h
      refine gx_tsw (off := 39) (tgt := 52) hX dX0_of_13 (by decide) (by rw [c0]; decide) (by decide) ?_
      refine gx_aload_n hX dX0_of_52 rfl ?_
      refine xk_getiN hX 42 q338 rfl dX0_of_53 h (fun v3 h => ?_)
      cases h
      exact gx_iret hX rfl dX0_of_56 rfl ⟨rfl, rfl⟩ (fun _ h => h)
    · rw [if_neg c0] at h
      by_cases c1 : x2 = 1
      · rw [if_pos c1] at h
        refine gx_tsw (off := 44) (tgt := 57) hX dX0_of_13 (by decide) (by rw [c1]; decide) (by decide) ?_
        refine gx_aload_n hX dX0_of_57 rfl ?_
        refine xk_getiN hX 41 q334 rfl dX0_of_58 h (fun v4 h => ?_)
        cases h
        exact gx_iret hX rfl dX0_of_61 rfl ⟨rfl, rfl⟩ (fun _ h => h)
      · rw [if_neg c1] at h
        by_cases c2 : x2 = 2
        · rw [if_pos c2] at h
          refine gx_tsw (off := 49) (tgt := 62) hX dX0_of_13 (by decide) (by rw [c2]; decide) (by decide) ?_
          refine gx_aload_n hX dX0_of_62 rfl ?_
          refine xk_getiN hX 38 q327 rfl dX0_of_63 h (fun v5 h => ?_)
          cases h
          exact gx_iret hX rfl dX0_of_66 rfl ⟨rfl, rfl⟩ (fun _ h => h)
        · rw [if_neg c2] at h
          by_cases c3 : x2 = 3
          · rw [if_pos c3] at h
            refine gx_tsw (off := 54) (tgt := 67) hX dX0_of_13 (by decide) (by rw [c3]; decide) (by decide) ?_
            refine gx_aload_n hX dX0_of_67 rfl ?_
            refine xk_getiN hX 39 q329 rfl dX0_of_68 h (fun v6 h => ?_)
            cases h
            exact gx_iret hX rfl dX0_of_71 rfl ⟨rfl, rfl⟩ (fun _ h => h)
          · rw [if_neg c3] at h
            by_cases c4 : x2 = 4
            · rw [if_pos c4] at h
              refine gx_tsw (off := 59) (tgt := 72) hX dX0_of_13 (by decide) (by rw [c4]; decide) (by decide) ?_
              refine gx_aload_n hX dX0_of_72 rfl ?_
              refine xk_getiN hX 40 q331 rfl dX0_of_73 h (fun v7 h => ?_)
              cases h
              exact gx_iret hX rfl dX0_of_76 rfl ⟨rfl, rfl⟩ (fun _ h => h)
            · rw [if_neg c4] at h
              by_cases c5 : x2 = 5
              · rw [if_pos c5] at h
                refine gx_tsw (off := 64) (tgt := 77) hX dX0_of_13 (by decide) (by rw [c5]; decide) (by decide) ?_
                refine gx_aload_n hX dX0_of_77 rfl ?_
                refine xk_getrN hX 43 q341 rfl dX0_of_78 h (fun v8 h => ?_)
                refine gx_ifnonnull (tgt := 89) hX dX0_of_81 (by decide) h (fun h => ?_) (fun h => ?_)
                · refine gx_bipush (v := (-5)) hX dX0_of_84 (by decide) ?_
                  refine gx_goto (tgt := 96) hX dX0_of_86 (by decide) ?_
                  cases h
                  exact gx_iret hX rfl dX0_of_96 rfl ⟨rfl, rfl⟩ (fun _ h => h)
                · refine gx_aload_n hX dX0_of_89 rfl ?_
                  refine xk_getrN hX 43 q341 rfl dX0_of_90 h (fun v9 h => ?_)
                  refine xk_getiN hX 44 q549 rfl dX0_of_93 h (fun v10 h => ?_)
                  cases h
                  exact gx_iret hX rfl dX0_of_96 rfl ⟨rfl, rfl⟩ (fun _ h => h)
              · rw [if_neg c5] at h
                have e0 : (x2).toInt ≠ 0 := gx_nei c0
                have e1 : (x2).toInt ≠ 1 := gx_nei c1
                have e2 : (x2).toInt ≠ 2 := gx_nei c2
                have e3 : (x2).toInt ≠ 3 := gx_nei c3
                have e4 : (x2).toInt ≠ 4 := gx_nei c4
                have e5 : (x2).toInt ≠ 5 := gx_nei c5
                refine gx_tsw (off := 84) (tgt := 97) hX dX0_of_13 (by decide) (by unfold gx_to; rw [if_pos (by omega)]) (by decide) ?_
                refine gx_iconst (v := (-1)) hX dX0_of_97 (by decide) ?_
                cases h
                exact gx_iret hX rfl dX0_of_98 rfl ⟨rfl, rfl⟩ (fun _ h => h)
abbrev iX8_kind : gx_M := (RX8, "kind", cX8_kind, 1, some .int)
theorem dsX8_kind : gx_ds yX8_kind 0 := by decide +kernel
def fX8_kind (x0 : Nat) (σ : xk_C)  : Option (Int32) := some (2)
set_option maxHeartbeats 4000000 in
theorem tX8_kind (w : gw_W) (A : Nat → Prop) (l : Launch) (x0 : Nat) (σ : xk_C)  {r : Int32} (h : fX8_kind x0 σ = some r) : gx_T (gw_I w A) A l yX8_kind iX8_kind 1 [va_rf (some x0)] (xk_P A w σ) 0 0 (xk_P A w σ) (.returned (some (.int r))) := by
  refine gx_T.of (gw_I.inv w A) (by decide) ⟨rfl, rfl⟩ (gx_kR gx_k0) (Nat.le_of_ble_eq_true rfl) (fun X hl hAx hX => ?_)
  subst hl
  subst hAx
  show gx_G X (xk_P (gx_A X) w (σ)) 0 0 [some (va_rf (some x0))] 0 []
  unfold fX8_kind at h
  refine gx_iconst (v := 2) hX dX8_kind_0 (by decide) ?_
  cases h
  exact gx_iret hX rfl dX8_kind_1 rfl ⟨rfl, rfl⟩ (fun _ h => h)
abbrev iX5_isHoused : gx_M := (RX5, "isHoused", cX5_isHoused, 1, some .boolean)
theorem dsX5_isHoused : gx_ds yX5_isHoused 0 := by decide +kernel
def fX5_isHoused (x0 : Nat) (σ : xk_C)  : Option (Int32) := (xk_gr (σ) 53 (some x0)).bind fun v1 => if v1 = none then some (0) else (xk_gr (σ) 53 (some x0)).bind fun v2 => (xk_gi (σ) 42 (v2)).bind fun v3 => if v3 = 1 then some (1) else some (0)
set_option maxHeartbeats 4000000 in
theorem tX5_isHoused (w : gw_W) (A : Nat → Prop) (l : Launch) (x0 : Nat) (σ : xk_C)  {r : Int32} (h : fX5_isHoused x0 σ = some r) : gx_T (gw_I w A) A l yX5_isHoused iX5_isHoused 1 [va_rf (some x0)] (xk_P A w σ) 0 0 (xk_P A w σ) (.returned (some (.int r))) := by
  refine gx_T.of (gw_I.inv w A) (by decide) ⟨rfl, rfl⟩ (gx_kR gx_k0) (Nat.le_of_ble_eq_true rfl) (fun X hl hAx hX => ?_)
  subst hl
  subst hAx
  show gx_G X (xk_P (gx_A X) w (σ)) 0 0 [some (va_rf (some x0))] 0 []
  unfold fX5_isHoused at h
  refine gx_aload_n hX dX5_isHoused_0 rfl ?_
  refine xk_getr hX 53 q574 (fun _ h => h) rfl dX5_isHoused_1 h (fun v1 h => ?_)
  refine gx_ifnull (tgt := 22) hX dX5_isHoused_4 (by decide) h (fun h => ?_) (fun h => ?_)
  · refine gx_iconst (v := 0) hX dX5_isHoused_22 (by decide) ?_
    cases h
    exact gx_zret hX rfl rfl dX5_isHoused_23 rfl ⟨rfl, rfl⟩ (fun _ h => h)
  · refine gx_aload_n hX dX5_isHoused_7 rfl ?_
    refine xk_getr hX 53 q574 (fun _ h => h) rfl dX5_isHoused_8 h (fun v2 h => ?_)
    refine xk_getiN hX 42 q336 rfl dX5_isHoused_11 h (fun v3 h => ?_)
    refine gx_iconst (v := 1) hX dX5_isHoused_14 (by decide) ?_
    refine gx_icmp_ne (tgt := 22) hX dX5_isHoused_15 (by decide) h (fun h => ?_) (fun h => ?_)
    · refine gx_iconst (v := 1) hX dX5_isHoused_18 (by decide) ?_
      refine gx_goto (tgt := 23) hX dX5_isHoused_19 (by decide) ?_
      cases h
      exact gx_zret hX rfl rfl dX5_isHoused_23 rfl ⟨rfl, rfl⟩ (fun _ h => h)
    · refine gx_iconst (v := 0) hX dX5_isHoused_22 (by decide) ?_
      cases h
      exact gx_zret hX rfl rfl dX5_isHoused_23 rfl ⟨rfl, rfl⟩ (fun _ h => h)
abbrev iX4_fit : gx_M := (RX4, "fit", cX4_fit, 2, some .int)
theorem dsX4_fit : gx_ds yX4_fit 1 := by decide +kernel
def fX4_fit_B27 (x0 : Nat) (σ : xk_C)   (y0 : Int32) (y1 : Int32) : Option (Int32) := (xk_gi (σ) 40 (some x0)).bind fun v3 => (xk_gi (σ) 39 (some x0)).bind fun v4 => (gx_dv (v4) (4)).bind fun v5 => some ((((y1) - (y0)) - ((2) * (v3))) - (v5))
set_option maxHeartbeats 4000000 in
theorem tX4_fit_B27 {w : gw_W} {X : gx_X} {x0 : Nat} {σ : xk_C} {r : Int32} (hX : gx_O (gw_I w (gx_A X)) X iX4_fit 1 0 0 (xk_P (gx_A X) w σ) (.returned (some (.int r))))  {y0 : Int32} {y1 : Int32} (h : fX4_fit_B27 x0 σ y0 y1 = some r) : gx_G X (xk_P (gx_A X) w (σ)) 0 0 [some (va_rf (some x0)), none] 27 [.int (y0), .int (y1)] := by
  unfold fX4_fit_B27 at h
  refine gx_isub hX dX4_fit_27 ?_
  refine gx_iconst (v := 2) hX dX4_fit_28 (by decide) ?_
  refine gx_aload_n hX dX4_fit_29 rfl ?_
  refine xk_geti hX 40 q330 (fun _ h => h) rfl dX4_fit_30 h (fun v3 h => ?_)
  refine gx_imul hX dX4_fit_33 ?_
  refine gx_isub hX dX4_fit_34 ?_
  refine gx_aload_n hX dX4_fit_35 rfl ?_
  refine xk_geti hX 39 q328 (fun _ h => h) rfl dX4_fit_36 h (fun v4 h => ?_)
  refine gx_iconst (v := 4) hX dX4_fit_39 (by decide) ?_
  refine gx_idivP hX dX4_fit_40 h (fun v5 h => ?_)
  refine gx_isub hX dX4_fit_41 ?_
  cases h
  exact gx_iret hX rfl dX4_fit_42 rfl ⟨rfl, rfl⟩ (fun _ h => h)
def fX4_fit (x0 : Nat) (σ : xk_C) (x1 : Int32) : Option (Int32) := (xk_gi (σ) 38 (some x0)).bind fun v1 => if (v1) < x1 then (xk_gi (σ) 38 (some x0)).bind fun v2 => fX4_fit_B27 x0 σ ((3) * ((x1) - (v2))) (nI 30) else (xk_gi (σ) 38 (some x0)).bind fun v6 => fX4_fit_B27 x0 σ ((v6) - (x1)) (nI 30)
set_option maxHeartbeats 4000000 in
theorem tX4_fit (w : gw_W) (A : Nat → Prop) (l : Launch) (x0 : Nat) (σ : xk_C) (x1 : Int32) {r : Int32} (h : fX4_fit x0 σ x1 = some r) : gx_T (gw_I w A) A l yX4_fit iX4_fit 1 [va_rf (some x0), .int (x1)] (xk_P A w σ) 0 0 (xk_P A w σ) (.returned (some (.int r))) := by
  refine gx_T.of (gw_I.inv w A) (by decide) ⟨rfl, rfl⟩ (gx_kR (gx_kI gx_k0)) (Nat.le_of_ble_eq_true rfl) (fun X hl hAx hX => ?_)
  subst hl
  subst hAx
  show gx_G X (xk_P (gx_A X) w (σ)) 0 0 [some (va_rf (some x0)), some (.int (x1))] 0 []
  unfold fX4_fit at h
  refine gx_bipush (v := nI 30) hX dX4_fit_0 (by decide) ?_
  refine gx_aload_n hX dX4_fit_2 rfl ?_
  refine xk_geti hX 38 q326 (fun _ h => h) rfl dX4_fit_3 h (fun v1 h => ?_)
  refine gx_iload_n hX dX4_fit_6 rfl ?_
  refine gx_icmp_lt (tgt := 19) hX dX4_fit_7 (by decide) h (fun h => ?_) (fun h => ?_)
  · refine gx_iconst (v := 3) hX dX4_fit_19 (by decide) ?_
    refine gx_iload_n hX dX4_fit_20 rfl ?_
    refine gx_aload_n hX dX4_fit_21 rfl ?_
    refine xk_geti hX 38 q326 (fun _ h => h) rfl dX4_fit_22 h (fun v2 h => ?_)
    refine gx_isub hX dX4_fit_25 ?_
    refine gx_imul hX dX4_fit_26 ?_
    refine gx_sub hX (lv' := [some (va_rf (some x0)), none]) ⟨Or.inr rfl, ⟨Or.inl rfl, trivial⟩⟩ ?_
    exact tX4_fit_B27 hX  h
  · refine gx_aload_n hX dX4_fit_10 rfl ?_
    refine xk_geti hX 38 q326 (fun _ h => h) rfl dX4_fit_11 h (fun v6 h => ?_)
    refine gx_iload_n hX dX4_fit_14 rfl ?_
    refine gx_isub hX dX4_fit_15 ?_
    refine gx_goto (tgt := 27) hX dX4_fit_16 (by decide) ?_
    refine gx_sub hX (lv' := [some (va_rf (some x0)), none]) ⟨Or.inr rfl, ⟨Or.inl rfl, trivial⟩⟩ ?_
    exact tX4_fit_B27 hX  h
abbrev iX5_fit : gx_M := (RX5, "fit", cX5_fit, 1, some .int)
theorem dsX5_fit : gx_ds yX5_fit 0 := by decide +kernel
def fX5_fit (x0 : Nat) (σ : xk_C)  : Option (Int32) := (xk_gi (σ) 50 (some x0)).bind fun v1 => if v1 = 0 then (xk_is (σ) 6 (some x0)).bind fun b3 => (fX5_isHoused (b3) (σ)).bind fun r2 => if r2 = 0 then some ((-50)) else (xk_gr (σ) 53 (some x0)).bind fun v4 => (xk_gi (σ) 47 (some x0)).bind fun v5 => (xk_is (σ) 5 (v4)).bind fun b7 => (fX4_fit (b7) (σ) (v5)).bind fun r6 => some (r6) else some ((-100))
set_option maxHeartbeats 4000000 in
theorem tX5_fit (w : gw_W) (A : Nat → Prop) (l : Launch) (x0 : Nat) (σ : xk_C)  {r : Int32} (h : fX5_fit x0 σ = some r) : gx_T (gw_I w A) A l yX5_fit iX5_fit 2 [va_rf (some x0)] (xk_P A w σ) 0 0 (xk_P A w σ) (.returned (some (.int r))) := by
  refine gx_T.of (gw_I.inv w A) (by decide) ⟨rfl, rfl⟩ (gx_kR gx_k0) (Nat.le_of_ble_eq_true rfl) (fun X hl hAx hX => ?_)
  subst hl
  subst hAx
  show gx_G X (xk_P (gx_A X) w (σ)) 0 0 [some (va_rf (some x0))] 0 []
  unfold fX5_fit at h
  refine gx_aload_n hX dX5_fit_0 rfl ?_
  refine xk_geti hX 50 q565 (fun _ h => h) rfl dX5_fit_1 h (fun v1 h => ?_)
  refine gx_if_eq (tgt := 12) hX dX5_fit_4 (by decide) h (fun h => ?_) (fun h => ?_)
  · refine gx_aload_n hX dX5_fit_12 rfl ?_
    obtain ⟨b3, hb, h⟩ := gx_bs h
    obtain ⟨eb, hkb⟩ := xk_isS hb
    obtain ⟨r2, hr2, h⟩ := gx_bs h
    refine gx_cV (As := []) (rest := []) (b := b3) hX (tX5_isHoused w (gx_A X) (gx_l X) (b3) (σ)  hr2) (lw_V q647 q648 q649 q100 q650) ⟨rfl, dsX5_isHoused⟩ (by decide) (Nat.le_of_ble_eq_true rfl) (xk_rc hX (ci := 5) (by decide) (by decide) hkb) (by rw [eb]; rfl) (gx_w8 gx_k0 (Nat.le_of_ble_eq_true rfl)) dX5_fit_13 ⟨Nat.le_refl _, Nat.le_refl _⟩ rfl ?_
    refine gx_if_eq (tgt := 33) hX dX5_fit_16 (by decide) h (fun h => ?_) (fun h => ?_)
    · refine gx_bipush (v := (-50)) hX dX5_fit_33 (by decide) ?_
      cases h
      exact gx_iret hX rfl dX5_fit_35 rfl ⟨rfl, rfl⟩ (fun _ h => h)
    · refine gx_aload_n hX dX5_fit_19 rfl ?_
      refine xk_getr hX 53 q574 (fun _ h => h) rfl dX5_fit_20 h (fun v4 h => ?_)
      refine gx_aload_n hX dX5_fit_23 rfl ?_
      refine xk_geti hX 47 q554 (fun _ h => h) rfl dX5_fit_24 h (fun v5 h => ?_)
      obtain ⟨b7, hb, h⟩ := gx_bs h
      obtain ⟨eb, hkb⟩ := xk_isS hb
      obtain ⟨r6, hr6, h⟩ := gx_bs h
      refine gx_cV (As := [.int (v5)]) (rest := []) (b := b7) hX (tX4_fit w (gx_A X) (gx_l X) (b7) (σ) (v5) hr6) (lw_V q690 q691 q692 q93 q693) ⟨rfl, dsX4_fit⟩ (by decide) (Nat.le_of_ble_eq_true rfl) (xk_rc hX (ci := 4) (by decide) (by decide) hkb) (by rw [eb]; rfl) (gx_w8 gx_k0 (Nat.le_of_ble_eq_true rfl)) dX5_fit_27 ⟨Nat.le_refl _, Nat.le_refl _⟩ rfl ?_
      refine gx_goto (tgt := 35) hX dX5_fit_30 (by decide) ?_
      cases h
      exact gx_iret hX rfl dX5_fit_35 rfl ⟨rfl, rfl⟩ (fun _ h => h)
  · refine gx_bipush (v := (-100)) hX dX5_fit_7 (by decide) ?_
    refine gx_goto (tgt := 35) hX dX5_fit_9 (by decide) ?_
    cases h
    exact gx_iret hX rfl dX5_fit_35 rfl ⟨rfl, rfl⟩ (fun _ h => h)
abbrev iX5_isAhead : gx_M := (RX5, "isAhead", cX5_isAhead, 2, some .boolean)
theorem dsX5_isAhead : gx_ds yX5_isAhead 1 := by decide +kernel
def fX5_isAhead_B33 (x0 : Nat) (σ : xk_C)    : Option (Int32) := some (1)
set_option maxHeartbeats 4000000 in
theorem tX5_isAhead_B33 {w : gw_W} {X : gx_X} {x0 : Nat} {σ : xk_C} {r : Int32} (hX : gx_O (gw_I w (gx_A X)) X iX5_isAhead 1 0 0 (xk_P (gx_A X) w σ) (.returned (some (.int r))))   (h : fX5_isAhead_B33 x0 σ = some r) : gx_G X (xk_P (gx_A X) w (σ)) 0 0 [none, none] 33 [] := by
  unfold fX5_isAhead_B33 at h
  refine gx_iconst (v := 1) hX dX5_isAhead_33 (by decide) ?_
  refine gx_goto (tgt := 38) hX dX5_isAhead_34 (by decide) ?_
  cases h
  exact gx_zret hX rfl rfl dX5_isAhead_38 rfl ⟨rfl, rfl⟩ (fun _ h => h)
def fX5_isAhead (x0 : Nat) (σ : xk_C) (x1 : Option Nat) : Option (Int32) := (xk_gi (σ) 47 (some x0)).bind fun v1 => (xk_gi (σ) 47 (x1)).bind fun v2 => if (v2) < v1 then fX5_isAhead_B33 x0 σ else (xk_gi (σ) 47 (some x0)).bind fun v3 => (xk_gi (σ) 47 (x1)).bind fun v4 => if v3 = v4 then (xk_gi (σ) 44 (some x0)).bind fun v5 => (xk_gi (σ) 44 (x1)).bind fun v6 => if (v6) ≤ v5 then some (0) else fX5_isAhead_B33 x0 σ else some (0)
set_option maxHeartbeats 4000000 in
theorem tX5_isAhead (w : gw_W) (A : Nat → Prop) (l : Launch) (x0 : Nat) (σ : xk_C) (x1 : Option Nat) {r : Int32} (h : fX5_isAhead x0 σ x1 = some r) : gx_T (gw_I w A) A l yX5_isAhead iX5_isAhead 1 [va_rf (some x0), va_rf (x1)] (xk_P A w σ) 0 0 (xk_P A w σ) (.returned (some (.int r))) := by
  refine gx_T.of (gw_I.inv w A) (by decide) ⟨rfl, rfl⟩ (gx_kR (gx_kR gx_k0)) (Nat.le_of_ble_eq_true rfl) (fun X hl hAx hX => ?_)
  subst hl
  subst hAx
  show gx_G X (xk_P (gx_A X) w (σ)) 0 0 [some (va_rf (some x0)), some (va_rf (x1))] 0 []
  unfold fX5_isAhead at h
  refine gx_aload_n hX dX5_isAhead_0 rfl ?_
  refine xk_geti hX 47 q554 (fun _ h => h) rfl dX5_isAhead_1 h (fun v1 h => ?_)
  refine gx_aload_n hX dX5_isAhead_4 rfl ?_
  refine xk_geti hX 47 q554 (fun _ h => h) rfl dX5_isAhead_5 h (fun v2 h => ?_)
  refine gx_icmp_gt (tgt := 33) hX dX5_isAhead_8 (by decide) h (fun h => ?_) (fun h => ?_)
  · refine gx_sub hX (lv' := [none, none]) ⟨Or.inl rfl, ⟨Or.inl rfl, trivial⟩⟩ ?_
    exact tX5_isAhead_B33 hX  h
  · refine gx_aload_n hX dX5_isAhead_11 rfl ?_
    refine xk_geti hX 47 q554 (fun _ h => h) rfl dX5_isAhead_12 h (fun v3 h => ?_)
    refine gx_aload_n hX dX5_isAhead_15 rfl ?_
    refine xk_geti hX 47 q554 (fun _ h => h) rfl dX5_isAhead_16 h (fun v4 h => ?_)
    refine gx_icmp_ne (tgt := 37) hX dX5_isAhead_19 (by decide) h (fun h => ?_) (fun h => ?_)
    · refine gx_aload_n hX dX5_isAhead_22 rfl ?_
      refine xk_geti hX 44 q546 (fun _ h => h) rfl dX5_isAhead_23 h (fun v5 h => ?_)
      refine gx_aload_n hX dX5_isAhead_26 rfl ?_
      refine xk_geti hX 44 q546 (fun _ h => h) rfl dX5_isAhead_27 h (fun v6 h => ?_)
      refine gx_icmp_ge (tgt := 37) hX dX5_isAhead_30 (by decide) h (fun h => ?_) (fun h => ?_)
      · refine gx_iconst (v := 0) hX dX5_isAhead_37 (by decide) ?_
        cases h
        exact gx_zret hX rfl rfl dX5_isAhead_38 rfl ⟨rfl, rfl⟩ (fun _ h => h)
      · refine gx_sub hX (lv' := [none, none]) ⟨Or.inl rfl, ⟨Or.inl rfl, trivial⟩⟩ ?_
        exact tX5_isAhead_B33 hX  h
    · refine gx_iconst (v := 0) hX dX5_isAhead_37 (by decide) ?_
      cases h
      exact gx_zret hX rfl rfl dX5_isAhead_38 rfl ⟨rfl, rfl⟩ (fun _ h => h)
abbrev iX5_isWaiting : gx_M := (RX5, "isWaiting", cX5_isWaiting, 1, some .boolean)
theorem dsX5_isWaiting : gx_ds yX5_isWaiting 0 := by decide +kernel
def fX5_isWaiting (x0 : Nat) (σ : xk_C)  : Option (Int32) := (xk_is (σ) 6 (some x0)).bind fun b2 => (fX5_isHoused (b2) (σ)).bind fun r1 => if r1 = 0 then some (0) else (xk_gi (σ) 51 (some x0)).bind fun v3 => if v3 = 0 then some (0) else some (1)
set_option maxHeartbeats 4000000 in
theorem tX5_isWaiting (w : gw_W) (A : Nat → Prop) (l : Launch) (x0 : Nat) (σ : xk_C)  {r : Int32} (h : fX5_isWaiting x0 σ = some r) : gx_T (gw_I w A) A l yX5_isWaiting iX5_isWaiting 2 [va_rf (some x0)] (xk_P A w σ) 0 0 (xk_P A w σ) (.returned (some (.int r))) := by
  refine gx_T.of (gw_I.inv w A) (by decide) ⟨rfl, rfl⟩ (gx_kR gx_k0) (Nat.le_of_ble_eq_true rfl) (fun X hl hAx hX => ?_)
  subst hl
  subst hAx
  show gx_G X (xk_P (gx_A X) w (σ)) 0 0 [some (va_rf (some x0))] 0 []
  unfold fX5_isWaiting at h
  refine gx_aload_n hX dX5_isWaiting_0 rfl ?_
  obtain ⟨b2, hb, h⟩ := gx_bs h
  obtain ⟨eb, hkb⟩ := xk_isS hb
  obtain ⟨r1, hr1, h⟩ := gx_bs h
  refine gx_cV (As := []) (rest := []) (b := b2) hX (tX5_isHoused w (gx_A X) (gx_l X) (b2) (σ)  hr1) (lw_V q647 q648 q649 q100 q650) ⟨rfl, dsX5_isHoused⟩ (by decide) (Nat.le_of_ble_eq_true rfl) (xk_rc hX (ci := 5) (by decide) (by decide) hkb) (by rw [eb]; rfl) (gx_w8 gx_k0 (Nat.le_of_ble_eq_true rfl)) dX5_isWaiting_1 ⟨Nat.le_refl _, Nat.le_refl _⟩ rfl ?_
  refine gx_if_eq (tgt := 18) hX dX5_isWaiting_4 (by decide) h (fun h => ?_) (fun h => ?_)
  · refine gx_iconst (v := 0) hX dX5_isWaiting_18 (by decide) ?_
    cases h
    exact gx_zret hX rfl rfl dX5_isWaiting_19 rfl ⟨rfl, rfl⟩ (fun _ h => h)
  · refine gx_aload_n hX dX5_isWaiting_7 rfl ?_
    refine xk_geti hX 51 q568 (fun _ h => h) rfl dX5_isWaiting_8 h (fun v3 h => ?_)
    refine gx_if_eq (tgt := 18) hX dX5_isWaiting_11 (by decide) h (fun h => ?_) (fun h => ?_)
    · refine gx_iconst (v := 0) hX dX5_isWaiting_18 (by decide) ?_
      cases h
      exact gx_zret hX rfl rfl dX5_isWaiting_19 rfl ⟨rfl, rfl⟩ (fun _ h => h)
    · refine gx_iconst (v := 1) hX dX5_isWaiting_14 (by decide) ?_
      refine gx_goto (tgt := 19) hX dX5_isWaiting_15 (by decide) ?_
      cases h
      exact gx_zret hX rfl rfl dX5_isWaiting_19 rfl ⟨rfl, rfl⟩ (fun _ h => h)
abbrev iX0_isRowed : gx_M := (RX0, "isRowed", cX0_isRowed, 4, some .boolean)
theorem dsX0_isRowed : gx_ds yX0_isRowed 1 := by decide +kernel
def fX0_isRowed_B58 (N : Nat) (x0 : Nat) (σ : xk_C)  (K2 : Option Nat → Int32 → Option (Int32)) (x1 : Option Nat) (x2 : Int32) : Option (Int32) := K2 (x1) ((x2) + 1)
set_option maxHeartbeats 4000000 in
theorem tX0_isRowed_B58 {w : gw_W} {X : gx_X} {N : Nat} {x0 : Nat} {σ : xk_C} {r : Int32} (hX : gx_O (gw_I w (gx_A X)) X iX0_isRowed 5 0 0 (xk_P (gx_A X) w σ) (.returned (some (.int r)))) {K2 : Option Nat → Int32 → Option (Int32)} (hK2 : ∀ (x1 : Option Nat) (x2 : Int32), K2 x1 x2 = some r → gx_G X (xk_P (gx_A X) w (σ)) 0 0 [some (va_rf (some x0)), some (va_rf (x1)), some (.int (x2)), none] 2 []) {x1 : Option Nat} {x2 : Int32} (h : fX0_isRowed_B58 N x0 σ K2 x1 x2 = some r) : gx_G X (xk_P (gx_A X) w (σ)) 0 0 [some (va_rf (some x0)), some (va_rf (x1)), some (.int (x2)), none] 58 [] := by
  unfold fX0_isRowed_B58 at h
  refine gx_iinc (v := 1) hX dX0_isRowed_58 rfl (by decide) gx_c1r (lv' := [some (va_rf (some x0)), some (va_rf (x1)), some (.int ((x2) + 1)), none]) rfl ?_
  refine gx_goto (tgt := 2) hX dX0_isRowed_61 (by decide) ?_
  exact hK2 _ _ h
def fX0_isRowed_L2 (N : Nat) (x0 : Nat) (σ : xk_C)   : Nat → Option Nat → Int32 → Option (Int32)
  | 0, _, _ => none
  | k + 1, x1, x2 => (xk_gr (σ) 3 (some x0)).bind fun v1 => (xk_is (σ) 21 (v1)).bind fun b3 => (fJ2_size (b3) (σ)).bind fun r2 => if (r2) ≤ x2 then some (0) else (xk_gr (σ) 3 (some x0)).bind fun v4 => (xk_is (σ) 21 (v4)).bind fun b6 => (fJ2_get (b6) (σ) (x2)).bind fun r5 => (xk_ck (σ) 6 (r5)).bind fun u7 => if r5 = x1 then fX0_isRowed_B58 N x0 σ (fX0_isRowed_L2 N x0 σ k) (x1) (x2) else (xk_is (σ) 6 (r5)).bind fun b9 => (fX5_isWaiting (b9) (σ)).bind fun r8 => if r8 = 0 then fX0_isRowed_B58 N x0 σ (fX0_isRowed_L2 N x0 σ k) (x1) (x2) else (xk_gi (σ) 46 (r5)).bind fun v10 => (xk_gi (σ) 46 (x1)).bind fun v11 => if v10 = v11 then (xk_is (σ) 6 (r5)).bind fun b13 => (fX5_isAhead (b13) (σ) (x1)).bind fun r12 => if r12 = 0 then fX0_isRowed_B58 N x0 σ (fX0_isRowed_L2 N x0 σ k) (x1) (x2) else some (1) else fX0_isRowed_B58 N x0 σ (fX0_isRowed_L2 N x0 σ k) (x1) (x2)
set_option maxHeartbeats 4000000 in
theorem tX0_isRowed_L2 {w : gw_W} {X : gx_X} {N : Nat} {x0 : Nat} {σ : xk_C} {r : Int32} (hX : gx_O (gw_I w (gx_A X)) X iX0_isRowed 5 0 0 (xk_P (gx_A X) w σ) (.returned (some (.int r))))  : ∀ (k : Nat) (x1 : Option Nat) (x2 : Int32), fX0_isRowed_L2 N x0 σ k x1 x2 = some r → gx_G X (xk_P (gx_A X) w (σ)) 0 0 [some (va_rf (some x0)), some (va_rf (x1)), some (.int (x2)), none] 2 [] := by
  intro k
  induction k with
  | zero =>
    intro x1 x2 h
    unfold fX0_isRowed_L2 at h
    cases h
  | succ k ih =>
    intro x1 x2 h
    unfold fX0_isRowed_L2 at h
    refine gx_iload_n hX dX0_isRowed_2 rfl ?_
    refine gx_aload_n hX dX0_isRowed_3 rfl ?_
    refine xk_getr hX 3 q214 (fun _ h => h) rfl dX0_isRowed_4 h (fun v1 h => ?_)
    obtain ⟨b3, hb, h⟩ := gx_bs h
    obtain ⟨eb, hkb⟩ := xk_isS hb
    obtain ⟨r2, hr2, h⟩ := gx_bs h
    refine gx_cV (As := []) (rest := [.int (x2)]) (b := b3) hX (tJ2_size w (gx_A X) (gx_l X) (b3) (σ)  hr2) (lw_V q314 q315 q316 q89 q317) ⟨rfl, dsJ2_size⟩ (by decide) (Nat.le_of_ble_eq_true rfl) (xk_rc hX (ci := 20) (by decide) (by decide) hkb) (by rw [eb]; rfl) (gx_w8 (gx_kI gx_k0) (Nat.le_of_ble_eq_true rfl)) dX0_isRowed_7 ⟨Nat.le_refl _, Nat.le_refl _⟩ rfl ?_
    refine gx_icmp_ge (tgt := 64) hX dX0_isRowed_10 (by decide) h (fun h => ?_) (fun h => ?_)
    · refine gx_iconst (v := 0) hX dX0_isRowed_64 (by decide) ?_
      cases h
      exact gx_zret hX rfl rfl dX0_isRowed_65 rfl ⟨rfl, rfl⟩ (fun _ h => h)
    · refine gx_aload_n hX dX0_isRowed_13 rfl ?_
      refine xk_getr hX 3 q214 (fun _ h => h) rfl dX0_isRowed_14 h (fun v4 h => ?_)
      refine gx_iload_n hX dX0_isRowed_17 rfl ?_
      obtain ⟨b6, hb, h⟩ := gx_bs h
      obtain ⟨eb, hkb⟩ := xk_isS hb
      obtain ⟨r5, hr5, h⟩ := gx_bs h
      refine gx_cV (As := [.int (x2)]) (rest := []) (b := b6) hX (tJ2_get w (gx_A X) (gx_l X) (b6) (σ) (x2) hr5) (lw_V q433 q434 q435 q89 q436) ⟨rfl, dsJ2_get⟩ (by decide) (Nat.le_of_ble_eq_true rfl) (xk_rc hX (ci := 20) (by decide) (by decide) hkb) (by rw [eb]; rfl) (gx_w8 gx_k0 (Nat.le_of_ble_eq_true rfl)) dX0_isRowed_18 ⟨Nat.le_refl _, Nat.le_refl _⟩ rfl ?_
      refine xk_castC hX 5 ⟨by decide, by decide⟩ q204 dX0_isRowed_21 h (fun h => ?_)
      refine gx_astore_n hX dX0_isRowed_24 (Nat.le_of_ble_eq_true rfl) gx_c1i (lv' := [some (va_rf (some x0)), some (va_rf (x1)), some (.int (x2)), some (va_rf (r5))]) rfl ?_
      refine gx_aload_n hX dX0_isRowed_25 rfl ?_
      refine gx_aload_n hX dX0_isRowed_26 rfl ?_
      refine gx_acmp_eq (tgt := 58) hX dX0_isRowed_27 (by decide) h (fun h => ?_) (fun h => ?_)
      · refine gx_sub hX (lv' := [some (va_rf (some x0)), some (va_rf (x1)), some (.int (x2)), none]) ⟨Or.inr rfl, ⟨Or.inr rfl, ⟨Or.inr rfl, ⟨Or.inl rfl, trivial⟩⟩⟩⟩ ?_
        exact tX0_isRowed_B58 hX ih h
      · refine gx_aload_n hX dX0_isRowed_30 rfl ?_
        obtain ⟨b9, hb, h⟩ := gx_bs h
        obtain ⟨eb, hkb⟩ := xk_isS hb
        obtain ⟨r8, hr8, h⟩ := gx_bs h
        refine gx_cV (As := []) (rest := []) (b := b9) hX (tX5_isWaiting w (gx_A X) (gx_l X) (b9) (σ)  hr8) (lw_V q655 q656 q657 q100 q658) ⟨rfl, dsX5_isWaiting⟩ (by decide) (Nat.le_of_ble_eq_true rfl) (xk_rc hX (ci := 5) (by decide) (by decide) hkb) (by rw [eb]; rfl) (gx_w8 gx_k0 (Nat.le_of_ble_eq_true rfl)) dX0_isRowed_31 ⟨Nat.le_refl _, Nat.le_refl _⟩ rfl ?_
        refine gx_if_eq (tgt := 58) hX dX0_isRowed_34 (by decide) h (fun h => ?_) (fun h => ?_)
        · refine gx_sub hX (lv' := [some (va_rf (some x0)), some (va_rf (x1)), some (.int (x2)), none]) ⟨Or.inr rfl, ⟨Or.inr rfl, ⟨Or.inr rfl, ⟨Or.inl rfl, trivial⟩⟩⟩⟩ ?_
          exact tX0_isRowed_B58 hX ih h
        · refine gx_aload_n hX dX0_isRowed_37 rfl ?_
          refine xk_getiN hX 46 q553 rfl dX0_isRowed_38 h (fun v10 h => ?_)
          refine gx_aload_n hX dX0_isRowed_41 rfl ?_
          refine xk_getiN hX 46 q553 rfl dX0_isRowed_42 h (fun v11 h => ?_)
          refine gx_icmp_ne (tgt := 58) hX dX0_isRowed_45 (by decide) h (fun h => ?_) (fun h => ?_)
          · refine gx_aload_n hX dX0_isRowed_48 rfl ?_
            refine gx_aload_n hX dX0_isRowed_49 rfl ?_
            obtain ⟨b13, hb, h⟩ := gx_bs h
            obtain ⟨eb, hkb⟩ := xk_isS hb
            obtain ⟨r12, hr12, h⟩ := gx_bs h
            refine gx_cV (As := [va_rf (x1)]) (rest := []) (b := b13) hX (tX5_isAhead w (gx_A X) (gx_l X) (b13) (σ) (x1) hr12) (lw_V q659 q660 q661 q100 q662) ⟨rfl, dsX5_isAhead⟩ (by decide) (Nat.le_of_ble_eq_true rfl) (xk_rc hX (ci := 5) (by decide) (by decide) hkb) (by rw [eb]; rfl) (gx_w8 gx_k0 (Nat.le_of_ble_eq_true rfl)) dX0_isRowed_50 ⟨Nat.le_refl _, Nat.le_refl _⟩ rfl ?_
            refine gx_if_eq (tgt := 58) hX dX0_isRowed_53 (by decide) h (fun h => ?_) (fun h => ?_)
            · refine gx_sub hX (lv' := [some (va_rf (some x0)), some (va_rf (x1)), some (.int (x2)), none]) ⟨Or.inr rfl, ⟨Or.inr rfl, ⟨Or.inr rfl, ⟨Or.inl rfl, trivial⟩⟩⟩⟩ ?_
              exact tX0_isRowed_B58 hX ih h
            · refine gx_iconst (v := 1) hX dX0_isRowed_56 (by decide) ?_
              cases h
              exact gx_zret hX rfl rfl dX0_isRowed_57 rfl ⟨rfl, rfl⟩ (fun _ h => h)
          · refine gx_sub hX (lv' := [some (va_rf (some x0)), some (va_rf (x1)), some (.int (x2)), none]) ⟨Or.inr rfl, ⟨Or.inr rfl, ⟨Or.inr rfl, ⟨Or.inl rfl, trivial⟩⟩⟩⟩ ?_
            exact tX0_isRowed_B58 hX ih h
def fX0_isRowed (N : Nat) (x0 : Nat) (σ : xk_C) (x1 : Option Nat) : Option (Int32) := fX0_isRowed_L2 N x0 σ N (x1) (0)
set_option maxHeartbeats 4000000 in
theorem tX0_isRowed (w : gw_W) (A : Nat → Prop) (l : Launch) (N : Nat) (x0 : Nat) (σ : xk_C) (x1 : Option Nat) {r : Int32} (h : fX0_isRowed N x0 σ x1 = some r) : gx_T (gw_I w A) A l yX0_isRowed iX0_isRowed 5 [va_rf (some x0), va_rf (x1)] (xk_P A w σ) 0 0 (xk_P A w σ) (.returned (some (.int r))) := by
  refine gx_T.of (gw_I.inv w A) (by decide) ⟨rfl, rfl⟩ (gx_kR (gx_kR gx_k0)) (Nat.le_of_ble_eq_true rfl) (fun X hl hAx hX => ?_)
  subst hl
  subst hAx
  show gx_G X (xk_P (gx_A X) w (σ)) 0 0 [some (va_rf (some x0)), some (va_rf (x1)), none, none] 0 []
  unfold fX0_isRowed at h
  refine gx_iconst (v := 0) hX dX0_isRowed_0 (by decide) ?_
  refine gx_istore_n hX dX0_isRowed_1 (Nat.le_of_ble_eq_true rfl) gx_c1r (lv' := [some (va_rf (some x0)), some (va_rf (x1)), some (.int (0)), none]) rfl ?_
  exact tX0_isRowed_L2 hX  N _ _ h
abbrev iX5_way : gx_M := (RX5, "way", cX5_way, 1, some (.object "ShellBeach$Way"))
theorem dsX5_way : gx_ds yX5_way 0 := by decide +kernel
def fX5_way_B74 (N : Nat) (x0 : Nat) (σ : xk_C)   (y0 : Int32) (y1 : Option Nat) : Option (Option Nat) := (xk_lq (σ) 5 (y1) (y0)).bind fun v7 => some (v7)
set_option maxHeartbeats 4000000 in
theorem tX5_way_B74 {w : gw_W} {X : gx_X} {N : Nat} {x0 : Nat} {σ : xk_C} {r : Option Nat} (hX : gx_O (gw_I w (gx_A X)) X iX5_way 6 0 0 (xk_P (gx_A X) w σ) (.returned (some (va_rf r))))  {y0 : Int32} {y1 : Option Nat} (h : fX5_way_B74 N x0 σ y0 y1 = some r) : gx_G X (xk_P (gx_A X) w (σ)) 0 0 [none] 74 [.int (y0), va_rf (y1)] := by
  unfold fX5_way_B74 at h
  refine xk_aaload hX 5 ⟨by decide, by decide, rfl⟩ dX5_way_74 h (fun v7 h => ?_)
  cases h
  exact gx_aret hX rfl (Or.inl ⟨_, rfl⟩) dX5_way_75 rfl ⟨rfl, rfl⟩ (fun _ h => h)
def fX5_way_B56 (N : Nat) (x0 : Nat) (σ : xk_C)   (y0 : Int32) (y1 : Option Nat) : Option (Option Nat) := (xk_lq (σ) 5 (y1) (y0)).bind fun v12 => some (v12)
set_option maxHeartbeats 4000000 in
theorem tX5_way_B56 {w : gw_W} {X : gx_X} {N : Nat} {x0 : Nat} {σ : xk_C} {r : Option Nat} (hX : gx_O (gw_I w (gx_A X)) X iX5_way 6 0 0 (xk_P (gx_A X) w σ) (.returned (some (va_rf r))))  {y0 : Int32} {y1 : Option Nat} (h : fX5_way_B56 N x0 σ y0 y1 = some r) : gx_G X (xk_P (gx_A X) w (σ)) 0 0 [none] 56 [.int (y0), va_rf (y1)] := by
  unfold fX5_way_B56 at h
  refine xk_aaload hX 5 ⟨by decide, by decide, rfl⟩ dX5_way_56 h (fun v12 h => ?_)
  cases h
  exact gx_aret hX rfl (Or.inl ⟨_, rfl⟩) dX5_way_57 rfl ⟨rfl, rfl⟩ (fun _ h => h)
def fX5_way (N : Nat) (x0 : Nat) (σ : xk_C)  : Option (Option Nat) := (xk_gi (σ) 50 (some x0)).bind fun v1 => if v1 = 0 then (xk_is (σ) 6 (some x0)).bind fun b3 => (fX5_isHoused (b3) (σ)).bind fun r2 => if r2 = 0 then (xk_gr (σ) 45 (some x0)).bind fun v13 => (xk_lq (σ) 5 (v13) (2)).bind fun v14 => some (v14) else (xk_gi (σ) 51 (some x0)).bind fun v4 => if v4 = 0 then (xk_gr (σ) 45 (some x0)).bind fun v5 => (xk_gi (σ) 52 (some x0)).bind fun v6 => if v6 = 0 then fX5_way_B74 N x0 σ (1) (v5) else fX5_way_B74 N x0 σ (5) (v5) else (xk_gr (σ) 45 (some x0)).bind fun v8 => (xk_gr (σ) 56 (some x0)).bind fun v9 => (xk_is (σ) 1 (v9)).bind fun b11 => (fX0_isRowed N (b11) (σ) (some x0)).bind fun r10 => if r10 = 0 then fX5_way_B56 N x0 σ (3) (v8) else fX5_way_B56 N x0 σ (4) (v8) else (xk_gr (σ) 45 (some x0)).bind fun v15 => (xk_lq (σ) 5 (v15) (nI 6)).bind fun v16 => some (v16)
set_option maxHeartbeats 4000000 in
theorem tX5_way (w : gw_W) (A : Nat → Prop) (l : Launch) (N : Nat) (x0 : Nat) (σ : xk_C)  {r : Option Nat} (h : fX5_way N x0 σ = some r) : gx_T (gw_I w A) A l yX5_way iX5_way 6 [va_rf (some x0)] (xk_P A w σ) 0 0 (xk_P A w σ) (.returned (some (va_rf r))) := by
  refine gx_T.of (gw_I.inv w A) (by decide) ⟨rfl, rfl⟩ (gx_kR gx_k0) (Nat.le_of_ble_eq_true rfl) (fun X hl hAx hX => ?_)
  subst hl
  subst hAx
  show gx_G X (xk_P (gx_A X) w (σ)) 0 0 [some (va_rf (some x0))] 0 []
  unfold fX5_way at h
  refine gx_aload_n hX dX5_way_0 rfl ?_
  refine xk_geti hX 50 q565 (fun _ h => h) rfl dX5_way_1 h (fun v1 h => ?_)
  refine gx_if_eq (tgt := 15) hX dX5_way_4 (by decide) h (fun h => ?_) (fun h => ?_)
  · refine gx_aload_n hX dX5_way_15 rfl ?_
    obtain ⟨b3, hb, h⟩ := gx_bs h
    obtain ⟨eb, hkb⟩ := xk_isS hb
    obtain ⟨r2, hr2, h⟩ := gx_bs h
    refine gx_cV (As := []) (rest := []) (b := b3) hX (tX5_isHoused w (gx_A X) (gx_l X) (b3) (σ)  hr2) (lw_V q647 q648 q649 q100 q650) ⟨rfl, dsX5_isHoused⟩ (by decide) (Nat.le_of_ble_eq_true rfl) (xk_rc hX (ci := 5) (by decide) (by decide) hkb) (by rw [eb]; rfl) (gx_w8 gx_k0 (Nat.le_of_ble_eq_true rfl)) dX5_way_16 ⟨Nat.le_refl _, Nat.le_refl _⟩ rfl ?_
    refine gx_if_ne (tgt := 29) hX dX5_way_19 (by decide) h (fun h => ?_) (fun h => ?_)
    · refine gx_aload_n hX dX5_way_22 rfl ?_
      refine xk_getr hX 45 q550 (fun _ h => h) rfl dX5_way_23 h (fun v13 h => ?_)
      refine gx_iconst (v := 2) hX dX5_way_26 (by decide) ?_
      refine xk_aaload hX 5 ⟨by decide, by decide, rfl⟩ dX5_way_27 h (fun v14 h => ?_)
      cases h
      exact gx_aret hX rfl (Or.inl ⟨_, rfl⟩) dX5_way_28 rfl ⟨rfl, rfl⟩ (fun _ h => h)
    · refine gx_aload_n hX dX5_way_29 rfl ?_
      refine xk_geti hX 51 q568 (fun _ h => h) rfl dX5_way_30 h (fun v4 h => ?_)
      refine gx_if_eq (tgt := 58) hX dX5_way_33 (by decide) h (fun h => ?_) (fun h => ?_)
      · refine gx_aload_n hX dX5_way_58 rfl ?_
        refine xk_getr hX 45 q550 (fun _ h => h) rfl dX5_way_59 h (fun v5 h => ?_)
        refine gx_aload_n hX dX5_way_62 rfl ?_
        refine xk_geti hX 52 q571 (fun _ h => h) rfl dX5_way_63 h (fun v6 h => ?_)
        refine gx_if_eq (tgt := 73) hX dX5_way_66 (by decide) h (fun h => ?_) (fun h => ?_)
        · refine gx_iconst (v := 1) hX dX5_way_73 (by decide) ?_
          refine gx_sub hX (lv' := [none]) ⟨Or.inl rfl, trivial⟩ ?_
          exact tX5_way_B74 hX  h
        · refine gx_iconst (v := 5) hX dX5_way_69 (by decide) ?_
          refine gx_goto (tgt := 74) hX dX5_way_70 (by decide) ?_
          refine gx_sub hX (lv' := [none]) ⟨Or.inl rfl, trivial⟩ ?_
          exact tX5_way_B74 hX  h
      · refine gx_aload_n hX dX5_way_36 rfl ?_
        refine xk_getr hX 45 q550 (fun _ h => h) rfl dX5_way_37 h (fun v8 h => ?_)
        refine gx_aload_n hX dX5_way_40 rfl ?_
        refine xk_getr hX 56 q582 (fun _ h => h) rfl dX5_way_41 h (fun v9 h => ?_)
        refine gx_aload_n hX dX5_way_44 rfl ?_
        obtain ⟨b11, hb, h⟩ := gx_bs h
        obtain ⟨eb, hkb⟩ := xk_isS hb
        obtain ⟨r10, hr10, h⟩ := gx_bs h
        refine gx_cVN (As := [va_rf (some x0)]) (rest := [va_rf (v8)]) (b := b11) hX (tX0_isRowed w (gx_A X) (gx_l X) N (b11) (σ) (some x0) hr10) (lw_meth q654) (hX.2.2.2.2.2.2.2.1.2.1 _ (gw_xq q651 rfl)) ⟨q86, q653, qs6⟩ dsX0_isRowed (by decide) (Nat.le_of_ble_eq_true rfl) (xk_rc hX (ci := 0) (by decide) (by decide) hkb) (by rw [eb]; rfl) (gx_w8 (gx_kR gx_k0) (Nat.le_of_ble_eq_true rfl)) dX5_way_45 ⟨Nat.le_refl _, Nat.le_refl _⟩ rfl ?_
        refine gx_if_eq (tgt := 55) hX dX5_way_48 (by decide) h (fun h => ?_) (fun h => ?_)
        · refine gx_iconst (v := 3) hX dX5_way_55 (by decide) ?_
          refine gx_sub hX (lv' := [none]) ⟨Or.inl rfl, trivial⟩ ?_
          exact tX5_way_B56 hX  h
        · refine gx_iconst (v := 4) hX dX5_way_51 (by decide) ?_
          refine gx_goto (tgt := 56) hX dX5_way_52 (by decide) ?_
          refine gx_sub hX (lv' := [none]) ⟨Or.inl rfl, trivial⟩ ?_
          exact tX5_way_B56 hX  h
  · refine gx_aload_n hX dX5_way_7 rfl ?_
    refine xk_getr hX 45 q550 (fun _ h => h) rfl dX5_way_8 h (fun v15 h => ?_)
    refine gx_bipush (v := nI 6) hX dX5_way_11 (by decide) ?_
    refine xk_aaload hX 5 ⟨by decide, by decide, rfl⟩ dX5_way_13 h (fun v16 h => ?_)
    cases h
    exact gx_aret hX rfl (Or.inl ⟨_, rfl⟩) dX5_way_14 rfl ⟨rfl, rfl⟩ (fun _ h => h)
abbrev iX12_kind : gx_M := (RX12, "kind", cX12_kind, 1, some .int)
theorem dsX12_kind : gx_ds yX12_kind 0 := by decide +kernel
def fX12_kind (x0 : Nat) (σ : xk_C)  : Option (Int32) := some (nI 6)
set_option maxHeartbeats 4000000 in
theorem tX12_kind (w : gw_W) (A : Nat → Prop) (l : Launch) (x0 : Nat) (σ : xk_C)  {r : Int32} (h : fX12_kind x0 σ = some r) : gx_T (gw_I w A) A l yX12_kind iX12_kind 1 [va_rf (some x0)] (xk_P A w σ) 0 0 (xk_P A w σ) (.returned (some (.int r))) := by
  refine gx_T.of (gw_I.inv w A) (by decide) ⟨rfl, rfl⟩ (gx_kR gx_k0) (Nat.le_of_ble_eq_true rfl) (fun X hl hAx hX => ?_)
  subst hl
  subst hAx
  show gx_G X (xk_P (gx_A X) w (σ)) 0 0 [some (va_rf (some x0))] 0 []
  unfold fX12_kind at h
  refine gx_bipush (v := nI 6) hX dX12_kind_0 (by decide) ?_
  cases h
  exact gx_iret hX rfl dX12_kind_2 rfl ⟨rfl, rfl⟩ (fun _ h => h)
