set_option maxRecDepth 100000
abbrev iX0_goTick : gx_M := (RX0, "goTick", cX0_goTick, 3, none)
theorem dsX0_goTick : gx_ds yX0_goTick 0 := by decide +kernel
def fX0_goTick_B188 (N : Nat) (x0 : Nat)  (K134 : xk_C → Int32 → Option (xk_C × Unit)) (σ : xk_C) (x1 : Int32) : Option (xk_C × Unit) := K134 (σ) ((x1) + 1)
set_option maxHeartbeats 4000000 in
theorem eX0_goTick_B188 {r : xk_C × Unit} {N : Nat} {x0 : Nat} {K134 : xk_C → Int32 → Option (xk_C × Unit)} (hL134 : ∀ (σ : xk_C) (x1 : Int32), xk_er r σ (K134 σ x1)) {σ : xk_C} {x1 : Int32} : xk_er r σ (fX0_goTick_B188 N x0 K134 σ x1) := by
  unfold fX0_goTick_B188
  exact (hL134 _ _)
set_option maxHeartbeats 4000000 in
theorem tX0_goTick_B188 {w : gw_W} {X : gx_X} {N : Nat} {x0 : Nat} {r : xk_C × Unit} (hX : gx_O (gw_I w (gx_A X)) X iX0_goTick 138 0 0 (xk_P (gx_A X) w r.1) (.returned none)) {K134 : xk_C → Int32 → Option (xk_C × Unit)} (hK134 : ∀ (σ : xk_C) (x1 : Int32), K134 σ x1 = some r → gx_G X (xk_P (gx_A X) w (σ)) 0 0 [some (va_rf (some x0)), some (.int (x1)), none] 134 []) {σ : xk_C} {x1 : Int32} (h : fX0_goTick_B188 N x0 K134 σ x1 = some r) : gx_G X (xk_P (gx_A X) w (σ)) 0 0 [some (va_rf (some x0)), some (.int (x1)), none] 188 [] := by
  unfold fX0_goTick_B188 at h
  refine gx_iinc (v := 1) hX dX0_goTick_188 rfl (by decide) gx_c1r (lv' := [some (va_rf (some x0)), some (.int ((x1) + 1)), none]) rfl ?_
  refine gx_goto (tgt := 134) hX dX0_goTick_191 (by decide) ?_
  exact hK134 _ _ h
def fX0_goTick_L134 (N : Nat) (x0 : Nat)   : Nat → xk_C → Int32 → Option (xk_C × Unit)
  | 0, _, _ => none
  | k + 1, σ, x1 => (xk_gr (σ) 3 (some x0)).bind fun v13 => (xk_is (σ) 21 (v13)).bind fun b15 => (fJ2_size (b15) (σ)).bind fun r14 => if (r14) ≤ x1 then some (σ, ()) else (xk_gr (σ) 3 (some x0)).bind fun v16 => (xk_is (σ) 21 (v16)).bind fun b18 => (fJ2_get (b18) (σ) (x1)).bind fun r17 => (xk_ck (σ) 6 (r17)).bind fun u19 => (xk_is (σ) 6 (r17)).bind fun b21 => (fX5_isHoused (b21) (σ)).bind fun r20 => if r20 = 0 then fX0_goTick_B188 N x0 (fX0_goTick_L134 N x0 k) (σ) (x1) else (xk_is (σ) 6 (r17)).bind fun b23 => (fX5_fit (b23) (σ)).bind fun r22 => if (r22) < nI 10 then fX0_goTick_B188 N x0 (fX0_goTick_L134 N x0 k) (σ) (x1) else (xk_gi (σ) 47 (r17)).bind fun v24 => (some (if ((v24) + (1)) < (nI 40) then ((v24) + (1)) else (nI 40))).bind fun v25 => (xk_pi (σ) 47 (r17) (v25)).bind fun σ26 => fX0_goTick_B188 N x0 (fX0_goTick_L134 N x0 k) (σ26) (x1)
set_option maxHeartbeats 4000000 in
theorem eX0_goTick_L134 {r : xk_C × Unit} {N : Nat} {x0 : Nat}   : ∀ (k : Nat) (σ : xk_C) (x1 : Int32), xk_er r σ (fX0_goTick_L134 N x0 k σ x1) := by
  intro k
  induction k with
  | zero =>
    intro σ x1
    unfold fX0_goTick_L134
    exact xk_er_none
  | succ k hL134 =>
    intro σ x1
    unfold fX0_goTick_L134
    exact (xk_er_rd (fun _ => (xk_er_rd (fun _ => (xk_er_rd (fun _ => (xk_er_ite xk_er_ret (xk_er_rd (fun _ => (xk_er_rd (fun _ => (xk_er_rd (fun _ => (xk_er_rd (fun _ => (xk_er_rd (fun _ => (xk_er_rd (fun _ => (xk_er_ite (eX0_goTick_B188 hL134) (xk_er_rd (fun _ => (xk_er_rd (fun _ => (xk_er_ite (eX0_goTick_B188 hL134) (xk_er_rd (fun _ => (xk_er_rd (fun _ => (xk_er_op xk_e_pi (fun _ => (eX0_goTick_B188 hL134))))))))))))))))))))))))))))))))
set_option maxHeartbeats 4000000 in
theorem tX0_goTick_L134 {w : gw_W} {X : gx_X} {N : Nat} {x0 : Nat} {r : xk_C × Unit} (hX : gx_O (gw_I w (gx_A X)) X iX0_goTick 138 0 0 (xk_P (gx_A X) w r.1) (.returned none))  : ∀ (k : Nat) (σ : xk_C) (x1 : Int32), fX0_goTick_L134 N x0 k σ x1 = some r → gx_G X (xk_P (gx_A X) w (σ)) 0 0 [some (va_rf (some x0)), some (.int (x1)), none] 134 [] := by
  intro k
  induction k with
  | zero =>
    intro σ x1 h
    unfold fX0_goTick_L134 at h
    cases h
  | succ k ih =>
    intro σ x1 h
    unfold fX0_goTick_L134 at h
    refine gx_iload_n hX dX0_goTick_134 rfl ?_
    refine gx_aload_n hX dX0_goTick_135 rfl ?_
    refine xk_getr hX 3 q214 (fun _ h => h) rfl dX0_goTick_136 h (fun v13 h => ?_)
    obtain ⟨b15, hb, h⟩ := gx_bs h
    obtain ⟨eb, hkb⟩ := xk_isS hb
    obtain ⟨r14, hr14, h⟩ := gx_bs h
    refine gx_cV (As := []) (rest := [.int (x1)]) (b := b15) hX (tJ2_size w (gx_A X) (gx_l X) (b15) (σ)  hr14) (lw_V q314 q315 q316 q89 q317) ⟨rfl, dsJ2_size⟩ (by decide) (Nat.le_of_ble_eq_true rfl) (xk_rc hX (ci := 20) (by decide) (by decide) hkb) (by rw [eb]; rfl) (gx_w8 (gx_kI gx_k0) (Nat.le_of_ble_eq_true rfl)) dX0_goTick_139 ⟨Nat.le_refl _, Nat.le_refl _⟩ rfl ?_
    refine gx_icmp_ge (tgt := 194) hX dX0_goTick_142 (by decide) h (fun h => ?_) (fun h => ?_)
    · cases h
      exact gx_vret hX rfl dX0_goTick_194 rfl ⟨rfl, rfl⟩ (fun _ h => h)
    · refine gx_aload_n hX dX0_goTick_145 rfl ?_
      refine xk_getr hX 3 q214 (fun _ h => h) rfl dX0_goTick_146 h (fun v16 h => ?_)
      refine gx_iload_n hX dX0_goTick_149 rfl ?_
      obtain ⟨b18, hb, h⟩ := gx_bs h
      obtain ⟨eb, hkb⟩ := xk_isS hb
      obtain ⟨r17, hr17, h⟩ := gx_bs h
      refine gx_cV (As := [.int (x1)]) (rest := []) (b := b18) hX (tJ2_get w (gx_A X) (gx_l X) (b18) (σ) (x1) hr17) (lw_V q433 q434 q435 q89 q436) ⟨rfl, dsJ2_get⟩ (by decide) (Nat.le_of_ble_eq_true rfl) (xk_rc hX (ci := 20) (by decide) (by decide) hkb) (by rw [eb]; rfl) (gx_w8 gx_k0 (Nat.le_of_ble_eq_true rfl)) dX0_goTick_150 ⟨Nat.le_refl _, Nat.le_refl _⟩ rfl ?_
      refine xk_castC hX 5 ⟨by decide, by decide⟩ q204 dX0_goTick_153 h (fun h => ?_)
      refine gx_astore_n hX dX0_goTick_156 (Nat.le_of_ble_eq_true rfl) gx_c1i (lv' := [some (va_rf (some x0)), some (.int (x1)), some (va_rf (r17))]) rfl ?_
      refine gx_aload_n hX dX0_goTick_157 rfl ?_
      obtain ⟨b21, hb, h⟩ := gx_bs h
      obtain ⟨eb, hkb⟩ := xk_isS hb
      obtain ⟨r20, hr20, h⟩ := gx_bs h
      refine gx_cV (As := []) (rest := []) (b := b21) hX (tX5_isHoused w (gx_A X) (gx_l X) (b21) (σ)  hr20) (lw_V q982 q648 q649 q100 q650) ⟨rfl, dsX5_isHoused⟩ (by decide) (Nat.le_of_ble_eq_true rfl) (xk_rc hX (ci := 5) (by decide) (by decide) hkb) (by rw [eb]; rfl) (gx_w8 gx_k0 (Nat.le_of_ble_eq_true rfl)) dX0_goTick_158 ⟨Nat.le_refl _, Nat.le_refl _⟩ rfl ?_
      refine gx_if_eq (tgt := 188) hX dX0_goTick_161 (by decide) h (fun h => ?_) (fun h => ?_)
      · refine gx_sub hX (lv' := [some (va_rf (some x0)), some (.int (x1)), none]) ⟨Or.inr rfl, ⟨Or.inr rfl, ⟨Or.inl rfl, trivial⟩⟩⟩ ?_
        exact tX0_goTick_B188 hX ih h
      · refine gx_aload_n hX dX0_goTick_164 rfl ?_
        obtain ⟨b23, hb, h⟩ := gx_bs h
        obtain ⟨eb, hkb⟩ := xk_isS hb
        obtain ⟨r22, hr22, h⟩ := gx_bs h
        refine gx_cV (As := []) (rest := []) (b := b23) hX (tX5_fit w (gx_A X) (gx_l X) (b23) (σ)  hr22) (lw_V q686 q687 q688 q100 q689) ⟨rfl, dsX5_fit⟩ (by decide) (Nat.le_of_ble_eq_true rfl) (xk_rc hX (ci := 5) (by decide) (by decide) hkb) (by rw [eb]; rfl) (gx_w8 gx_k0 (Nat.le_of_ble_eq_true rfl)) dX0_goTick_165 ⟨Nat.le_refl _, Nat.le_refl _⟩ rfl ?_
        refine gx_bipush (v := nI 10) hX dX0_goTick_168 (by decide) ?_
        refine gx_icmp_lt (tgt := 188) hX dX0_goTick_170 (by decide) h (fun h => ?_) (fun h => ?_)
        · refine gx_sub hX (lv' := [some (va_rf (some x0)), some (.int (x1)), none]) ⟨Or.inr rfl, ⟨Or.inr rfl, ⟨Or.inl rfl, trivial⟩⟩⟩ ?_
          exact tX0_goTick_B188 hX ih h
        · refine gx_aload_n hX dX0_goTick_173 rfl ?_
          refine gx_bipush (v := nI 40) hX dX0_goTick_174 (by decide) ?_
          refine gx_aload_n hX dX0_goTick_176 rfl ?_
          refine xk_getiN hX 47 q557 rfl dX0_goTick_177 h (fun v24 h => ?_)
          refine gx_iconst (v := 1) hX dX0_goTick_180 (by decide) ?_
          refine gx_iadd hX dX0_goTick_181 ?_
          obtain ⟨v25, hvv25, h⟩ := gx_bs h
          refine gx_mmin hX ⟨q1002, q418, q95, q419⟩ (by decide) (gx_w8 (gx_kR gx_k0) (Nat.le_of_ble_eq_true rfl)) rfl dX0_goTick_182 ⟨Nat.le_refl _, Nat.le_refl _⟩ ?_
          rw [Option.some.inj hvv25]
          refine xk_putiN hX 47 xk_ty47 rfl q557 rfl rfl dX0_goTick_185 h (fun σ26 hτ h => ?_)
          refine gx_sub hX (lv' := [some (va_rf (some x0)), some (.int (x1)), none]) ⟨Or.inr rfl, ⟨Or.inr rfl, ⟨Or.inl rfl, trivial⟩⟩⟩ ?_
          exact tX0_goTick_B188 hX ih h
def fX0_goTick_B96 (N : Nat) (x0 : Nat)  (K54 : xk_C → Int32 → Option (xk_C × Unit)) (σ : xk_C) (x1 : Int32) : Option (xk_C × Unit) := K54 (σ) ((x1) + 1)
set_option maxHeartbeats 4000000 in
theorem eX0_goTick_B96 {r : xk_C × Unit} {N : Nat} {x0 : Nat} {K54 : xk_C → Int32 → Option (xk_C × Unit)} (hL54 : ∀ (σ : xk_C) (x1 : Int32), xk_er r σ (K54 σ x1)) {σ : xk_C} {x1 : Int32} : xk_er r σ (fX0_goTick_B96 N x0 K54 σ x1) := by
  unfold fX0_goTick_B96
  exact (hL54 _ _)
set_option maxHeartbeats 4000000 in
theorem tX0_goTick_B96 {w : gw_W} {X : gx_X} {N : Nat} {x0 : Nat} {r : xk_C × Unit} (hX : gx_O (gw_I w (gx_A X)) X iX0_goTick 138 0 0 (xk_P (gx_A X) w r.1) (.returned none)) {K54 : xk_C → Int32 → Option (xk_C × Unit)} (hK54 : ∀ (σ : xk_C) (x1 : Int32), K54 σ x1 = some r → gx_G X (xk_P (gx_A X) w (σ)) 0 0 [some (va_rf (some x0)), some (.int (x1)), none] 54 []) {σ : xk_C} {x1 : Int32} (h : fX0_goTick_B96 N x0 K54 σ x1 = some r) : gx_G X (xk_P (gx_A X) w (σ)) 0 0 [some (va_rf (some x0)), some (.int (x1)), none] 96 [] := by
  unfold fX0_goTick_B96 at h
  refine gx_iinc (v := 1) hX dX0_goTick_96 rfl (by decide) gx_c1r (lv' := [some (va_rf (some x0)), some (.int ((x1) + 1)), none]) rfl ?_
  refine gx_goto (tgt := 54) hX dX0_goTick_99 (by decide) ?_
  exact hK54 _ _ h
def fX0_goTick_L54 (N : Nat) (x0 : Nat)   : Nat → xk_C → Int32 → Option (xk_C × Unit)
  | 0, _, _ => none
  | k + 1, σ, x1 => (xk_gr (σ) 3 (some x0)).bind fun v4 => (xk_is (σ) 21 (v4)).bind fun b6 => (fJ2_size (b6) (σ)).bind fun r5 => if (r5) ≤ x1 then (xk_gi (σ) 4 (some x0)).bind fun v7 => (xk_pi (σ) 4 (some x0) ((v7) + (1))).bind fun σ8 => (xk_gi (σ8) 6 (some x0)).bind fun v9 => if v9 = 0 then some (σ8, ()) else (xk_gi (σ8) 4 (some x0)).bind fun v10 => (xk_gi (σ8) 6 (some x0)).bind fun v11 => (gx_rm (v10) (v11)).bind fun v12 => if v12 = 0 then fX0_goTick_L134 N x0 N (σ8) (0) else some (σ8, ()) else (xk_gr (σ) 3 (some x0)).bind fun v27 => (xk_is (σ) 21 (v27)).bind fun b29 => (fJ2_get (b29) (σ) (x1)).bind fun r28 => (xk_ck (σ) 6 (r28)).bind fun u30 => (xk_is (σ) 6 (r28)).bind fun b32 => (fX5_isHoused (b32) (σ)).bind fun r31 => if r31 = 0 then fX0_goTick_B96 N x0 (fX0_goTick_L54 N x0 k) (σ) (x1) else (xk_gr (σ) 3 (some x0)).bind fun v33 => (xk_is (σ) 21 (v33)).bind fun b35 => (fJ2_get (b35) (σ) (x1)).bind fun r34 => (xk_ck (σ) 6 (r34)).bind fun u36 => (xk_is (σ) 6 (r34)).bind fun b38 => (fX5_act N (b38) (σ)).bind fun r37 => fX0_goTick_B96 N x0 (fX0_goTick_L54 N x0 k) (r37.1) (x1)
set_option maxHeartbeats 4000000 in
theorem eX0_goTick_L54 {r : xk_C × Unit} {N : Nat} {x0 : Nat}   : ∀ (k : Nat) (σ : xk_C) (x1 : Int32), xk_er r σ (fX0_goTick_L54 N x0 k σ x1) := by
  intro k
  induction k with
  | zero =>
    intro σ x1
    unfold fX0_goTick_L54
    exact xk_er_none
  | succ k hL54 =>
    intro σ x1
    unfold fX0_goTick_L54
    exact (xk_er_rd (fun _ => (xk_er_rd (fun _ => (xk_er_rd (fun _ => (xk_er_ite (xk_er_rd (fun _ => (xk_er_op xk_e_pi (fun _ => (xk_er_rd (fun _ => (xk_er_ite xk_er_ret (xk_er_rd (fun _ => (xk_er_rd (fun _ => (xk_er_rd (fun _ => (xk_er_ite (eX0_goTick_L134  N _ _) xk_er_ret)))))))))))))) (xk_er_rd (fun _ => (xk_er_rd (fun _ => (xk_er_rd (fun _ => (xk_er_rd (fun _ => (xk_er_rd (fun _ => (xk_er_rd (fun _ => (xk_er_ite (eX0_goTick_B96 hL54) (xk_er_rd (fun _ => (xk_er_rd (fun _ => (xk_er_rd (fun _ => (xk_er_rd (fun _ => (xk_er_rd (fun _ => (xk_er_ca (eX5_act) (fun _ => (eX0_goTick_B96 hL54)))))))))))))))))))))))))))))))))
set_option maxHeartbeats 4000000 in
theorem tX0_goTick_L54 {w : gw_W} {X : gx_X} {N : Nat} {x0 : Nat} {r : xk_C × Unit} (hX : gx_O (gw_I w (gx_A X)) X iX0_goTick 138 0 0 (xk_P (gx_A X) w r.1) (.returned none))  : ∀ (k : Nat) (σ : xk_C) (x1 : Int32), fX0_goTick_L54 N x0 k σ x1 = some r → gx_G X (xk_P (gx_A X) w (σ)) 0 0 [some (va_rf (some x0)), some (.int (x1)), none] 54 [] := by
  intro k
  induction k with
  | zero =>
    intro σ x1 h
    unfold fX0_goTick_L54 at h
    cases h
  | succ k ih =>
    intro σ x1 h
    unfold fX0_goTick_L54 at h
    refine gx_iload_n hX dX0_goTick_54 rfl ?_
    refine gx_aload_n hX dX0_goTick_55 rfl ?_
    refine xk_getr hX 3 q214 (fun _ h => h) rfl dX0_goTick_56 h (fun v4 h => ?_)
    obtain ⟨b6, hb, h⟩ := gx_bs h
    obtain ⟨eb, hkb⟩ := xk_isS hb
    obtain ⟨r5, hr5, h⟩ := gx_bs h
    refine gx_cV (As := []) (rest := [.int (x1)]) (b := b6) hX (tJ2_size w (gx_A X) (gx_l X) (b6) (σ)  hr5) (lw_V q314 q315 q316 q89 q317) ⟨rfl, dsJ2_size⟩ (by decide) (Nat.le_of_ble_eq_true rfl) (xk_rc hX (ci := 20) (by decide) (by decide) hkb) (by rw [eb]; rfl) (gx_w8 (gx_kI gx_k0) (Nat.le_of_ble_eq_true rfl)) dX0_goTick_59 ⟨Nat.le_refl _, Nat.le_refl _⟩ rfl ?_
    refine gx_icmp_ge (tgt := 102) hX dX0_goTick_62 (by decide) h (fun h => ?_) (fun h => ?_)
    · refine gx_aload_n hX dX0_goTick_102 rfl ?_
      refine gx_dup hX dX0_goTick_103 (gx_cat _) ?_
      refine xk_geti hX 4 q217 (fun _ h => h) rfl dX0_goTick_104 h (fun v7 h => ?_)
      refine gx_iconst (v := 1) hX dX0_goTick_107 (by decide) ?_
      refine gx_iadd hX dX0_goTick_108 ?_
      refine xk_puti hX 4 xk_ty4 rfl q217 (fun _ h => h) rfl rfl dX0_goTick_109 h (fun σ8 hτ h => ?_)
      refine gx_aload_n hX dX0_goTick_112 rfl ?_
      refine xk_geti hX 6 q222 (fun _ h => h) rfl dX0_goTick_113 h (fun v9 h => ?_)
      refine gx_if_eq (tgt := 131) hX dX0_goTick_116 (by decide) h (fun h => ?_) (fun h => ?_)
      · cases h
        exact gx_vret hX rfl dX0_goTick_131 rfl ⟨rfl, rfl⟩ (fun _ h => h)
      · refine gx_aload_n hX dX0_goTick_119 rfl ?_
        refine xk_geti hX 4 q217 (fun _ h => h) rfl dX0_goTick_120 h (fun v10 h => ?_)
        refine gx_aload_n hX dX0_goTick_123 rfl ?_
        refine xk_geti hX 6 q222 (fun _ h => h) rfl dX0_goTick_124 h (fun v11 h => ?_)
        refine gx_iremP hX dX0_goTick_127 h (fun v12 h => ?_)
        refine gx_if_eq (tgt := 132) hX dX0_goTick_128 (by decide) h (fun h => ?_) (fun h => ?_)
        · refine gx_iconst (v := 0) hX dX0_goTick_132 (by decide) ?_
          refine gx_istore_n hX dX0_goTick_133 (Nat.le_of_ble_eq_true rfl) gx_c1r (lv' := [some (va_rf (some x0)), some (.int (0)), none]) rfl ?_
          exact tX0_goTick_L134 hX  N _ _ h
        · cases h
          exact gx_vret hX rfl dX0_goTick_131 rfl ⟨rfl, rfl⟩ (fun _ h => h)
    · refine gx_aload_n hX dX0_goTick_65 rfl ?_
      refine xk_getr hX 3 q214 (fun _ h => h) rfl dX0_goTick_66 h (fun v27 h => ?_)
      refine gx_iload_n hX dX0_goTick_69 rfl ?_
      obtain ⟨b29, hb, h⟩ := gx_bs h
      obtain ⟨eb, hkb⟩ := xk_isS hb
      obtain ⟨r28, hr28, h⟩ := gx_bs h
      refine gx_cV (As := [.int (x1)]) (rest := []) (b := b29) hX (tJ2_get w (gx_A X) (gx_l X) (b29) (σ) (x1) hr28) (lw_V q433 q434 q435 q89 q436) ⟨rfl, dsJ2_get⟩ (by decide) (Nat.le_of_ble_eq_true rfl) (xk_rc hX (ci := 20) (by decide) (by decide) hkb) (by rw [eb]; rfl) (gx_w8 gx_k0 (Nat.le_of_ble_eq_true rfl)) dX0_goTick_70 ⟨Nat.le_refl _, Nat.le_refl _⟩ rfl ?_
      refine xk_castC hX 5 ⟨by decide, by decide⟩ q204 dX0_goTick_73 h (fun h => ?_)
      obtain ⟨b32, hb, h⟩ := gx_bs h
      obtain ⟨eb, hkb⟩ := xk_isS hb
      obtain ⟨r31, hr31, h⟩ := gx_bs h
      refine gx_cV (As := []) (rest := []) (b := b32) hX (tX5_isHoused w (gx_A X) (gx_l X) (b32) (σ)  hr31) (lw_V q982 q648 q649 q100 q650) ⟨rfl, dsX5_isHoused⟩ (by decide) (Nat.le_of_ble_eq_true rfl) (xk_rc hX (ci := 5) (by decide) (by decide) hkb) (by rw [eb]; rfl) (gx_w8 gx_k0 (Nat.le_of_ble_eq_true rfl)) dX0_goTick_76 ⟨Nat.le_refl _, Nat.le_refl _⟩ rfl ?_
      refine gx_if_eq (tgt := 96) hX dX0_goTick_79 (by decide) h (fun h => ?_) (fun h => ?_)
      · exact tX0_goTick_B96 hX ih h
      · refine gx_aload_n hX dX0_goTick_82 rfl ?_
        refine xk_getr hX 3 q214 (fun _ h => h) rfl dX0_goTick_83 h (fun v33 h => ?_)
        refine gx_iload_n hX dX0_goTick_86 rfl ?_
        obtain ⟨b35, hb, h⟩ := gx_bs h
        obtain ⟨eb, hkb⟩ := xk_isS hb
        obtain ⟨r34, hr34, h⟩ := gx_bs h
        refine gx_cV (As := [.int (x1)]) (rest := []) (b := b35) hX (tJ2_get w (gx_A X) (gx_l X) (b35) (σ) (x1) hr34) (lw_V q433 q434 q435 q89 q436) ⟨rfl, dsJ2_get⟩ (by decide) (Nat.le_of_ble_eq_true rfl) (xk_rc hX (ci := 20) (by decide) (by decide) hkb) (by rw [eb]; rfl) (gx_w8 gx_k0 (Nat.le_of_ble_eq_true rfl)) dX0_goTick_87 ⟨Nat.le_refl _, Nat.le_refl _⟩ rfl ?_
        refine xk_castC hX 5 ⟨by decide, by decide⟩ q204 dX0_goTick_90 h (fun h => ?_)
        obtain ⟨b38, hb, h⟩ := gx_bs h
        obtain ⟨eb, hkb⟩ := xk_isS hb
        obtain ⟨r37, hr37, h⟩ := gx_bs h
        refine gx_cV (As := []) (rest := []) (b := b38) hX (tX5_act w (gx_A X) (gx_l X) N (b38) (σ)  hr37) (lw_V q983 q984 q985 q100 q986) ⟨rfl, dsX5_act⟩ (by decide) (Nat.le_of_ble_eq_true rfl) (xk_rc hX (ci := 5) (by decide) (by decide) hkb) (by rw [eb]; rfl) (gx_w8 gx_k0 (Nat.le_of_ble_eq_true rfl)) dX0_goTick_93 ⟨Nat.le_refl _, Nat.le_refl _⟩ rfl ?_
        exact tX0_goTick_B96 hX ih h
def fX0_goTick_B46 (N : Nat) (x0 : Nat)  (K2 : xk_C → Int32 → Option (xk_C × Unit)) (σ : xk_C) (x1 : Int32) : Option (xk_C × Unit) := K2 (σ) ((x1) + 1)
set_option maxHeartbeats 4000000 in
theorem eX0_goTick_B46 {r : xk_C × Unit} {N : Nat} {x0 : Nat} {K2 : xk_C → Int32 → Option (xk_C × Unit)} (hL2 : ∀ (σ : xk_C) (x1 : Int32), xk_er r σ (K2 σ x1)) {σ : xk_C} {x1 : Int32} : xk_er r σ (fX0_goTick_B46 N x0 K2 σ x1) := by
  unfold fX0_goTick_B46
  exact (hL2 _ _)
set_option maxHeartbeats 4000000 in
theorem tX0_goTick_B46 {w : gw_W} {X : gx_X} {N : Nat} {x0 : Nat} {r : xk_C × Unit} (hX : gx_O (gw_I w (gx_A X)) X iX0_goTick 138 0 0 (xk_P (gx_A X) w r.1) (.returned none)) {K2 : xk_C → Int32 → Option (xk_C × Unit)} (hK2 : ∀ (σ : xk_C) (x1 : Int32), K2 σ x1 = some r → gx_G X (xk_P (gx_A X) w (σ)) 0 0 [some (va_rf (some x0)), some (.int (x1)), none] 2 []) {σ : xk_C} {x1 : Int32} (h : fX0_goTick_B46 N x0 K2 σ x1 = some r) : gx_G X (xk_P (gx_A X) w (σ)) 0 0 [some (va_rf (some x0)), some (.int (x1)), none] 46 [] := by
  unfold fX0_goTick_B46 at h
  refine gx_iinc (v := 1) hX dX0_goTick_46 rfl (by decide) gx_c1r (lv' := [some (va_rf (some x0)), some (.int ((x1) + 1)), none]) rfl ?_
  refine gx_goto (tgt := 2) hX dX0_goTick_49 (by decide) ?_
  exact hK2 _ _ h
def fX0_goTick_L2 (N : Nat) (x0 : Nat)   : Nat → xk_C → Int32 → Option (xk_C × Unit)
  | 0, _, _ => none
  | k + 1, σ, x1 => (xk_gr (σ) 3 (some x0)).bind fun v1 => (xk_is (σ) 21 (v1)).bind fun b3 => (fJ2_size (b3) (σ)).bind fun r2 => if (r2) ≤ x1 then fX0_goTick_L54 N x0 N (σ) (0) else (xk_gr (σ) 3 (some x0)).bind fun v39 => (xk_is (σ) 21 (v39)).bind fun b41 => (fJ2_get (b41) (σ) (x1)).bind fun r40 => (xk_ck (σ) 6 (r40)).bind fun u42 => (xk_pz (σ) 51 (r40) (0)).bind fun σ43 => (xk_pz (σ43) 52 (r40) (0)).bind fun σ44 => (xk_is (σ44) 6 (r40)).bind fun b46 => (fX5_isBare (b46) (σ44)).bind fun r45 => if r45 = 0 then fX0_goTick_B46 N x0 (fX0_goTick_L2 N x0 k) (σ44) (x1) else (xk_is (σ44) 6 (r40)).bind fun b48 => (fX5_stepOn N (b48) (σ44)).bind fun r47 => fX0_goTick_B46 N x0 (fX0_goTick_L2 N x0 k) (r47.1) (x1)
set_option maxHeartbeats 4000000 in
theorem eX0_goTick_L2 {r : xk_C × Unit} {N : Nat} {x0 : Nat}   : ∀ (k : Nat) (σ : xk_C) (x1 : Int32), xk_er r σ (fX0_goTick_L2 N x0 k σ x1) := by
  intro k
  induction k with
  | zero =>
    intro σ x1
    unfold fX0_goTick_L2
    exact xk_er_none
  | succ k hL2 =>
    intro σ x1
    unfold fX0_goTick_L2
    exact (xk_er_rd (fun _ => (xk_er_rd (fun _ => (xk_er_rd (fun _ => (xk_er_ite (eX0_goTick_L54  N _ _) (xk_er_rd (fun _ => (xk_er_rd (fun _ => (xk_er_rd (fun _ => (xk_er_rd (fun _ => (xk_er_op xk_e_pz (fun _ => (xk_er_op xk_e_pz (fun _ => (xk_er_rd (fun _ => (xk_er_rd (fun _ => (xk_er_ite (eX0_goTick_B46 hL2) (xk_er_rd (fun _ => (xk_er_ca (eX5_stepOn) (fun _ => (eX0_goTick_B46 hL2)))))))))))))))))))))))))))))
set_option maxHeartbeats 4000000 in
theorem tX0_goTick_L2 {w : gw_W} {X : gx_X} {N : Nat} {x0 : Nat} {r : xk_C × Unit} (hX : gx_O (gw_I w (gx_A X)) X iX0_goTick 138 0 0 (xk_P (gx_A X) w r.1) (.returned none))  : ∀ (k : Nat) (σ : xk_C) (x1 : Int32), fX0_goTick_L2 N x0 k σ x1 = some r → gx_G X (xk_P (gx_A X) w (σ)) 0 0 [some (va_rf (some x0)), some (.int (x1)), none] 2 [] := by
  intro k
  induction k with
  | zero =>
    intro σ x1 h
    unfold fX0_goTick_L2 at h
    cases h
  | succ k ih =>
    intro σ x1 h
    unfold fX0_goTick_L2 at h
    refine gx_iload_n hX dX0_goTick_2 rfl ?_
    refine gx_aload_n hX dX0_goTick_3 rfl ?_
    refine xk_getr hX 3 q214 (fun _ h => h) rfl dX0_goTick_4 h (fun v1 h => ?_)
    obtain ⟨b3, hb, h⟩ := gx_bs h
    obtain ⟨eb, hkb⟩ := xk_isS hb
    obtain ⟨r2, hr2, h⟩ := gx_bs h
    refine gx_cV (As := []) (rest := [.int (x1)]) (b := b3) hX (tJ2_size w (gx_A X) (gx_l X) (b3) (σ)  hr2) (lw_V q314 q315 q316 q89 q317) ⟨rfl, dsJ2_size⟩ (by decide) (Nat.le_of_ble_eq_true rfl) (xk_rc hX (ci := 20) (by decide) (by decide) hkb) (by rw [eb]; rfl) (gx_w8 (gx_kI gx_k0) (Nat.le_of_ble_eq_true rfl)) dX0_goTick_7 ⟨Nat.le_refl _, Nat.le_refl _⟩ rfl ?_
    refine gx_icmp_ge (tgt := 52) hX dX0_goTick_10 (by decide) h (fun h => ?_) (fun h => ?_)
    · refine gx_iconst (v := 0) hX dX0_goTick_52 (by decide) ?_
      refine gx_istore_n hX dX0_goTick_53 (Nat.le_of_ble_eq_true rfl) gx_c1r (lv' := [some (va_rf (some x0)), some (.int (0)), none]) rfl ?_
      exact tX0_goTick_L54 hX  N _ _ h
    · refine gx_aload_n hX dX0_goTick_13 rfl ?_
      refine xk_getr hX 3 q214 (fun _ h => h) rfl dX0_goTick_14 h (fun v39 h => ?_)
      refine gx_iload_n hX dX0_goTick_17 rfl ?_
      obtain ⟨b41, hb, h⟩ := gx_bs h
      obtain ⟨eb, hkb⟩ := xk_isS hb
      obtain ⟨r40, hr40, h⟩ := gx_bs h
      refine gx_cV (As := [.int (x1)]) (rest := []) (b := b41) hX (tJ2_get w (gx_A X) (gx_l X) (b41) (σ) (x1) hr40) (lw_V q433 q434 q435 q89 q436) ⟨rfl, dsJ2_get⟩ (by decide) (Nat.le_of_ble_eq_true rfl) (xk_rc hX (ci := 20) (by decide) (by decide) hkb) (by rw [eb]; rfl) (gx_w8 gx_k0 (Nat.le_of_ble_eq_true rfl)) dX0_goTick_18 ⟨Nat.le_refl _, Nat.le_refl _⟩ rfl ?_
      refine xk_castC hX 5 ⟨by decide, by decide⟩ q204 dX0_goTick_21 h (fun h => ?_)
      refine gx_astore_n hX dX0_goTick_24 (Nat.le_of_ble_eq_true rfl) gx_c1i (lv' := [some (va_rf (some x0)), some (.int (x1)), some (va_rf (r40))]) rfl ?_
      refine gx_aload_n hX dX0_goTick_25 rfl ?_
      refine gx_iconst (v := 0) hX dX0_goTick_26 (by decide) ?_
      refine xk_putzN hX 51 xk_ty51 rfl q569 rfl rfl dX0_goTick_27 h (fun σ43 hτ h => ?_)
      refine gx_aload_n hX dX0_goTick_30 rfl ?_
      refine gx_iconst (v := 0) hX dX0_goTick_31 (by decide) ?_
      refine xk_putzN hX 52 xk_ty52 rfl q572 rfl rfl dX0_goTick_32 h (fun σ44 hτ h => ?_)
      refine gx_aload_n hX dX0_goTick_35 rfl ?_
      obtain ⟨b46, hb, h⟩ := gx_bs h
      obtain ⟨eb, hkb⟩ := xk_isS hb
      obtain ⟨r45, hr45, h⟩ := gx_bs h
      refine gx_cV (As := []) (rest := []) (b := b46) hX (tX5_isBare w (gx_A X) (gx_l X) (b46) (σ44)  hr45) (lw_V q712 q713 q714 q100 q715) ⟨rfl, dsX5_isBare⟩ (by decide) (Nat.le_of_ble_eq_true rfl) (xk_rc hX (ci := 5) (by decide) (by decide) hkb) (by rw [eb]; rfl) (gx_w8 gx_k0 (Nat.le_of_ble_eq_true rfl)) dX0_goTick_36 ⟨Nat.le_refl _, Nat.le_refl _⟩ rfl ?_
      refine gx_if_eq (tgt := 46) hX dX0_goTick_39 (by decide) h (fun h => ?_) (fun h => ?_)
      · refine gx_sub hX (lv' := [some (va_rf (some x0)), some (.int (x1)), none]) ⟨Or.inr rfl, ⟨Or.inr rfl, ⟨Or.inl rfl, trivial⟩⟩⟩ ?_
        exact tX0_goTick_B46 hX ih h
      · refine gx_aload_n hX dX0_goTick_42 rfl ?_
        obtain ⟨b48, hb, h⟩ := gx_bs h
        obtain ⟨eb, hkb⟩ := xk_isS hb
        obtain ⟨r47, hr47, h⟩ := gx_bs h
        refine gx_cV (As := []) (rest := []) (b := b48) hX (tX5_stepOn w (gx_A X) (gx_l X) N (b48) (σ44)  hr47) (lw_V q965 q966 q967 q100 q968) ⟨rfl, dsX5_stepOn⟩ (by decide) (Nat.le_of_ble_eq_true rfl) (xk_rc hX (ci := 5) (by decide) (by decide) hkb) (by rw [eb]; rfl) (gx_w8 gx_k0 (Nat.le_of_ble_eq_true rfl)) dX0_goTick_43 ⟨Nat.le_refl _, Nat.le_refl _⟩ rfl ?_
        refine gx_sub hX (lv' := [some (va_rf (some x0)), some (.int (x1)), none]) ⟨Or.inr rfl, ⟨Or.inr rfl, ⟨Or.inl rfl, trivial⟩⟩⟩ ?_
        exact tX0_goTick_B46 hX ih h
def fX0_goTick (N : Nat) (x0 : Nat) (σ : xk_C)  : Option (xk_C × Unit) := fX0_goTick_L2 N x0 N (σ) (0)
set_option maxHeartbeats 4000000 in
theorem eX0_goTick {N : Nat} {x0 : Nat} {σ : xk_C}  : ∀ p, fX0_goTick N x0 σ = some p → xk_n p.1 = xk_n σ ∧ xk_s p.1 = xk_s σ := fun r => show xk_er r σ (fX0_goTick N x0 σ) from by
  unfold fX0_goTick
  exact (eX0_goTick_L2  N _ _)
theorem mX0_goTick {N : Nat} {x0 : Nat} {σ : xk_C}  : ∀ p, fX0_goTick N x0 σ = some p → xk_n σ ≤ xk_n p.1 ∧ xk_s σ ≤ xk_s p.1 := fun p h => xk_le_of (eX0_goTick p h)
set_option maxHeartbeats 4000000 in
theorem tX0_goTick (w : gw_W) (A : Nat → Prop) (l : Launch) (N : Nat) (x0 : Nat) (σ : xk_C)  {r : xk_C × Unit} (h : fX0_goTick N x0 σ = some r) : gx_T (gw_I w A) A l yX0_goTick iX0_goTick 138 [va_rf (some x0)] (xk_P A w σ) 0 0 (xk_P A w r.1) (.returned none) := by
  refine gx_T.of (gw_I.inv w A) (by decide) ⟨rfl, rfl⟩ (gx_kR gx_k0) (Nat.le_of_ble_eq_true rfl) (fun X hl hAx hX => ?_)
  subst hl
  subst hAx
  show gx_G X (xk_P (gx_A X) w (σ)) 0 0 [some (va_rf (some x0)), none, none] 0 []
  unfold fX0_goTick at h
  refine gx_iconst (v := 0) hX dX0_goTick_0 (by decide) ?_
  refine gx_istore_n hX dX0_goTick_1 (Nat.le_of_ble_eq_true rfl) gx_c1r (lv' := [some (va_rf (some x0)), some (.int (0)), none]) rfl ?_
  exact tX0_goTick_L2 hX  N _ _ h
abbrev iX0_tick : gx_M := (RX0, "tick", cX0_tick, 3, some .int)
theorem dsX0_tick : gx_ds yX0_tick 1 := by decide +kernel
def fX0_tick_L15 (N : Nat) (x0 : Nat)   : Nat → xk_C → Int32 → Int32 → Option (xk_C × Int32)
  | 0, _, _, _ => none
  | k + 1, σ, x1, x2 => if (x1) ≤ x2 then (xk_gi (σ) 4 (some x0)).bind fun v2 => some (σ, v2) else (xk_is (σ) 1 (some x0)).bind fun b4 => (fX0_goTick N (b4) (σ)).bind fun r3 => (fX0_tick_L15 N x0 k) (r3.1) (x1) ((x2) + 1)
set_option maxHeartbeats 4000000 in
theorem tX0_tick_L15 {w : gw_W} {X : gx_X} {N : Nat} {x0 : Nat} {r : xk_C × Int32} (hX : gx_O (gw_I w (gx_A X)) X iX0_tick 139 0 0 (xk_P (gx_A X) w r.1) (.returned (some (.int r.2))))  : ∀ (k : Nat) (σ : xk_C) (x1 : Int32) (x2 : Int32), fX0_tick_L15 N x0 k σ x1 x2 = some r → gx_G X (xk_P (gx_A X) w (σ)) 0 0 [some (va_rf (some x0)), some (.int (x1)), some (.int (x2))] 15 [] := by
  intro k
  induction k with
  | zero =>
    intro σ x1 x2 h
    unfold fX0_tick_L15 at h
    cases h
  | succ k ih =>
    intro σ x1 x2 h
    unfold fX0_tick_L15 at h
    refine gx_iload_n hX dX0_tick_15 rfl ?_
    refine gx_iload_n hX dX0_tick_16 rfl ?_
    refine gx_icmp_ge (tgt := 30) hX dX0_tick_17 (by decide) h (fun h => ?_) (fun h => ?_)
    · refine gx_aload_n hX dX0_tick_30 rfl ?_
      refine xk_geti hX 4 q217 (fun _ h => h) rfl dX0_tick_31 h (fun v2 h => ?_)
      cases h
      exact gx_iret hX rfl dX0_tick_34 rfl ⟨rfl, rfl⟩ (fun _ h => h)
    · refine gx_aload_n hX dX0_tick_20 rfl ?_
      obtain ⟨b4, hb, h⟩ := gx_bs h
      obtain ⟨eb, hkb⟩ := xk_isS hb
      obtain ⟨r3, hr3, h⟩ := gx_bs h
      refine gx_cV (As := []) (rest := []) (b := b4) hX (tX0_goTick w (gx_A X) (gx_l X) N (b4) (σ)  hr3) (lw_V q961 q963 qs17 q86 q964) ⟨rfl, dsX0_goTick⟩ (by decide) (Nat.le_of_ble_eq_true rfl) (xk_rc hX (ci := 0) (by decide) (by decide) hkb) (by rw [eb]; rfl) (gx_w8 gx_k0 (Nat.le_of_ble_eq_true rfl)) dX0_tick_21 ⟨Nat.le_refl _, Nat.le_refl _⟩ rfl ?_
      refine gx_iinc (v := 1) hX dX0_tick_24 rfl (by decide) gx_c1i (lv' := [some (va_rf (some x0)), some (.int (x1)), some (.int ((x2) + 1))]) rfl ?_
      refine gx_goto (tgt := 15) hX dX0_tick_27 (by decide) ?_
      exact ih _ _ _ h
def fX0_tick (N : Nat) (x0 : Nat) (σ : xk_C) (x1 : Int32) : Option (xk_C × Int32) := (fX0_in  (x1) (1) (nI 30)).bind fun r1 => if r1 = 0 then some (σ, (-2)) else fX0_tick_L15 N x0 N (σ) (x1) (0)
set_option maxHeartbeats 4000000 in
theorem tX0_tick (w : gw_W) (A : Nat → Prop) (l : Launch) (N : Nat) (x0 : Nat) (σ : xk_C) (x1 : Int32) {r : xk_C × Int32} (h : fX0_tick N x0 σ x1 = some r) : gx_T (gw_I w A) A l yX0_tick iX0_tick 139 [va_rf (some x0), .int (x1)] (xk_P A w σ) 0 0 (xk_P A w r.1) (.returned (some (.int r.2))) := by
  refine gx_T.of (gw_I.inv w A) (by decide) ⟨rfl, rfl⟩ (gx_kR (gx_kI gx_k0)) (Nat.le_of_ble_eq_true rfl) (fun X hl hAx hX => ?_)
  subst hl
  subst hAx
  show gx_G X (xk_P (gx_A X) w (σ)) 0 0 [some (va_rf (some x0)), some (.int (x1)), none] 0 []
  unfold fX0_tick at h
  refine gx_iload_n hX dX0_tick_0 rfl ?_
  refine gx_iconst (v := 1) hX dX0_tick_1 (by decide) ?_
  refine gx_bipush (v := nI 30) hX dX0_tick_2 (by decide) ?_
  obtain ⟨r1, hr1, h⟩ := gx_bs h
  refine gx_cS (As := [.int (x1), .int (1), .int (nI 30)]) (rest := []) hX (tX0_in w (gx_A X) (gx_l X) (xk_P (gx_A X) w (σ)) (x1) (1) (nI 30) hr1) (lw_S q311 q312 q86 q313) dsX0_in (by decide) (Nat.le_of_ble_eq_true rfl) rfl (gx_w8 gx_k0 (Nat.le_of_ble_eq_true rfl)) dX0_tick_4 ⟨Nat.le_refl _, Nat.le_refl _⟩ rfl ?_
  refine gx_if_ne (tgt := 13) hX dX0_tick_7 (by decide) h (fun h => ?_) (fun h => ?_)
  · refine gx_bipush (v := (-2)) hX dX0_tick_10 (by decide) ?_
    cases h
    exact gx_iret hX rfl dX0_tick_12 rfl ⟨rfl, rfl⟩ (fun _ h => h)
  · refine gx_iconst (v := 0) hX dX0_tick_13 (by decide) ?_
    refine gx_istore_n hX dX0_tick_14 (Nat.le_of_ble_eq_true rfl) gx_c1i (lv' := [some (va_rf (some x0)), some (.int (x1)), some (.int (0))]) rfl ?_
    exact tX0_tick_L15 hX  N _ _ _ h
abbrev iX0_row : gx_M := (RX0, "row", cX0_row, 8, some .int)
theorem dsX0_row : gx_ds yX0_row 2 := by decide +kernel
def fX0_row_B175 (N : Nat) (x0 : Nat) (σ : xk_C)  (K19 : Int32 → Int32 → Int32 → Int32 → Option (Int32)) (x1 : Int32) (x2 : Int32) (x3 : Int32) (x4 : Int32) : Option (Int32) := K19 (x1) (x2) (x3) ((x4) + 1)
set_option maxHeartbeats 4000000 in
theorem tX0_row_B175 {w : gw_W} {X : gx_X} {N : Nat} {x0 : Nat} {σ : xk_C} {r : Int32} (hX : gx_O (gw_I w (gx_A X)) X iX0_row 5 0 0 (xk_P (gx_A X) w σ) (.returned (some (.int r)))) {K19 : Int32 → Int32 → Int32 → Int32 → Option (Int32)} (hK19 : ∀ (x1 : Int32) (x2 : Int32) (x3 : Int32) (x4 : Int32), K19 x1 x2 x3 x4 = some r → gx_G X (xk_P (gx_A X) w (σ)) 0 0 [some (va_rf (some x0)), some (.int (x1)), some (.int (x2)), some (.int (x3)), some (.int (x4)), none, none, none] 19 []) {x1 : Int32} {x2 : Int32} {x3 : Int32} {x4 : Int32} (h : fX0_row_B175 N x0 σ K19 x1 x2 x3 x4 = some r) : gx_G X (xk_P (gx_A X) w (σ)) 0 0 [some (va_rf (some x0)), some (.int (x1)), some (.int (x2)), some (.int (x3)), some (.int (x4)), none, none, none] 175 [] := by
  unfold fX0_row_B175 at h
  refine gx_iinc (v := 1) hX dX0_row_175 rfl (by decide) gx_c1i (lv' := [some (va_rf (some x0)), some (.int (x1)), some (.int (x2)), some (.int (x3)), some (.int ((x4) + 1)), none, none, none]) rfl ?_
  refine gx_goto (tgt := 19) hX dX0_row_178 (by decide) ?_
  exact hK19 _ _ _ _ h
def fX0_row_B157 (N : Nat) (x0 : Nat) (σ : xk_C)  (K19 : Int32 → Int32 → Int32 → Int32 → Option (Int32)) (K74 : Int32 → Int32 → Int32 → Int32 → Option Nat → Int32 → Int32 → Option (Int32)) (x1 : Int32) (x2 : Int32) (x3 : Int32) (x4 : Int32) (x5 : Option Nat) (x7 : Int32) (y0 : Int32) (y1 : Int32) : Option (Int32) := K74 (x1) (x2) (x3) (x4) (x5) ((y1) + (y0)) ((x7) + 1)
set_option maxHeartbeats 4000000 in
theorem tX0_row_B157 {w : gw_W} {X : gx_X} {N : Nat} {x0 : Nat} {σ : xk_C} {r : Int32} (hX : gx_O (gw_I w (gx_A X)) X iX0_row 5 0 0 (xk_P (gx_A X) w σ) (.returned (some (.int r)))) {K19 : Int32 → Int32 → Int32 → Int32 → Option (Int32)} {K74 : Int32 → Int32 → Int32 → Int32 → Option Nat → Int32 → Int32 → Option (Int32)} (hK19 : ∀ (x1 : Int32) (x2 : Int32) (x3 : Int32) (x4 : Int32), K19 x1 x2 x3 x4 = some r → gx_G X (xk_P (gx_A X) w (σ)) 0 0 [some (va_rf (some x0)), some (.int (x1)), some (.int (x2)), some (.int (x3)), some (.int (x4)), none, none, none] 19 []) (hK74 : ∀ (x1 : Int32) (x2 : Int32) (x3 : Int32) (x4 : Int32) (x5 : Option Nat) (x6 : Int32) (x7 : Int32), K74 x1 x2 x3 x4 x5 x6 x7 = some r → gx_G X (xk_P (gx_A X) w (σ)) 0 0 [some (va_rf (some x0)), some (.int (x1)), some (.int (x2)), some (.int (x3)), some (.int (x4)), some (va_rf (x5)), some (.int (x6)), some (.int (x7))] 74 []) {x1 : Int32} {x2 : Int32} {x3 : Int32} {x4 : Int32} {x5 : Option Nat} {x7 : Int32} {y0 : Int32} {y1 : Int32} (h : fX0_row_B157 N x0 σ K19 K74 x1 x2 x3 x4 x5 x7 y0 y1 = some r) : gx_G X (xk_P (gx_A X) w (σ)) 0 0 [some (va_rf (some x0)), some (.int (x1)), some (.int (x2)), some (.int (x3)), some (.int (x4)), some (va_rf (x5)), none, some (.int (x7))] 157 [.int (y0), .int (y1)] := by
  unfold fX0_row_B157 at h
  refine gx_iadd hX dX0_row_157 ?_
  refine gx_istore hX dX0_row_158 (Nat.le_of_ble_eq_true rfl) gx_c1r (lv' := [some (va_rf (some x0)), some (.int (x1)), some (.int (x2)), some (.int (x3)), some (.int (x4)), some (va_rf (x5)), some (.int ((y1) + (y0))), some (.int (x7))]) rfl ?_
  refine gx_iinc (v := 1) hX dX0_row_160 rfl (by decide) gx_c1i (lv' := [some (va_rf (some x0)), some (.int (x1)), some (.int (x2)), some (.int (x3)), some (.int (x4)), some (va_rf (x5)), some (.int ((y1) + (y0))), some (.int ((x7) + 1))]) rfl ?_
  refine gx_goto (tgt := 74) hX dX0_row_163 (by decide) ?_
  exact hK74 _ _ _ _ _ _ _ h
def fX0_row_B156 (N : Nat) (x0 : Nat) (σ : xk_C)  (K19 : Int32 → Int32 → Int32 → Int32 → Option (Int32)) (K74 : Int32 → Int32 → Int32 → Int32 → Option Nat → Int32 → Int32 → Option (Int32)) (x1 : Int32) (x2 : Int32) (x3 : Int32) (x4 : Int32) (x5 : Option Nat) (x7 : Int32) (y0 : Int32) : Option (Int32) := fX0_row_B157 N x0 σ K19 K74 (x1) (x2) (x3) (x4) (x5) (x7) (0) (y0)
set_option maxHeartbeats 4000000 in
theorem tX0_row_B156 {w : gw_W} {X : gx_X} {N : Nat} {x0 : Nat} {σ : xk_C} {r : Int32} (hX : gx_O (gw_I w (gx_A X)) X iX0_row 5 0 0 (xk_P (gx_A X) w σ) (.returned (some (.int r)))) {K19 : Int32 → Int32 → Int32 → Int32 → Option (Int32)} {K74 : Int32 → Int32 → Int32 → Int32 → Option Nat → Int32 → Int32 → Option (Int32)} (hK19 : ∀ (x1 : Int32) (x2 : Int32) (x3 : Int32) (x4 : Int32), K19 x1 x2 x3 x4 = some r → gx_G X (xk_P (gx_A X) w (σ)) 0 0 [some (va_rf (some x0)), some (.int (x1)), some (.int (x2)), some (.int (x3)), some (.int (x4)), none, none, none] 19 []) (hK74 : ∀ (x1 : Int32) (x2 : Int32) (x3 : Int32) (x4 : Int32) (x5 : Option Nat) (x6 : Int32) (x7 : Int32), K74 x1 x2 x3 x4 x5 x6 x7 = some r → gx_G X (xk_P (gx_A X) w (σ)) 0 0 [some (va_rf (some x0)), some (.int (x1)), some (.int (x2)), some (.int (x3)), some (.int (x4)), some (va_rf (x5)), some (.int (x6)), some (.int (x7))] 74 []) {x1 : Int32} {x2 : Int32} {x3 : Int32} {x4 : Int32} {x5 : Option Nat} {x7 : Int32} {y0 : Int32} (h : fX0_row_B156 N x0 σ K19 K74 x1 x2 x3 x4 x5 x7 y0 = some r) : gx_G X (xk_P (gx_A X) w (σ)) 0 0 [some (va_rf (some x0)), some (.int (x1)), some (.int (x2)), some (.int (x3)), some (.int (x4)), some (va_rf (x5)), none, some (.int (x7))] 156 [.int (y0)] := by
  unfold fX0_row_B156 at h
  refine gx_iconst (v := 0) hX dX0_row_156 (by decide) ?_
  exact tX0_row_B157 hX hK19 hK74 h
def fX0_row_L74 (N : Nat) (x0 : Nat) (σ : xk_C)  (K19 : Int32 → Int32 → Int32 → Int32 → Option (Int32)) : Nat → Int32 → Int32 → Int32 → Int32 → Option Nat → Int32 → Int32 → Option (Int32)
  | 0, _, _, _, _, _, _, _ => none
  | k + 1, x1, x2, x3, x4, x5, x6, x7 => (xk_gr (σ) 3 (some x0)).bind fun v12 => (xk_is (σ) 21 (v12)).bind fun b14 => (fJ2_size (b14) (σ)).bind fun r13 => if (r13) ≤ x7 then if x6 = x2 then some (x4) else fX0_row_B175 N x0 σ K19 (x1) (x2) (x3) (x4) else if x7 = x4 then fX0_row_B156 N x0 σ K19 (fX0_row_L74 N x0 σ K19 k) (x1) (x2) (x3) (x4) (x5) (x7) (x6) else (xk_gr (σ) 3 (some x0)).bind fun v15 => (xk_is (σ) 21 (v15)).bind fun b17 => (fJ2_get (b17) (σ) (x7)).bind fun r16 => (xk_ck (σ) 6 (r16)).bind fun u18 => (xk_is (σ) 6 (r16)).bind fun b20 => (fX5_isWaiting (b20) (σ)).bind fun r19 => if r19 = 0 then fX0_row_B156 N x0 σ K19 (fX0_row_L74 N x0 σ K19 k) (x1) (x2) (x3) (x4) (x5) (x7) (x6) else (xk_gr (σ) 3 (some x0)).bind fun v21 => (xk_is (σ) 21 (v21)).bind fun b23 => (fJ2_get (b23) (σ) (x7)).bind fun r22 => (xk_ck (σ) 6 (r22)).bind fun u24 => (xk_gi (σ) 46 (r22)).bind fun v25 => if v25 = x1 then (xk_gr (σ) 3 (some x0)).bind fun v26 => (xk_is (σ) 21 (v26)).bind fun b28 => (fJ2_get (b28) (σ) (x7)).bind fun r27 => (xk_ck (σ) 6 (r27)).bind fun u29 => (xk_is (σ) 6 (r27)).bind fun b31 => (fX5_isAhead (b31) (σ) (x5)).bind fun r30 => if r30 = 0 then fX0_row_B156 N x0 σ K19 (fX0_row_L74 N x0 σ K19 k) (x1) (x2) (x3) (x4) (x5) (x7) (x6) else fX0_row_B157 N x0 σ K19 (fX0_row_L74 N x0 σ K19 k) (x1) (x2) (x3) (x4) (x5) (x7) (1) (x6) else fX0_row_B156 N x0 σ K19 (fX0_row_L74 N x0 σ K19 k) (x1) (x2) (x3) (x4) (x5) (x7) (x6)
set_option maxHeartbeats 4000000 in
theorem tX0_row_L74 {w : gw_W} {X : gx_X} {N : Nat} {x0 : Nat} {σ : xk_C} {r : Int32} (hX : gx_O (gw_I w (gx_A X)) X iX0_row 5 0 0 (xk_P (gx_A X) w σ) (.returned (some (.int r)))) {K19 : Int32 → Int32 → Int32 → Int32 → Option (Int32)} (hK19 : ∀ (x1 : Int32) (x2 : Int32) (x3 : Int32) (x4 : Int32), K19 x1 x2 x3 x4 = some r → gx_G X (xk_P (gx_A X) w (σ)) 0 0 [some (va_rf (some x0)), some (.int (x1)), some (.int (x2)), some (.int (x3)), some (.int (x4)), none, none, none] 19 []) : ∀ (k : Nat) (x1 : Int32) (x2 : Int32) (x3 : Int32) (x4 : Int32) (x5 : Option Nat) (x6 : Int32) (x7 : Int32), fX0_row_L74 N x0 σ K19 k x1 x2 x3 x4 x5 x6 x7 = some r → gx_G X (xk_P (gx_A X) w (σ)) 0 0 [some (va_rf (some x0)), some (.int (x1)), some (.int (x2)), some (.int (x3)), some (.int (x4)), some (va_rf (x5)), some (.int (x6)), some (.int (x7))] 74 [] := by
  intro k
  induction k with
  | zero =>
    intro x1 x2 x3 x4 x5 x6 x7 h
    unfold fX0_row_L74 at h
    cases h
  | succ k ih =>
    intro x1 x2 x3 x4 x5 x6 x7 h
    unfold fX0_row_L74 at h
    refine gx_iload hX dX0_row_74 rfl ?_
    refine gx_aload_n hX dX0_row_76 rfl ?_
    refine xk_getr hX 3 q214 (fun _ h => h) rfl dX0_row_77 h (fun v12 h => ?_)
    obtain ⟨b14, hb, h⟩ := gx_bs h
    obtain ⟨eb, hkb⟩ := xk_isS hb
    obtain ⟨r13, hr13, h⟩ := gx_bs h
    refine gx_cV (As := []) (rest := [.int (x7)]) (b := b14) hX (tJ2_size w (gx_A X) (gx_l X) (b14) (σ)  hr13) (lw_V q314 q315 q316 q89 q317) ⟨rfl, dsJ2_size⟩ (by decide) (Nat.le_of_ble_eq_true rfl) (xk_rc hX (ci := 20) (by decide) (by decide) hkb) (by rw [eb]; rfl) (gx_w8 (gx_kI gx_k0) (Nat.le_of_ble_eq_true rfl)) dX0_row_80 ⟨Nat.le_refl _, Nat.le_refl _⟩ rfl ?_
    refine gx_icmp_ge (tgt := 166) hX dX0_row_83 (by decide) h (fun h => ?_) (fun h => ?_)
    · refine gx_iload hX dX0_row_166 rfl ?_
      refine gx_iload_n hX dX0_row_168 rfl ?_
      refine gx_icmp_ne (tgt := 175) hX dX0_row_169 (by decide) h (fun h => ?_) (fun h => ?_)
      · refine gx_iload hX dX0_row_172 rfl ?_
        cases h
        exact gx_iret hX rfl dX0_row_174 rfl ⟨rfl, rfl⟩ (fun _ h => h)
      · refine gx_sub hX (lv' := [some (va_rf (some x0)), some (.int (x1)), some (.int (x2)), some (.int (x3)), some (.int (x4)), none, none, none]) ⟨Or.inr rfl, ⟨Or.inr rfl, ⟨Or.inr rfl, ⟨Or.inr rfl, ⟨Or.inr rfl, ⟨Or.inl rfl, ⟨Or.inl rfl, ⟨Or.inl rfl, trivial⟩⟩⟩⟩⟩⟩⟩⟩ ?_
        exact tX0_row_B175 hX hK19 h
    · refine gx_iload hX dX0_row_86 rfl ?_
      refine gx_iload hX dX0_row_88 rfl ?_
      refine gx_iload hX dX0_row_90 rfl ?_
      refine gx_icmp_eq (tgt := 156) hX dX0_row_92 (by decide) h (fun h => ?_) (fun h => ?_)
      · refine gx_sub hX (lv' := [some (va_rf (some x0)), some (.int (x1)), some (.int (x2)), some (.int (x3)), some (.int (x4)), some (va_rf (x5)), none, some (.int (x7))]) ⟨Or.inr rfl, ⟨Or.inr rfl, ⟨Or.inr rfl, ⟨Or.inr rfl, ⟨Or.inr rfl, ⟨Or.inr rfl, ⟨Or.inl rfl, ⟨Or.inr rfl, trivial⟩⟩⟩⟩⟩⟩⟩⟩ ?_
        exact tX0_row_B156 hX hK19 ih h
      · refine gx_aload_n hX dX0_row_95 rfl ?_
        refine xk_getr hX 3 q214 (fun _ h => h) rfl dX0_row_96 h (fun v15 h => ?_)
        refine gx_iload hX dX0_row_99 rfl ?_
        obtain ⟨b17, hb, h⟩ := gx_bs h
        obtain ⟨eb, hkb⟩ := xk_isS hb
        obtain ⟨r16, hr16, h⟩ := gx_bs h
        refine gx_cV (As := [.int (x7)]) (rest := [.int (x6)]) (b := b17) hX (tJ2_get w (gx_A X) (gx_l X) (b17) (σ) (x7) hr16) (lw_V q433 q434 q435 q89 q436) ⟨rfl, dsJ2_get⟩ (by decide) (Nat.le_of_ble_eq_true rfl) (xk_rc hX (ci := 20) (by decide) (by decide) hkb) (by rw [eb]; rfl) (gx_w8 (gx_kI gx_k0) (Nat.le_of_ble_eq_true rfl)) dX0_row_101 ⟨Nat.le_refl _, Nat.le_refl _⟩ rfl ?_
        refine xk_castC hX 5 ⟨by decide, by decide⟩ q204 dX0_row_104 h (fun h => ?_)
        obtain ⟨b20, hb, h⟩ := gx_bs h
        obtain ⟨eb, hkb⟩ := xk_isS hb
        obtain ⟨r19, hr19, h⟩ := gx_bs h
        refine gx_cV (As := []) (rest := [.int (x6)]) (b := b20) hX (tX5_isWaiting w (gx_A X) (gx_l X) (b20) (σ)  hr19) (lw_V q655 q656 q657 q100 q658) ⟨rfl, dsX5_isWaiting⟩ (by decide) (Nat.le_of_ble_eq_true rfl) (xk_rc hX (ci := 5) (by decide) (by decide) hkb) (by rw [eb]; rfl) (gx_w8 (gx_kI gx_k0) (Nat.le_of_ble_eq_true rfl)) dX0_row_107 ⟨Nat.le_refl _, Nat.le_refl _⟩ rfl ?_
        refine gx_if_eq (tgt := 156) hX dX0_row_110 (by decide) h (fun h => ?_) (fun h => ?_)
        · refine gx_sub hX (lv' := [some (va_rf (some x0)), some (.int (x1)), some (.int (x2)), some (.int (x3)), some (.int (x4)), some (va_rf (x5)), none, some (.int (x7))]) ⟨Or.inr rfl, ⟨Or.inr rfl, ⟨Or.inr rfl, ⟨Or.inr rfl, ⟨Or.inr rfl, ⟨Or.inr rfl, ⟨Or.inl rfl, ⟨Or.inr rfl, trivial⟩⟩⟩⟩⟩⟩⟩⟩ ?_
          exact tX0_row_B156 hX hK19 ih h
        · refine gx_aload_n hX dX0_row_113 rfl ?_
          refine xk_getr hX 3 q214 (fun _ h => h) rfl dX0_row_114 h (fun v21 h => ?_)
          refine gx_iload hX dX0_row_117 rfl ?_
          obtain ⟨b23, hb, h⟩ := gx_bs h
          obtain ⟨eb, hkb⟩ := xk_isS hb
          obtain ⟨r22, hr22, h⟩ := gx_bs h
          refine gx_cV (As := [.int (x7)]) (rest := [.int (x6)]) (b := b23) hX (tJ2_get w (gx_A X) (gx_l X) (b23) (σ) (x7) hr22) (lw_V q433 q434 q435 q89 q436) ⟨rfl, dsJ2_get⟩ (by decide) (Nat.le_of_ble_eq_true rfl) (xk_rc hX (ci := 20) (by decide) (by decide) hkb) (by rw [eb]; rfl) (gx_w8 (gx_kI gx_k0) (Nat.le_of_ble_eq_true rfl)) dX0_row_119 ⟨Nat.le_refl _, Nat.le_refl _⟩ rfl ?_
          refine xk_castC hX 5 ⟨by decide, by decide⟩ q204 dX0_row_122 h (fun h => ?_)
          refine xk_getiN hX 46 q553 rfl dX0_row_125 h (fun v25 h => ?_)
          refine gx_iload_n hX dX0_row_128 rfl ?_
          refine gx_icmp_ne (tgt := 156) hX dX0_row_129 (by decide) h (fun h => ?_) (fun h => ?_)
          · refine gx_aload_n hX dX0_row_132 rfl ?_
            refine xk_getr hX 3 q214 (fun _ h => h) rfl dX0_row_133 h (fun v26 h => ?_)
            refine gx_iload hX dX0_row_136 rfl ?_
            obtain ⟨b28, hb, h⟩ := gx_bs h
            obtain ⟨eb, hkb⟩ := xk_isS hb
            obtain ⟨r27, hr27, h⟩ := gx_bs h
            refine gx_cV (As := [.int (x7)]) (rest := [.int (x6)]) (b := b28) hX (tJ2_get w (gx_A X) (gx_l X) (b28) (σ) (x7) hr27) (lw_V q433 q434 q435 q89 q436) ⟨rfl, dsJ2_get⟩ (by decide) (Nat.le_of_ble_eq_true rfl) (xk_rc hX (ci := 20) (by decide) (by decide) hkb) (by rw [eb]; rfl) (gx_w8 (gx_kI gx_k0) (Nat.le_of_ble_eq_true rfl)) dX0_row_138 ⟨Nat.le_refl _, Nat.le_refl _⟩ rfl ?_
            refine xk_castC hX 5 ⟨by decide, by decide⟩ q204 dX0_row_141 h (fun h => ?_)
            refine gx_aload hX dX0_row_144 rfl ?_
            obtain ⟨b31, hb, h⟩ := gx_bs h
            obtain ⟨eb, hkb⟩ := xk_isS hb
            obtain ⟨r30, hr30, h⟩ := gx_bs h
            refine gx_cV (As := [va_rf (x5)]) (rest := [.int (x6)]) (b := b31) hX (tX5_isAhead w (gx_A X) (gx_l X) (b31) (σ) (x5) hr30) (lw_V q659 q660 q661 q100 q662) ⟨rfl, dsX5_isAhead⟩ (by decide) (Nat.le_of_ble_eq_true rfl) (xk_rc hX (ci := 5) (by decide) (by decide) hkb) (by rw [eb]; rfl) (gx_w8 (gx_kI gx_k0) (Nat.le_of_ble_eq_true rfl)) dX0_row_146 ⟨Nat.le_refl _, Nat.le_refl _⟩ rfl ?_
            refine gx_if_eq (tgt := 156) hX dX0_row_149 (by decide) h (fun h => ?_) (fun h => ?_)
            · refine gx_sub hX (lv' := [some (va_rf (some x0)), some (.int (x1)), some (.int (x2)), some (.int (x3)), some (.int (x4)), some (va_rf (x5)), none, some (.int (x7))]) ⟨Or.inr rfl, ⟨Or.inr rfl, ⟨Or.inr rfl, ⟨Or.inr rfl, ⟨Or.inr rfl, ⟨Or.inr rfl, ⟨Or.inl rfl, ⟨Or.inr rfl, trivial⟩⟩⟩⟩⟩⟩⟩⟩ ?_
              exact tX0_row_B156 hX hK19 ih h
            · refine gx_iconst (v := 1) hX dX0_row_152 (by decide) ?_
              refine gx_goto (tgt := 157) hX dX0_row_153 (by decide) ?_
              refine gx_sub hX (lv' := [some (va_rf (some x0)), some (.int (x1)), some (.int (x2)), some (.int (x3)), some (.int (x4)), some (va_rf (x5)), none, some (.int (x7))]) ⟨Or.inr rfl, ⟨Or.inr rfl, ⟨Or.inr rfl, ⟨Or.inr rfl, ⟨Or.inr rfl, ⟨Or.inr rfl, ⟨Or.inl rfl, ⟨Or.inr rfl, trivial⟩⟩⟩⟩⟩⟩⟩⟩ ?_
              exact tX0_row_B157 hX hK19 ih h
          · refine gx_sub hX (lv' := [some (va_rf (some x0)), some (.int (x1)), some (.int (x2)), some (.int (x3)), some (.int (x4)), some (va_rf (x5)), none, some (.int (x7))]) ⟨Or.inr rfl, ⟨Or.inr rfl, ⟨Or.inr rfl, ⟨Or.inr rfl, ⟨Or.inr rfl, ⟨Or.inr rfl, ⟨Or.inl rfl, ⟨Or.inr rfl, trivial⟩⟩⟩⟩⟩⟩⟩⟩ ?_
            exact tX0_row_B156 hX hK19 ih h
def fX0_row_L19 (N : Nat) (x0 : Nat) (σ : xk_C)   : Nat → Int32 → Int32 → Int32 → Int32 → Option (Int32)
  | 0, _, _, _, _ => none
  | k + 1, x1, x2, x3, x4 => (xk_gr (σ) 3 (some x0)).bind fun v2 => (xk_is (σ) 21 (v2)).bind fun b4 => (fJ2_size (b4) (σ)).bind fun r3 => if (r3) ≤ x4 then if x2 = (-1) then some (x3) else some ((-1)) else (xk_gr (σ) 3 (some x0)).bind fun v5 => (xk_is (σ) 21 (v5)).bind fun b7 => (fJ2_get (b7) (σ) (x4)).bind fun r6 => (xk_ck (σ) 6 (r6)).bind fun u8 => (xk_is (σ) 6 (r6)).bind fun b10 => (fX5_isWaiting (b10) (σ)).bind fun r9 => if r9 = 0 then fX0_row_B175 N x0 σ (fX0_row_L19 N x0 σ k) (x1) (x2) (x3) (x4) else (xk_gi (σ) 46 (r6)).bind fun v11 => if v11 = x1 then fX0_row_L74 N x0 σ (fX0_row_L19 N x0 σ k) N (x1) (x2) ((x3) + 1) (x4) (r6) (0) (0) else fX0_row_B175 N x0 σ (fX0_row_L19 N x0 σ k) (x1) (x2) (x3) (x4)
set_option maxHeartbeats 4000000 in
theorem tX0_row_L19 {w : gw_W} {X : gx_X} {N : Nat} {x0 : Nat} {σ : xk_C} {r : Int32} (hX : gx_O (gw_I w (gx_A X)) X iX0_row 5 0 0 (xk_P (gx_A X) w σ) (.returned (some (.int r))))  : ∀ (k : Nat) (x1 : Int32) (x2 : Int32) (x3 : Int32) (x4 : Int32), fX0_row_L19 N x0 σ k x1 x2 x3 x4 = some r → gx_G X (xk_P (gx_A X) w (σ)) 0 0 [some (va_rf (some x0)), some (.int (x1)), some (.int (x2)), some (.int (x3)), some (.int (x4)), none, none, none] 19 [] := by
  intro k
  induction k with
  | zero =>
    intro x1 x2 x3 x4 h
    unfold fX0_row_L19 at h
    cases h
  | succ k ih =>
    intro x1 x2 x3 x4 h
    unfold fX0_row_L19 at h
    refine gx_iload hX dX0_row_19 rfl ?_
    refine gx_aload_n hX dX0_row_21 rfl ?_
    refine xk_getr hX 3 q214 (fun _ h => h) rfl dX0_row_22 h (fun v2 h => ?_)
    obtain ⟨b4, hb, h⟩ := gx_bs h
    obtain ⟨eb, hkb⟩ := xk_isS hb
    obtain ⟨r3, hr3, h⟩ := gx_bs h
    refine gx_cV (As := []) (rest := [.int (x4)]) (b := b4) hX (tJ2_size w (gx_A X) (gx_l X) (b4) (σ)  hr3) (lw_V q314 q315 q316 q89 q317) ⟨rfl, dsJ2_size⟩ (by decide) (Nat.le_of_ble_eq_true rfl) (xk_rc hX (ci := 20) (by decide) (by decide) hkb) (by rw [eb]; rfl) (gx_w8 (gx_kI gx_k0) (Nat.le_of_ble_eq_true rfl)) dX0_row_25 ⟨Nat.le_refl _, Nat.le_refl _⟩ rfl ?_
    refine gx_icmp_ge (tgt := 181) hX dX0_row_28 (by decide) h (fun h => ?_) (fun h => ?_)
    · refine gx_iload_n hX dX0_row_181 rfl ?_
      refine gx_iconst (v := (-1)) hX dX0_row_182 (by decide) ?_
      refine gx_icmp_ne (tgt := 190) hX dX0_row_183 (by decide) h (fun h => ?_) (fun h => ?_)
      · refine gx_iload_n hX dX0_row_186 rfl ?_
        refine gx_goto (tgt := 191) hX dX0_row_187 (by decide) ?_
        cases h
        exact gx_iret hX rfl dX0_row_191 rfl ⟨rfl, rfl⟩ (fun _ h => h)
      · refine gx_iconst (v := (-1)) hX dX0_row_190 (by decide) ?_
        cases h
        exact gx_iret hX rfl dX0_row_191 rfl ⟨rfl, rfl⟩ (fun _ h => h)
    · refine gx_aload_n hX dX0_row_31 rfl ?_
      refine xk_getr hX 3 q214 (fun _ h => h) rfl dX0_row_32 h (fun v5 h => ?_)
      refine gx_iload hX dX0_row_35 rfl ?_
      obtain ⟨b7, hb, h⟩ := gx_bs h
      obtain ⟨eb, hkb⟩ := xk_isS hb
      obtain ⟨r6, hr6, h⟩ := gx_bs h
      refine gx_cV (As := [.int (x4)]) (rest := []) (b := b7) hX (tJ2_get w (gx_A X) (gx_l X) (b7) (σ) (x4) hr6) (lw_V q433 q434 q435 q89 q436) ⟨rfl, dsJ2_get⟩ (by decide) (Nat.le_of_ble_eq_true rfl) (xk_rc hX (ci := 20) (by decide) (by decide) hkb) (by rw [eb]; rfl) (gx_w8 gx_k0 (Nat.le_of_ble_eq_true rfl)) dX0_row_37 ⟨Nat.le_refl _, Nat.le_refl _⟩ rfl ?_
      refine xk_castC hX 5 ⟨by decide, by decide⟩ q204 dX0_row_40 h (fun h => ?_)
      refine gx_astore hX dX0_row_43 (Nat.le_of_ble_eq_true rfl) gx_c1i (lv' := [some (va_rf (some x0)), some (.int (x1)), some (.int (x2)), some (.int (x3)), some (.int (x4)), some (va_rf (r6)), none, none]) rfl ?_
      refine gx_aload hX dX0_row_45 rfl ?_
      obtain ⟨b10, hb, h⟩ := gx_bs h
      obtain ⟨eb, hkb⟩ := xk_isS hb
      obtain ⟨r9, hr9, h⟩ := gx_bs h
      refine gx_cV (As := []) (rest := []) (b := b10) hX (tX5_isWaiting w (gx_A X) (gx_l X) (b10) (σ)  hr9) (lw_V q655 q656 q657 q100 q658) ⟨rfl, dsX5_isWaiting⟩ (by decide) (Nat.le_of_ble_eq_true rfl) (xk_rc hX (ci := 5) (by decide) (by decide) hkb) (by rw [eb]; rfl) (gx_w8 gx_k0 (Nat.le_of_ble_eq_true rfl)) dX0_row_47 ⟨Nat.le_refl _, Nat.le_refl _⟩ rfl ?_
      refine gx_if_eq (tgt := 175) hX dX0_row_50 (by decide) h (fun h => ?_) (fun h => ?_)
      · refine gx_sub hX (lv' := [some (va_rf (some x0)), some (.int (x1)), some (.int (x2)), some (.int (x3)), some (.int (x4)), none, none, none]) ⟨Or.inr rfl, ⟨Or.inr rfl, ⟨Or.inr rfl, ⟨Or.inr rfl, ⟨Or.inr rfl, ⟨Or.inl rfl, ⟨Or.inr rfl, ⟨Or.inr rfl, trivial⟩⟩⟩⟩⟩⟩⟩⟩ ?_
        exact tX0_row_B175 hX ih h
      · refine gx_aload hX dX0_row_53 rfl ?_
        refine xk_getiN hX 46 q553 rfl dX0_row_55 h (fun v11 h => ?_)
        refine gx_iload_n hX dX0_row_58 rfl ?_
        refine gx_icmp_eq (tgt := 65) hX dX0_row_59 (by decide) h (fun h => ?_) (fun h => ?_)
        · refine gx_iinc (v := 1) hX dX0_row_65 rfl (by decide) gx_c1i (lv' := [some (va_rf (some x0)), some (.int (x1)), some (.int (x2)), some (.int ((x3) + 1)), some (.int (x4)), some (va_rf (r6)), none, none]) rfl ?_
          refine gx_iconst (v := 0) hX dX0_row_68 (by decide) ?_
          refine gx_istore hX dX0_row_69 (Nat.le_of_ble_eq_true rfl) gx_c1r (lv' := [some (va_rf (some x0)), some (.int (x1)), some (.int (x2)), some (.int ((x3) + 1)), some (.int (x4)), some (va_rf (r6)), some (.int (0)), none]) rfl ?_
          refine gx_iconst (v := 0) hX dX0_row_71 (by decide) ?_
          refine gx_istore hX dX0_row_72 (Nat.le_of_ble_eq_true rfl) gx_c1i (lv' := [some (va_rf (some x0)), some (.int (x1)), some (.int (x2)), some (.int ((x3) + 1)), some (.int (x4)), some (va_rf (r6)), some (.int (0)), some (.int (0))]) rfl ?_
          exact tX0_row_L74 hX ih N _ _ _ _ _ _ _ h
        · refine gx_goto (tgt := 175) hX dX0_row_62 (by decide) ?_
          refine gx_sub hX (lv' := [some (va_rf (some x0)), some (.int (x1)), some (.int (x2)), some (.int (x3)), some (.int (x4)), none, none, none]) ⟨Or.inr rfl, ⟨Or.inr rfl, ⟨Or.inr rfl, ⟨Or.inr rfl, ⟨Or.inr rfl, ⟨Or.inl rfl, ⟨Or.inr rfl, ⟨Or.inr rfl, trivial⟩⟩⟩⟩⟩⟩⟩⟩ ?_
          exact tX0_row_B175 hX ih h
def fX0_row (N : Nat) (x0 : Nat) (σ : xk_C) (x1 : Int32) (x2 : Int32) : Option (Int32) := (fX0_isCell  (x1)).bind fun r1 => if r1 = 0 then some ((-1)) else if ((-1)) ≤ x2 then fX0_row_L19 N x0 σ N (x1) (x2) (0) (0) else some ((-1))
set_option maxHeartbeats 4000000 in
theorem tX0_row (w : gw_W) (A : Nat → Prop) (l : Launch) (N : Nat) (x0 : Nat) (σ : xk_C) (x1 : Int32) (x2 : Int32) {r : Int32} (h : fX0_row N x0 σ x1 x2 = some r) : gx_T (gw_I w A) A l yX0_row iX0_row 5 [va_rf (some x0), .int (x1), .int (x2)] (xk_P A w σ) 0 0 (xk_P A w σ) (.returned (some (.int r))) := by
  refine gx_T.of (gw_I.inv w A) (by decide) ⟨rfl, rfl⟩ (gx_kR (gx_kI (gx_kI gx_k0))) (Nat.le_of_ble_eq_true rfl) (fun X hl hAx hX => ?_)
  subst hl
  subst hAx
  show gx_G X (xk_P (gx_A X) w (σ)) 0 0 [some (va_rf (some x0)), some (.int (x1)), some (.int (x2)), none, none, none, none, none] 0 []
  unfold fX0_row at h
  refine gx_iload_n hX dX0_row_0 rfl ?_
  obtain ⟨r1, hr1, h⟩ := gx_bs h
  refine gx_cS (As := [.int (x1)]) (rest := []) hX (tX0_isCell w (gx_A X) (gx_l X) (xk_P (gx_A X) w (σ)) (x1) hr1) (lw_S q308 q309 q86 q310) dsX0_isCell (by decide) (Nat.le_of_ble_eq_true rfl) rfl (gx_w8 gx_k0 (Nat.le_of_ble_eq_true rfl)) dX0_row_1 ⟨Nat.le_refl _, Nat.le_refl _⟩ rfl ?_
  refine gx_if_eq (tgt := 12) hX dX0_row_4 (by decide) h (fun h => ?_) (fun h => ?_)
  · refine gx_iconst (v := (-1)) hX dX0_row_12 (by decide) ?_
    cases h
    exact gx_iret hX rfl dX0_row_13 rfl ⟨rfl, rfl⟩ (fun _ h => h)
  · refine gx_iload_n hX dX0_row_7 rfl ?_
    refine gx_iconst (v := (-1)) hX dX0_row_8 (by decide) ?_
    refine gx_icmp_ge (tgt := 14) hX dX0_row_9 (by decide) h (fun h => ?_) (fun h => ?_)
    · refine gx_iconst (v := 0) hX dX0_row_14 (by decide) ?_
      refine gx_istore_n hX dX0_row_15 (Nat.le_of_ble_eq_true rfl) gx_c1i (lv' := [some (va_rf (some x0)), some (.int (x1)), some (.int (x2)), some (.int (0)), none, none, none, none]) rfl ?_
      refine gx_iconst (v := 0) hX dX0_row_16 (by decide) ?_
      refine gx_istore hX dX0_row_17 (Nat.le_of_ble_eq_true rfl) gx_c1i (lv' := [some (va_rf (some x0)), some (.int (x1)), some (.int (x2)), some (.int (0)), some (.int (0)), none, none, none]) rfl ?_
      exact tX0_row_L19 hX  N _ _ _ _ h
    · refine gx_iconst (v := (-1)) hX dX0_row_12 (by decide) ?_
      cases h
      exact gx_iret hX rfl dX0_row_13 rfl ⟨rfl, rfl⟩ (fun _ h => h)
abbrev iX0_exchanges : gx_M := (RX0, "exchanges", cX0_exchanges, 2, some .int)
theorem dsX0_exchanges : gx_ds yX0_exchanges 1 := by decide +kernel
def fX0_exchanges (x0 : Nat) (σ : xk_C) (x1 : Int32) : Option (Int32) := (fX0_in  (x1) (0) (2)).bind fun r1 => if r1 = 0 then some ((-1)) else (xk_gr (σ) 7 (some x0)).bind fun v2 => (xk_ld (σ) 0 (v2) (x1)).bind fun v3 => some (v3)
set_option maxHeartbeats 4000000 in
theorem tX0_exchanges (w : gw_W) (A : Nat → Prop) (l : Launch) (x0 : Nat) (σ : xk_C) (x1 : Int32) {r : Int32} (h : fX0_exchanges x0 σ x1 = some r) : gx_T (gw_I w A) A l yX0_exchanges iX0_exchanges 2 [va_rf (some x0), .int (x1)] (xk_P A w σ) 0 0 (xk_P A w σ) (.returned (some (.int r))) := by
  refine gx_T.of (gw_I.inv w A) (by decide) ⟨rfl, rfl⟩ (gx_kR (gx_kI gx_k0)) (Nat.le_of_ble_eq_true rfl) (fun X hl hAx hX => ?_)
  subst hl
  subst hAx
  show gx_G X (xk_P (gx_A X) w (σ)) 0 0 [some (va_rf (some x0)), some (.int (x1))] 0 []
  unfold fX0_exchanges at h
  refine gx_iload_n hX dX0_exchanges_0 rfl ?_
  refine gx_iconst (v := 0) hX dX0_exchanges_1 (by decide) ?_
  refine gx_iconst (v := 2) hX dX0_exchanges_2 (by decide) ?_
  obtain ⟨r1, hr1, h⟩ := gx_bs h
  refine gx_cS (As := [.int (x1), .int (0), .int (2)]) (rest := []) hX (tX0_in w (gx_A X) (gx_l X) (xk_P (gx_A X) w (σ)) (x1) (0) (2) hr1) (lw_S q311 q312 q86 q313) dsX0_in (by decide) (Nat.le_of_ble_eq_true rfl) rfl (gx_w8 gx_k0 (Nat.le_of_ble_eq_true rfl)) dX0_exchanges_3 ⟨Nat.le_refl _, Nat.le_refl _⟩ rfl ?_
  refine gx_if_eq (tgt := 18) hX dX0_exchanges_6 (by decide) h (fun h => ?_) (fun h => ?_)
  · refine gx_iconst (v := (-1)) hX dX0_exchanges_18 (by decide) ?_
    cases h
    exact gx_iret hX rfl dX0_exchanges_19 rfl ⟨rfl, rfl⟩ (fun _ h => h)
  · refine gx_aload_n hX dX0_exchanges_9 rfl ?_
    refine xk_getr hX 7 q224 (fun _ h => h) rfl dX0_exchanges_10 h (fun v2 h => ?_)
    refine gx_iload_n hX dX0_exchanges_13 rfl ?_
    refine xk_iaload hX dX0_exchanges_14 h (fun v3 h => ?_)
    refine gx_goto (tgt := 19) hX dX0_exchanges_15 (by decide) ?_
    cases h
    exact gx_iret hX rfl dX0_exchanges_19 rfl ⟨rfl, rfl⟩ (fun _ h => h)
abbrev iX0_points : gx_M := (RX0, "points", cX0_points, 3, some .int)
theorem dsX0_points : gx_ds yX0_points 0 := by decide +kernel
def fX0_points_B51 (N : Nat) (x0 : Nat) (σ : xk_C)  (K4 : Int32 → Int32 → Option (Int32)) (x2 : Int32) (y0 : Int32) (y1 : Int32) : Option (Int32) := K4 ((y1) + (y0)) ((x2) + 1)
set_option maxHeartbeats 4000000 in
theorem tX0_points_B51 {w : gw_W} {X : gx_X} {N : Nat} {x0 : Nat} {σ : xk_C} {r : Int32} (hX : gx_O (gw_I w (gx_A X)) X iX0_points 5 0 0 (xk_P (gx_A X) w σ) (.returned (some (.int r)))) {K4 : Int32 → Int32 → Option (Int32)} (hK4 : ∀ (x1 : Int32) (x2 : Int32), K4 x1 x2 = some r → gx_G X (xk_P (gx_A X) w (σ)) 0 0 [some (va_rf (some x0)), some (.int (x1)), some (.int (x2))] 4 []) {x2 : Int32} {y0 : Int32} {y1 : Int32} (h : fX0_points_B51 N x0 σ K4 x2 y0 y1 = some r) : gx_G X (xk_P (gx_A X) w (σ)) 0 0 [some (va_rf (some x0)), none, some (.int (x2))] 51 [.int (y0), .int (y1)] := by
  unfold fX0_points_B51 at h
  refine gx_iadd hX dX0_points_51 ?_
  refine gx_istore_n hX dX0_points_52 (Nat.le_of_ble_eq_true rfl) gx_c1r (lv' := [some (va_rf (some x0)), some (.int ((y1) + (y0))), some (.int (x2))]) rfl ?_
  refine gx_iinc (v := 1) hX dX0_points_53 rfl (by decide) gx_c1i (lv' := [some (va_rf (some x0)), some (.int ((y1) + (y0))), some (.int ((x2) + 1))]) rfl ?_
  refine gx_goto (tgt := 4) hX dX0_points_56 (by decide) ?_
  exact hK4 _ _ h
def fX0_points_L4 (N : Nat) (x0 : Nat) (σ : xk_C)   : Nat → Int32 → Int32 → Option (Int32)
  | 0, _, _ => none
  | k + 1, x1, x2 => (xk_gr (σ) 3 (some x0)).bind fun v1 => (xk_is (σ) 21 (v1)).bind fun b3 => (fJ2_size (b3) (σ)).bind fun r2 => if (r2) ≤ x2 then some (x1) else (xk_gr (σ) 3 (some x0)).bind fun v4 => (xk_is (σ) 21 (v4)).bind fun b6 => (fJ2_get (b6) (σ) (x2)).bind fun r5 => (xk_ck (σ) 6 (r5)).bind fun u7 => (xk_is (σ) 6 (r5)).bind fun b9 => (fX5_isHoused (b9) (σ)).bind fun r8 => if r8 = 0 then fX0_points_B51 N x0 σ (fX0_points_L4 N x0 σ k) (x2) (0) (x1) else (xk_gr (σ) 3 (some x0)).bind fun v10 => (xk_is (σ) 21 (v10)).bind fun b12 => (fJ2_get (b12) (σ) (x2)).bind fun r11 => (xk_ck (σ) 6 (r11)).bind fun u13 => (xk_is (σ) 6 (r11)).bind fun b15 => (fX5_fit (b15) (σ)).bind fun r14 => fX0_points_B51 N x0 σ (fX0_points_L4 N x0 σ k) (x2) (r14) (x1)
set_option maxHeartbeats 4000000 in
theorem tX0_points_L4 {w : gw_W} {X : gx_X} {N : Nat} {x0 : Nat} {σ : xk_C} {r : Int32} (hX : gx_O (gw_I w (gx_A X)) X iX0_points 5 0 0 (xk_P (gx_A X) w σ) (.returned (some (.int r))))  : ∀ (k : Nat) (x1 : Int32) (x2 : Int32), fX0_points_L4 N x0 σ k x1 x2 = some r → gx_G X (xk_P (gx_A X) w (σ)) 0 0 [some (va_rf (some x0)), some (.int (x1)), some (.int (x2))] 4 [] := by
  intro k
  induction k with
  | zero =>
    intro x1 x2 h
    unfold fX0_points_L4 at h
    cases h
  | succ k ih =>
    intro x1 x2 h
    unfold fX0_points_L4 at h
    refine gx_iload_n hX dX0_points_4 rfl ?_
    refine gx_aload_n hX dX0_points_5 rfl ?_
    refine xk_getr hX 3 q214 (fun _ h => h) rfl dX0_points_6 h (fun v1 h => ?_)
    obtain ⟨b3, hb, h⟩ := gx_bs h
    obtain ⟨eb, hkb⟩ := xk_isS hb
    obtain ⟨r2, hr2, h⟩ := gx_bs h
    refine gx_cV (As := []) (rest := [.int (x2)]) (b := b3) hX (tJ2_size w (gx_A X) (gx_l X) (b3) (σ)  hr2) (lw_V q314 q315 q316 q89 q317) ⟨rfl, dsJ2_size⟩ (by decide) (Nat.le_of_ble_eq_true rfl) (xk_rc hX (ci := 20) (by decide) (by decide) hkb) (by rw [eb]; rfl) (gx_w8 (gx_kI gx_k0) (Nat.le_of_ble_eq_true rfl)) dX0_points_9 ⟨Nat.le_refl _, Nat.le_refl _⟩ rfl ?_
    refine gx_icmp_ge (tgt := 59) hX dX0_points_12 (by decide) h (fun h => ?_) (fun h => ?_)
    · refine gx_iload_n hX dX0_points_59 rfl ?_
      cases h
      exact gx_iret hX rfl dX0_points_60 rfl ⟨rfl, rfl⟩ (fun _ h => h)
    · refine gx_iload_n hX dX0_points_15 rfl ?_
      refine gx_aload_n hX dX0_points_16 rfl ?_
      refine xk_getr hX 3 q214 (fun _ h => h) rfl dX0_points_17 h (fun v4 h => ?_)
      refine gx_iload_n hX dX0_points_20 rfl ?_
      obtain ⟨b6, hb, h⟩ := gx_bs h
      obtain ⟨eb, hkb⟩ := xk_isS hb
      obtain ⟨r5, hr5, h⟩ := gx_bs h
      refine gx_cV (As := [.int (x2)]) (rest := [.int (x1)]) (b := b6) hX (tJ2_get w (gx_A X) (gx_l X) (b6) (σ) (x2) hr5) (lw_V q433 q434 q435 q89 q436) ⟨rfl, dsJ2_get⟩ (by decide) (Nat.le_of_ble_eq_true rfl) (xk_rc hX (ci := 20) (by decide) (by decide) hkb) (by rw [eb]; rfl) (gx_w8 (gx_kI gx_k0) (Nat.le_of_ble_eq_true rfl)) dX0_points_21 ⟨Nat.le_refl _, Nat.le_refl _⟩ rfl ?_
      refine xk_castC hX 5 ⟨by decide, by decide⟩ q204 dX0_points_24 h (fun h => ?_)
      obtain ⟨b9, hb, h⟩ := gx_bs h
      obtain ⟨eb, hkb⟩ := xk_isS hb
      obtain ⟨r8, hr8, h⟩ := gx_bs h
      refine gx_cV (As := []) (rest := [.int (x1)]) (b := b9) hX (tX5_isHoused w (gx_A X) (gx_l X) (b9) (σ)  hr8) (lw_V q982 q648 q649 q100 q650) ⟨rfl, dsX5_isHoused⟩ (by decide) (Nat.le_of_ble_eq_true rfl) (xk_rc hX (ci := 5) (by decide) (by decide) hkb) (by rw [eb]; rfl) (gx_w8 (gx_kI gx_k0) (Nat.le_of_ble_eq_true rfl)) dX0_points_27 ⟨Nat.le_refl _, Nat.le_refl _⟩ rfl ?_
      refine gx_if_eq (tgt := 50) hX dX0_points_30 (by decide) h (fun h => ?_) (fun h => ?_)
      · refine gx_iconst (v := 0) hX dX0_points_50 (by decide) ?_
        refine gx_sub hX (lv' := [some (va_rf (some x0)), none, some (.int (x2))]) ⟨Or.inr rfl, ⟨Or.inl rfl, ⟨Or.inr rfl, trivial⟩⟩⟩ ?_
        exact tX0_points_B51 hX ih h
      · refine gx_aload_n hX dX0_points_33 rfl ?_
        refine xk_getr hX 3 q214 (fun _ h => h) rfl dX0_points_34 h (fun v10 h => ?_)
        refine gx_iload_n hX dX0_points_37 rfl ?_
        obtain ⟨b12, hb, h⟩ := gx_bs h
        obtain ⟨eb, hkb⟩ := xk_isS hb
        obtain ⟨r11, hr11, h⟩ := gx_bs h
        refine gx_cV (As := [.int (x2)]) (rest := [.int (x1)]) (b := b12) hX (tJ2_get w (gx_A X) (gx_l X) (b12) (σ) (x2) hr11) (lw_V q433 q434 q435 q89 q436) ⟨rfl, dsJ2_get⟩ (by decide) (Nat.le_of_ble_eq_true rfl) (xk_rc hX (ci := 20) (by decide) (by decide) hkb) (by rw [eb]; rfl) (gx_w8 (gx_kI gx_k0) (Nat.le_of_ble_eq_true rfl)) dX0_points_38 ⟨Nat.le_refl _, Nat.le_refl _⟩ rfl ?_
        refine xk_castC hX 5 ⟨by decide, by decide⟩ q204 dX0_points_41 h (fun h => ?_)
        obtain ⟨b15, hb, h⟩ := gx_bs h
        obtain ⟨eb, hkb⟩ := xk_isS hb
        obtain ⟨r14, hr14, h⟩ := gx_bs h
        refine gx_cV (As := []) (rest := [.int (x1)]) (b := b15) hX (tX5_fit w (gx_A X) (gx_l X) (b15) (σ)  hr14) (lw_V q686 q687 q688 q100 q689) ⟨rfl, dsX5_fit⟩ (by decide) (Nat.le_of_ble_eq_true rfl) (xk_rc hX (ci := 5) (by decide) (by decide) hkb) (by rw [eb]; rfl) (gx_w8 (gx_kI gx_k0) (Nat.le_of_ble_eq_true rfl)) dX0_points_44 ⟨Nat.le_refl _, Nat.le_refl _⟩ rfl ?_
        refine gx_goto (tgt := 51) hX dX0_points_47 (by decide) ?_
        refine gx_sub hX (lv' := [some (va_rf (some x0)), none, some (.int (x2))]) ⟨Or.inr rfl, ⟨Or.inl rfl, ⟨Or.inr rfl, trivial⟩⟩⟩ ?_
        exact tX0_points_B51 hX ih h
def fX0_points (N : Nat) (x0 : Nat) (σ : xk_C)  : Option (Int32) := fX0_points_L4 N x0 σ N (0) (0)
set_option maxHeartbeats 4000000 in
theorem tX0_points (w : gw_W) (A : Nat → Prop) (l : Launch) (N : Nat) (x0 : Nat) (σ : xk_C)  {r : Int32} (h : fX0_points N x0 σ = some r) : gx_T (gw_I w A) A l yX0_points iX0_points 5 [va_rf (some x0)] (xk_P A w σ) 0 0 (xk_P A w σ) (.returned (some (.int r))) := by
  refine gx_T.of (gw_I.inv w A) (by decide) ⟨rfl, rfl⟩ (gx_kR gx_k0) (Nat.le_of_ble_eq_true rfl) (fun X hl hAx hX => ?_)
  subst hl
  subst hAx
  show gx_G X (xk_P (gx_A X) w (σ)) 0 0 [some (va_rf (some x0)), none, none] 0 []
  unfold fX0_points at h
  refine gx_iconst (v := 0) hX dX0_points_0 (by decide) ?_
  refine gx_istore_n hX dX0_points_1 (Nat.le_of_ble_eq_true rfl) gx_c1r (lv' := [some (va_rf (some x0)), some (.int (0)), none]) rfl ?_
  refine gx_iconst (v := 0) hX dX0_points_2 (by decide) ?_
  refine gx_istore_n hX dX0_points_3 (Nat.le_of_ble_eq_true rfl) gx_c1i (lv' := [some (va_rf (some x0)), some (.int (0)), some (.int (0))]) rfl ?_
  exact tX0_points_L4 hX  N _ _ h
abbrev iX0_findChain : gx_M := (RX0, "findChain", cX0_findChain, 7, none)
theorem dsX0_findChain : gx_ds yX0_findChain 1 := by decide +kernel
def fX0_findChain_B118 (N : Nat) (x0 : Nat)  (K17 : xk_C → Int32 → Option (xk_C × Unit)) (K25 : xk_C → Int32 → Option Nat → Int32 → Int32 → Option (xk_C × Unit)) (σ : xk_C) (x2 : Int32) (x3 : Option Nat) (x4 : Int32) (x5 : Int32) : Option (xk_C × Unit) := K25 (σ) (x2) (x3) (x4) ((x5) + 1)
set_option maxHeartbeats 4000000 in
theorem eX0_findChain_B118 {r : xk_C × Unit} {N : Nat} {x0 : Nat} {K17 : xk_C → Int32 → Option (xk_C × Unit)} {K25 : xk_C → Int32 → Option Nat → Int32 → Int32 → Option (xk_C × Unit)} (hL17 : ∀ (σ : xk_C) (x2 : Int32), xk_er r σ (K17 σ x2)) (hL25 : ∀ (σ : xk_C) (x2 : Int32) (x3 : Option Nat) (x4 : Int32) (x5 : Int32), xk_er r σ (K25 σ x2 x3 x4 x5)) {σ : xk_C} {x2 : Int32} {x3 : Option Nat} {x4 : Int32} {x5 : Int32} : xk_er r σ (fX0_findChain_B118 N x0 K17 K25 σ x2 x3 x4 x5) := by
  unfold fX0_findChain_B118
  exact (hL25 _ _ _ _ _)
set_option maxHeartbeats 4000000 in
theorem tX0_findChain_B118 {w : gw_W} {X : gx_X} {N : Nat} {x0 : Nat} {r : xk_C × Unit} (hX : gx_O (gw_I w (gx_A X)) X iX0_findChain 5 0 0 (xk_P (gx_A X) w r.1) (.returned none)) {K17 : xk_C → Int32 → Option (xk_C × Unit)} {K25 : xk_C → Int32 → Option Nat → Int32 → Int32 → Option (xk_C × Unit)} (hK17 : ∀ (σ : xk_C) (x2 : Int32), K17 σ x2 = some r → gx_G X (xk_P (gx_A X) w (σ)) 0 0 [some (va_rf (some x0)), none, some (.int (x2)), none, none, none, none] 17 []) (hK25 : ∀ (σ : xk_C) (x2 : Int32) (x3 : Option Nat) (x4 : Int32) (x5 : Int32), K25 σ x2 x3 x4 x5 = some r → gx_G X (xk_P (gx_A X) w (σ)) 0 0 [some (va_rf (some x0)), none, some (.int (x2)), some (va_rf (x3)), some (.int (x4)), some (.int (x5)), none] 25 []) {σ : xk_C} {x2 : Int32} {x3 : Option Nat} {x4 : Int32} {x5 : Int32} (h : fX0_findChain_B118 N x0 K17 K25 σ x2 x3 x4 x5 = some r) : gx_G X (xk_P (gx_A X) w (σ)) 0 0 [some (va_rf (some x0)), none, some (.int (x2)), some (va_rf (x3)), some (.int (x4)), some (.int (x5)), none] 118 [] := by
  unfold fX0_findChain_B118 at h
  refine gx_iinc (v := 1) hX dX0_findChain_118 rfl (by decide) gx_c1i (lv' := [some (va_rf (some x0)), none, some (.int (x2)), some (va_rf (x3)), some (.int (x4)), some (.int ((x5) + 1)), none]) rfl ?_
  refine gx_goto (tgt := 25) hX dX0_findChain_121 (by decide) ?_
  exact hK25 _ _ _ _ _ h
def fX0_findChain_L25 (N : Nat) (x0 : Nat)  (K17 : xk_C → Int32 → Option (xk_C × Unit)) : Nat → xk_C → Int32 → Option Nat → Int32 → Int32 → Option (xk_C × Unit)
  | 0, _, _, _, _, _ => none
  | k + 1, σ, x2, x3, x4, x5 => (xk_gr (σ) 3 (some x0)).bind fun v4 => (xk_is (σ) 21 (v4)).bind fun b6 => (fJ2_size (b6) (σ)).bind fun r5 => if (r5) ≤ x5 then if x3 = none then some (σ, ()) else (xk_gi (σ) 44 (x3)).bind fun v7 => (xk_gr (σ) 13 (some x0)).bind fun v8 => (xk_gi (σ) 14 (some x0)).bind fun v9 => (xk_pi (σ) 14 (some x0) ((v9) + (1))).bind fun σ10 => (xk_gi (σ10) 44 (x3)).bind fun v11 => (xk_st (σ10) 0 (v8) (v9) (v11)).bind fun σ12 => (xk_gi (σ12) 15 (some x0)).bind fun v13 => (xk_pi (σ12) 15 (some x0) ((v13) + (x4))).bind fun σ14 => (xk_gr (σ14) 53 (x3)).bind fun v15 => (xk_pr (σ14) 16 (some x0) (v15)).bind fun σ16 => K17 (σ16) ((x2) ||| ((1) <<< ((v7) &&& 31))) else (xk_gr (σ) 3 (some x0)).bind fun v17 => (xk_is (σ) 21 (v17)).bind fun b19 => (fJ2_get (b19) (σ) (x5)).bind fun r18 => (xk_ck (σ) 6 (r18)).bind fun u20 => (xk_is (σ) 6 (r18)).bind fun b22 => (fX5_isHoused (b22) (σ)).bind fun r21 => if r21 = 0 then fX0_findChain_B118 N x0 K17 (fX0_findChain_L25 N x0 K17 k) (σ) (x2) (x3) (x4) (x5) else if ((x2) >>> ((x5) &&& 31)) &&& (1) = 1 then fX0_findChain_B118 N x0 K17 (fX0_findChain_L25 N x0 K17 k) (σ) (x2) (x3) (x4) (x5) else (xk_gr (σ) 16 (some x0)).bind fun v23 => (xk_gi (σ) 47 (r18)).bind fun v24 => (xk_is (σ) 5 (v23)).bind fun b26 => (fX4_fit (b26) (σ) (v24)).bind fun r25 => (xk_is (σ) 6 (r18)).bind fun b28 => (fX5_fit (b28) (σ)).bind fun r27 => if (x4) < (r25) - (r27) then (xk_gr (σ) 16 (some x0)).bind fun v29 => (xk_gi (σ) 47 (r18)).bind fun v30 => (xk_is (σ) 5 (v29)).bind fun b32 => (fX4_fit (b32) (σ) (v30)).bind fun r31 => (xk_is (σ) 6 (r18)).bind fun b34 => (fX5_fit (b34) (σ)).bind fun r33 => fX0_findChain_B118 N x0 K17 (fX0_findChain_L25 N x0 K17 k) (σ) (x2) (r18) ((r31) - (r33)) (x5) else fX0_findChain_B118 N x0 K17 (fX0_findChain_L25 N x0 K17 k) (σ) (x2) (x3) (x4) (x5)
set_option maxHeartbeats 4000000 in
theorem eX0_findChain_L25 {r : xk_C × Unit} {N : Nat} {x0 : Nat} {K17 : xk_C → Int32 → Option (xk_C × Unit)} (hL17 : ∀ (σ : xk_C) (x2 : Int32), xk_er r σ (K17 σ x2)) : ∀ (k : Nat) (σ : xk_C) (x2 : Int32) (x3 : Option Nat) (x4 : Int32) (x5 : Int32), xk_er r σ (fX0_findChain_L25 N x0 K17 k σ x2 x3 x4 x5) := by
  intro k
  induction k with
  | zero =>
    intro σ x2 x3 x4 x5
    unfold fX0_findChain_L25
    exact xk_er_none
  | succ k hL25 =>
    intro σ x2 x3 x4 x5
    unfold fX0_findChain_L25
    exact (xk_er_rd (fun _ => (xk_er_rd (fun _ => (xk_er_rd (fun _ => (xk_er_ite (xk_er_ite xk_er_ret (xk_er_rd (fun _ => (xk_er_rd (fun _ => (xk_er_rd (fun _ => (xk_er_op xk_e_pi (fun _ => (xk_er_rd (fun _ => (xk_er_op xk_e_st (fun _ => (xk_er_rd (fun _ => (xk_er_op xk_e_pi (fun _ => (xk_er_rd (fun _ => (xk_er_op xk_e_pr (fun _ => (hL17 _ _)))))))))))))))))))))) (xk_er_rd (fun _ => (xk_er_rd (fun _ => (xk_er_rd (fun _ => (xk_er_rd (fun _ => (xk_er_rd (fun _ => (xk_er_rd (fun _ => (xk_er_ite (eX0_findChain_B118 hL17 hL25) (xk_er_ite (eX0_findChain_B118 hL17 hL25) (xk_er_rd (fun _ => (xk_er_rd (fun _ => (xk_er_rd (fun _ => (xk_er_rd (fun _ => (xk_er_rd (fun _ => (xk_er_rd (fun _ => (xk_er_ite (xk_er_rd (fun _ => (xk_er_rd (fun _ => (xk_er_rd (fun _ => (xk_er_rd (fun _ => (xk_er_rd (fun _ => (xk_er_rd (fun _ => (eX0_findChain_B118 hL17 hL25))))))))))))) (eX0_findChain_B118 hL17 hL25)))))))))))))))))))))))))))))))))))
set_option maxHeartbeats 4000000 in
theorem tX0_findChain_L25 {w : gw_W} {X : gx_X} {N : Nat} {x0 : Nat} {r : xk_C × Unit} (hX : gx_O (gw_I w (gx_A X)) X iX0_findChain 5 0 0 (xk_P (gx_A X) w r.1) (.returned none)) {K17 : xk_C → Int32 → Option (xk_C × Unit)} (hK17 : ∀ (σ : xk_C) (x2 : Int32), K17 σ x2 = some r → gx_G X (xk_P (gx_A X) w (σ)) 0 0 [some (va_rf (some x0)), none, some (.int (x2)), none, none, none, none] 17 []) : ∀ (k : Nat) (σ : xk_C) (x2 : Int32) (x3 : Option Nat) (x4 : Int32) (x5 : Int32), fX0_findChain_L25 N x0 K17 k σ x2 x3 x4 x5 = some r → gx_G X (xk_P (gx_A X) w (σ)) 0 0 [some (va_rf (some x0)), none, some (.int (x2)), some (va_rf (x3)), some (.int (x4)), some (.int (x5)), none] 25 [] := by
  intro k
  induction k with
  | zero =>
    intro σ x2 x3 x4 x5 h
    unfold fX0_findChain_L25 at h
    cases h
  | succ k ih =>
    intro σ x2 x3 x4 x5 h
    unfold fX0_findChain_L25 at h
    refine gx_iload hX dX0_findChain_25 rfl ?_
    refine gx_aload_n hX dX0_findChain_27 rfl ?_
    refine xk_getr hX 3 q214 (fun _ h => h) rfl dX0_findChain_28 h (fun v4 h => ?_)
    obtain ⟨b6, hb, h⟩ := gx_bs h
    obtain ⟨eb, hkb⟩ := xk_isS hb
    obtain ⟨r5, hr5, h⟩ := gx_bs h
    refine gx_cV (As := []) (rest := [.int (x5)]) (b := b6) hX (tJ2_size w (gx_A X) (gx_l X) (b6) (σ)  hr5) (lw_V q314 q315 q316 q89 q317) ⟨rfl, dsJ2_size⟩ (by decide) (Nat.le_of_ble_eq_true rfl) (xk_rc hX (ci := 20) (by decide) (by decide) hkb) (by rw [eb]; rfl) (gx_w8 (gx_kI gx_k0) (Nat.le_of_ble_eq_true rfl)) dX0_findChain_31 ⟨Nat.le_refl _, Nat.le_refl _⟩ rfl ?_
    refine gx_icmp_ge (tgt := 124) hX dX0_findChain_34 (by decide) h (fun h => ?_) (fun h => ?_)
    · refine gx_aload_n hX dX0_findChain_124 rfl ?_
      refine gx_ifnonnull (tgt := 129) hX dX0_findChain_125 (by decide) h (fun h => ?_) (fun h => ?_)
      · cases h
        exact gx_vret hX rfl dX0_findChain_128 rfl ⟨rfl, rfl⟩ (fun _ h => h)
      · refine gx_iload_n hX dX0_findChain_129 rfl ?_
        refine gx_iconst (v := 1) hX dX0_findChain_130 (by decide) ?_
        refine gx_aload_n hX dX0_findChain_131 rfl ?_
        refine xk_getiN hX 44 q549 rfl dX0_findChain_132 h (fun v7 h => ?_)
        refine gx_ishl hX dX0_findChain_135 ?_
        refine gx_ior hX dX0_findChain_136 ?_
        refine gx_istore_n hX dX0_findChain_137 (Nat.le_of_ble_eq_true rfl) gx_c1n (lv' := [some (va_rf (some x0)), none, some (.int ((x2) ||| ((1) <<< ((v7) &&& 31)))), some (va_rf (x3)), some (.int (x4)), some (.int (x5)), none]) rfl ?_
        refine gx_aload_n hX dX0_findChain_138 rfl ?_
        refine xk_getr hX 13 q235 (fun _ h => h) rfl dX0_findChain_139 h (fun v8 h => ?_)
        refine gx_aload_n hX dX0_findChain_142 rfl ?_
        refine gx_dup hX dX0_findChain_143 (gx_cat _) ?_
        refine xk_geti hX 14 q236 (fun _ h => h) rfl dX0_findChain_144 h (fun v9 h => ?_)
        refine gx_dup_x1 hX dX0_findChain_147 rfl (gx_cat _) ?_
        refine gx_iconst (v := 1) hX dX0_findChain_148 (by decide) ?_
        refine gx_iadd hX dX0_findChain_149 ?_
        refine xk_puti hX 14 xk_ty14 rfl q236 (fun _ h => h) rfl rfl dX0_findChain_150 h (fun σ10 hτ h => ?_)
        refine gx_aload_n hX dX0_findChain_153 rfl ?_
        refine xk_getiN hX 44 q549 rfl dX0_findChain_154 h (fun v11 h => ?_)
        refine xk_iastore hX dX0_findChain_157 h (fun σ12 hτ h => ?_)
        refine gx_aload_n hX dX0_findChain_158 rfl ?_
        refine gx_dup hX dX0_findChain_159 (gx_cat _) ?_
        refine xk_geti hX 15 q237 (fun _ h => h) rfl dX0_findChain_160 h (fun v13 h => ?_)
        refine gx_iload hX dX0_findChain_163 rfl ?_
        refine gx_iadd hX dX0_findChain_165 ?_
        refine xk_puti hX 15 xk_ty15 rfl q237 (fun _ h => h) rfl rfl dX0_findChain_166 h (fun σ14 hτ h => ?_)
        refine gx_aload_n hX dX0_findChain_169 rfl ?_
        refine gx_aload_n hX dX0_findChain_170 rfl ?_
        refine xk_getrN hX 53 q575 rfl dX0_findChain_171 h (fun v15 h => ?_)
        refine xk_putr hX 16 xk_ty16 (Or.inl ⟨_, rfl⟩) q238 (fun _ h => h) rfl rfl dX0_findChain_174 h (fun σ16 hτ h => ?_)
        refine gx_goto (tgt := 17) hX dX0_findChain_177 (by decide) ?_
        refine gx_sub hX (lv' := [some (va_rf (some x0)), none, some (.int ((x2) ||| ((1) <<< ((v7) &&& 31)))), none, none, none, none]) ⟨Or.inr rfl, ⟨Or.inr rfl, ⟨Or.inr rfl, ⟨Or.inl rfl, ⟨Or.inl rfl, ⟨Or.inl rfl, ⟨Or.inr rfl, trivial⟩⟩⟩⟩⟩⟩⟩ ?_
        exact hK17 _ _ h
    · refine gx_aload_n hX dX0_findChain_37 rfl ?_
      refine xk_getr hX 3 q214 (fun _ h => h) rfl dX0_findChain_38 h (fun v17 h => ?_)
      refine gx_iload hX dX0_findChain_41 rfl ?_
      obtain ⟨b19, hb, h⟩ := gx_bs h
      obtain ⟨eb, hkb⟩ := xk_isS hb
      obtain ⟨r18, hr18, h⟩ := gx_bs h
      refine gx_cV (As := [.int (x5)]) (rest := []) (b := b19) hX (tJ2_get w (gx_A X) (gx_l X) (b19) (σ) (x5) hr18) (lw_V q433 q434 q435 q89 q436) ⟨rfl, dsJ2_get⟩ (by decide) (Nat.le_of_ble_eq_true rfl) (xk_rc hX (ci := 20) (by decide) (by decide) hkb) (by rw [eb]; rfl) (gx_w8 gx_k0 (Nat.le_of_ble_eq_true rfl)) dX0_findChain_43 ⟨Nat.le_refl _, Nat.le_refl _⟩ rfl ?_
      refine xk_castC hX 5 ⟨by decide, by decide⟩ q204 dX0_findChain_46 h (fun h => ?_)
      refine gx_astore hX dX0_findChain_49 (Nat.le_of_ble_eq_true rfl) gx_c1i (lv' := [some (va_rf (some x0)), none, some (.int (x2)), some (va_rf (x3)), some (.int (x4)), some (.int (x5)), some (va_rf (r18))]) rfl ?_
      refine gx_aload hX dX0_findChain_51 rfl ?_
      obtain ⟨b22, hb, h⟩ := gx_bs h
      obtain ⟨eb, hkb⟩ := xk_isS hb
      obtain ⟨r21, hr21, h⟩ := gx_bs h
      refine gx_cV (As := []) (rest := []) (b := b22) hX (tX5_isHoused w (gx_A X) (gx_l X) (b22) (σ)  hr21) (lw_V q982 q648 q649 q100 q650) ⟨rfl, dsX5_isHoused⟩ (by decide) (Nat.le_of_ble_eq_true rfl) (xk_rc hX (ci := 5) (by decide) (by decide) hkb) (by rw [eb]; rfl) (gx_w8 gx_k0 (Nat.le_of_ble_eq_true rfl)) dX0_findChain_53 ⟨Nat.le_refl _, Nat.le_refl _⟩ rfl ?_
      refine gx_if_eq (tgt := 118) hX dX0_findChain_56 (by decide) h (fun h => ?_) (fun h => ?_)
      · refine gx_sub hX (lv' := [some (va_rf (some x0)), none, some (.int (x2)), some (va_rf (x3)), some (.int (x4)), some (.int (x5)), none]) ⟨Or.inr rfl, ⟨Or.inr rfl, ⟨Or.inr rfl, ⟨Or.inr rfl, ⟨Or.inr rfl, ⟨Or.inr rfl, ⟨Or.inl rfl, trivial⟩⟩⟩⟩⟩⟩⟩ ?_
        exact tX0_findChain_B118 hX hK17 ih h
      · refine gx_iload_n hX dX0_findChain_59 rfl ?_
        refine gx_iload hX dX0_findChain_60 rfl ?_
        refine gx_ishr hX dX0_findChain_62 ?_
        refine gx_iconst (v := 1) hX dX0_findChain_63 (by decide) ?_
        refine gx_iand hX dX0_findChain_64 ?_
        refine gx_iconst (v := 1) hX dX0_findChain_65 (by decide) ?_
        refine gx_icmp_eq (tgt := 118) hX dX0_findChain_66 (by decide) h (fun h => ?_) (fun h => ?_)
        · refine gx_sub hX (lv' := [some (va_rf (some x0)), none, some (.int (x2)), some (va_rf (x3)), some (.int (x4)), some (.int (x5)), none]) ⟨Or.inr rfl, ⟨Or.inr rfl, ⟨Or.inr rfl, ⟨Or.inr rfl, ⟨Or.inr rfl, ⟨Or.inr rfl, ⟨Or.inl rfl, trivial⟩⟩⟩⟩⟩⟩⟩ ?_
          exact tX0_findChain_B118 hX hK17 ih h
        · refine gx_aload_n hX dX0_findChain_69 rfl ?_
          refine xk_getr hX 16 q238 (fun _ h => h) rfl dX0_findChain_70 h (fun v23 h => ?_)
          refine gx_aload hX dX0_findChain_73 rfl ?_
          refine xk_getiN hX 47 q557 rfl dX0_findChain_75 h (fun v24 h => ?_)
          obtain ⟨b26, hb, h⟩ := gx_bs h
          obtain ⟨eb, hkb⟩ := xk_isS hb
          obtain ⟨r25, hr25, h⟩ := gx_bs h
          refine gx_cV (As := [.int (v24)]) (rest := []) (b := b26) hX (tX4_fit w (gx_A X) (gx_l X) (b26) (σ) (v24) hr25) (lw_V q698 q691 q692 q93 q693) ⟨rfl, dsX4_fit⟩ (by decide) (Nat.le_of_ble_eq_true rfl) (xk_rc hX (ci := 4) (by decide) (by decide) hkb) (by rw [eb]; rfl) (gx_w8 gx_k0 (Nat.le_of_ble_eq_true rfl)) dX0_findChain_78 ⟨Nat.le_refl _, Nat.le_refl _⟩ rfl ?_
          refine gx_aload hX dX0_findChain_81 rfl ?_
          obtain ⟨b28, hb, h⟩ := gx_bs h
          obtain ⟨eb, hkb⟩ := xk_isS hb
          obtain ⟨r27, hr27, h⟩ := gx_bs h
          refine gx_cV (As := []) (rest := [.int (r25)]) (b := b28) hX (tX5_fit w (gx_A X) (gx_l X) (b28) (σ)  hr27) (lw_V q686 q687 q688 q100 q689) ⟨rfl, dsX5_fit⟩ (by decide) (Nat.le_of_ble_eq_true rfl) (xk_rc hX (ci := 5) (by decide) (by decide) hkb) (by rw [eb]; rfl) (gx_w8 (gx_kI gx_k0) (Nat.le_of_ble_eq_true rfl)) dX0_findChain_83 ⟨Nat.le_refl _, Nat.le_refl _⟩ rfl ?_
          refine gx_isub hX dX0_findChain_86 ?_
          refine gx_iload hX dX0_findChain_87 rfl ?_
          refine gx_icmp_gt (tgt := 95) hX dX0_findChain_89 (by decide) h (fun h => ?_) (fun h => ?_)
          · refine gx_aload_n hX dX0_findChain_95 rfl ?_
            refine xk_getr hX 16 q238 (fun _ h => h) rfl dX0_findChain_96 h (fun v29 h => ?_)
            refine gx_aload hX dX0_findChain_99 rfl ?_
            refine xk_getiN hX 47 q557 rfl dX0_findChain_101 h (fun v30 h => ?_)
            obtain ⟨b32, hb, h⟩ := gx_bs h
            obtain ⟨eb, hkb⟩ := xk_isS hb
            obtain ⟨r31, hr31, h⟩ := gx_bs h
            refine gx_cV (As := [.int (v30)]) (rest := []) (b := b32) hX (tX4_fit w (gx_A X) (gx_l X) (b32) (σ) (v30) hr31) (lw_V q698 q691 q692 q93 q693) ⟨rfl, dsX4_fit⟩ (by decide) (Nat.le_of_ble_eq_true rfl) (xk_rc hX (ci := 4) (by decide) (by decide) hkb) (by rw [eb]; rfl) (gx_w8 gx_k0 (Nat.le_of_ble_eq_true rfl)) dX0_findChain_104 ⟨Nat.le_refl _, Nat.le_refl _⟩ rfl ?_
            refine gx_aload hX dX0_findChain_107 rfl ?_
            obtain ⟨b34, hb, h⟩ := gx_bs h
            obtain ⟨eb, hkb⟩ := xk_isS hb
            obtain ⟨r33, hr33, h⟩ := gx_bs h
            refine gx_cV (As := []) (rest := [.int (r31)]) (b := b34) hX (tX5_fit w (gx_A X) (gx_l X) (b34) (σ)  hr33) (lw_V q686 q687 q688 q100 q689) ⟨rfl, dsX5_fit⟩ (by decide) (Nat.le_of_ble_eq_true rfl) (xk_rc hX (ci := 5) (by decide) (by decide) hkb) (by rw [eb]; rfl) (gx_w8 (gx_kI gx_k0) (Nat.le_of_ble_eq_true rfl)) dX0_findChain_109 ⟨Nat.le_refl _, Nat.le_refl _⟩ rfl ?_
            refine gx_isub hX dX0_findChain_112 ?_
            refine gx_istore hX dX0_findChain_113 (Nat.le_of_ble_eq_true rfl) gx_c1r (lv' := [some (va_rf (some x0)), none, some (.int (x2)), some (va_rf (x3)), some (.int ((r31) - (r33))), some (.int (x5)), some (va_rf (r18))]) rfl ?_
            refine gx_aload hX dX0_findChain_115 rfl ?_
            refine gx_astore_n hX dX0_findChain_117 (Nat.le_of_ble_eq_true rfl) gx_c1i (lv' := [some (va_rf (some x0)), none, some (.int (x2)), some (va_rf (r18)), some (.int ((r31) - (r33))), some (.int (x5)), some (va_rf (r18))]) rfl ?_
            refine gx_sub hX (lv' := [some (va_rf (some x0)), none, some (.int (x2)), some (va_rf (r18)), some (.int ((r31) - (r33))), some (.int (x5)), none]) ⟨Or.inr rfl, ⟨Or.inr rfl, ⟨Or.inr rfl, ⟨Or.inr rfl, ⟨Or.inr rfl, ⟨Or.inr rfl, ⟨Or.inl rfl, trivial⟩⟩⟩⟩⟩⟩⟩ ?_
            exact tX0_findChain_B118 hX hK17 ih h
          · refine gx_goto (tgt := 118) hX dX0_findChain_92 (by decide) ?_
            refine gx_sub hX (lv' := [some (va_rf (some x0)), none, some (.int (x2)), some (va_rf (x3)), some (.int (x4)), some (.int (x5)), none]) ⟨Or.inr rfl, ⟨Or.inr rfl, ⟨Or.inr rfl, ⟨Or.inr rfl, ⟨Or.inr rfl, ⟨Or.inr rfl, ⟨Or.inl rfl, trivial⟩⟩⟩⟩⟩⟩⟩ ?_
            exact tX0_findChain_B118 hX hK17 ih h
def fX0_findChain_L17 (N : Nat) (x0 : Nat)   : Nat → xk_C → Int32 → Option (xk_C × Unit)
  | 0, _, _ => none
  | k + 1, σ, x2 => fX0_findChain_L25 N x0 (fX0_findChain_L17 N x0 k) N (σ) (x2) (none) (0) (0)
set_option maxHeartbeats 4000000 in
theorem eX0_findChain_L17 {r : xk_C × Unit} {N : Nat} {x0 : Nat}   : ∀ (k : Nat) (σ : xk_C) (x2 : Int32), xk_er r σ (fX0_findChain_L17 N x0 k σ x2) := by
  intro k
  induction k with
  | zero =>
    intro σ x2
    unfold fX0_findChain_L17
    exact xk_er_none
  | succ k hL17 =>
    intro σ x2
    unfold fX0_findChain_L17
    exact (eX0_findChain_L25 hL17 N _ _ _ _ _)
set_option maxHeartbeats 4000000 in
theorem tX0_findChain_L17 {w : gw_W} {X : gx_X} {N : Nat} {x0 : Nat} {r : xk_C × Unit} (hX : gx_O (gw_I w (gx_A X)) X iX0_findChain 5 0 0 (xk_P (gx_A X) w r.1) (.returned none))  : ∀ (k : Nat) (σ : xk_C) (x2 : Int32), fX0_findChain_L17 N x0 k σ x2 = some r → gx_G X (xk_P (gx_A X) w (σ)) 0 0 [some (va_rf (some x0)), none, some (.int (x2)), none, none, none, none] 17 [] := by
  intro k
  induction k with
  | zero =>
    intro σ x2 h
    unfold fX0_findChain_L17 at h
    cases h
  | succ k ih =>
    intro σ x2 h
    unfold fX0_findChain_L17 at h
    refine gx_null hX dX0_findChain_17 ?_
    refine gx_astore_n hX dX0_findChain_18 (Nat.le_of_ble_eq_true rfl) gx_c1i (lv' := [some (va_rf (some x0)), none, some (.int (x2)), some (va_rf (none)), none, none, none]) rfl ?_
    refine gx_iconst (v := 0) hX dX0_findChain_19 (by decide) ?_
    refine gx_istore hX dX0_findChain_20 (Nat.le_of_ble_eq_true rfl) gx_c1r (lv' := [some (va_rf (some x0)), none, some (.int (x2)), some (va_rf (none)), some (.int (0)), none, none]) rfl ?_
    refine gx_iconst (v := 0) hX dX0_findChain_22 (by decide) ?_
    refine gx_istore hX dX0_findChain_23 (Nat.le_of_ble_eq_true rfl) gx_c1i (lv' := [some (va_rf (some x0)), none, some (.int (x2)), some (va_rf (none)), some (.int (0)), some (.int (0)), none]) rfl ?_
    exact tX0_findChain_L25 hX ih N _ _ _ _ _ h
def fX0_findChain (N : Nat) (x0 : Nat) (σ : xk_C) (x1 : Option Nat) : Option (xk_C × Unit) := (xk_pi (σ) 14 (some x0) (0)).bind fun σ1 => (xk_pi (σ1) 15 (some x0) (0)).bind fun σ2 => (xk_pr (σ2) 16 (some x0) (x1)).bind fun σ3 => fX0_findChain_L17 N x0 N (σ3) (0)
set_option maxHeartbeats 4000000 in
theorem eX0_findChain {N : Nat} {x0 : Nat} {σ : xk_C} {x1 : Option Nat} : ∀ p, fX0_findChain N x0 σ x1 = some p → xk_n p.1 = xk_n σ ∧ xk_s p.1 = xk_s σ := fun r => show xk_er r σ (fX0_findChain N x0 σ x1) from by
  unfold fX0_findChain
  exact (xk_er_op xk_e_pi (fun _ => (xk_er_op xk_e_pi (fun _ => (xk_er_op xk_e_pr (fun _ => (eX0_findChain_L17  N _ _)))))))
theorem mX0_findChain {N : Nat} {x0 : Nat} {σ : xk_C} {x1 : Option Nat} : ∀ p, fX0_findChain N x0 σ x1 = some p → xk_n σ ≤ xk_n p.1 ∧ xk_s σ ≤ xk_s p.1 := fun p h => xk_le_of (eX0_findChain p h)
set_option maxHeartbeats 4000000 in
theorem tX0_findChain (w : gw_W) (A : Nat → Prop) (l : Launch) (N : Nat) (x0 : Nat) (σ : xk_C) (x1 : Option Nat) {r : xk_C × Unit} (h : fX0_findChain N x0 σ x1 = some r) : gx_T (gw_I w A) A l yX0_findChain iX0_findChain 5 [va_rf (some x0), va_rf (x1)] (xk_P A w σ) 0 0 (xk_P A w r.1) (.returned none) := by
  refine gx_T.of (gw_I.inv w A) (by decide) ⟨rfl, rfl⟩ (gx_kR (gx_kR gx_k0)) (Nat.le_of_ble_eq_true rfl) (fun X hl hAx hX => ?_)
  subst hl
  subst hAx
  show gx_G X (xk_P (gx_A X) w (σ)) 0 0 [some (va_rf (some x0)), some (va_rf (x1)), none, none, none, none, none] 0 []
  unfold fX0_findChain at h
  refine gx_aload_n hX dX0_findChain_0 rfl ?_
  refine gx_iconst (v := 0) hX dX0_findChain_1 (by decide) ?_
  refine xk_puti hX 14 xk_ty14 rfl q236 (fun _ h => h) rfl rfl dX0_findChain_2 h (fun σ1 hτ h => ?_)
  refine gx_aload_n hX dX0_findChain_5 rfl ?_
  refine gx_iconst (v := 0) hX dX0_findChain_6 (by decide) ?_
  refine xk_puti hX 15 xk_ty15 rfl q237 (fun _ h => h) rfl rfl dX0_findChain_7 h (fun σ2 hτ h => ?_)
  refine gx_aload_n hX dX0_findChain_10 rfl ?_
  refine gx_aload_n hX dX0_findChain_11 rfl ?_
  refine xk_putr hX 16 xk_ty16 (Or.inl ⟨_, rfl⟩) q238 (fun _ h => h) rfl rfl dX0_findChain_12 h (fun σ3 hτ h => ?_)
  refine gx_iconst (v := 0) hX dX0_findChain_15 (by decide) ?_
  refine gx_istore_n hX dX0_findChain_16 (Nat.le_of_ble_eq_true rfl) gx_c1r (lv' := [some (va_rf (some x0)), some (va_rf (x1)), some (.int (0)), none, none, none, none]) rfl ?_
  refine gx_sub hX (lv' := [some (va_rf (some x0)), none, some (.int (0)), none, none, none, none]) ⟨Or.inr rfl, ⟨Or.inl rfl, ⟨Or.inr rfl, ⟨Or.inr rfl, ⟨Or.inr rfl, ⟨Or.inr rfl, ⟨Or.inr rfl, trivial⟩⟩⟩⟩⟩⟩⟩ ?_
  exact tX0_findChain_L17 hX  N _ _ h
abbrev iX0_chain : gx_M := (RX0, "chain", cX0_chain, 4, some .int)
theorem dsX0_chain : gx_ds yX0_chain 2 := by decide +kernel
def fX0_chain (N : Nat) (x0 : Nat) (σ : xk_C) (x1 : Int32) (x2 : Int32) : Option (xk_C × Int32) := (xk_is (σ) 1 (some x0)).bind fun b2 => (fX0_shellAt (b2) (σ) (x1)).bind fun r1 => if r1 = none then some (σ, (-1)) else if ((-3)) ≤ x2 then (xk_gi (σ) 42 (r1)).bind fun v3 => if v3 = 0 then (xk_is (σ) 1 (some x0)).bind fun b5 => (fX0_findChain N (b5) (σ) (r1)).bind fun r4 => if x2 = (-3) then (xk_gr (r4.1) 16 (some x0)).bind fun v6 => (xk_gi (r4.1) 37 (v6)).bind fun v7 => some (r4.1, v7) else if x2 = (-2) then (xk_gi (r4.1) 15 (some x0)).bind fun v8 => some (r4.1, v8) else if x2 = (-1) then (xk_gi (r4.1) 14 (some x0)).bind fun v9 => some (r4.1, v9) else (xk_gi (r4.1) 14 (some x0)).bind fun v10 => if (v10) ≤ x2 then some (r4.1, (-1)) else (xk_gr (r4.1) 13 (some x0)).bind fun v11 => (xk_ld (r4.1) 0 (v11) (x2)).bind fun v12 => some (r4.1, v12) else some (σ, (-3)) else some (σ, (-1))
set_option maxHeartbeats 4000000 in
theorem tX0_chain (w : gw_W) (A : Nat → Prop) (l : Launch) (N : Nat) (x0 : Nat) (σ : xk_C) (x1 : Int32) (x2 : Int32) {r : xk_C × Int32} (h : fX0_chain N x0 σ x1 x2 = some r) : gx_T (gw_I w A) A l yX0_chain iX0_chain 6 [va_rf (some x0), .int (x1), .int (x2)] (xk_P A w σ) 0 0 (xk_P A w r.1) (.returned (some (.int r.2))) := by
  refine gx_T.of (gw_I.inv w A) (by decide) ⟨rfl, rfl⟩ (gx_kR (gx_kI (gx_kI gx_k0))) (Nat.le_of_ble_eq_true rfl) (fun X hl hAx hX => ?_)
  subst hl
  subst hAx
  show gx_G X (xk_P (gx_A X) w (σ)) 0 0 [some (va_rf (some x0)), some (.int (x1)), some (.int (x2)), none] 0 []
  unfold fX0_chain at h
  refine gx_aload_n hX dX0_chain_0 rfl ?_
  refine gx_iload_n hX dX0_chain_1 rfl ?_
  obtain ⟨b2, hb, h⟩ := gx_bs h
  obtain ⟨eb, hkb⟩ := xk_isS hb
  obtain ⟨r1, hr1, h⟩ := gx_bs h
  refine gx_cV (As := [.int (x1)]) (rest := []) (b := b2) hX (tX0_shellAt w (gx_A X) (gx_l X) (b2) (σ) (x1) hr1) (lw_V q429 q431 qs3 q86 q432) ⟨rfl, dsX0_shellAt⟩ (by decide) (Nat.le_of_ble_eq_true rfl) (xk_rc hX (ci := 0) (by decide) (by decide) hkb) (by rw [eb]; rfl) (gx_w8 gx_k0 (Nat.le_of_ble_eq_true rfl)) dX0_chain_2 ⟨Nat.le_refl _, Nat.le_refl _⟩ rfl ?_
  refine gx_astore_n hX dX0_chain_5 (Nat.le_of_ble_eq_true rfl) gx_c1i (lv' := [some (va_rf (some x0)), some (.int (x1)), some (.int (x2)), some (va_rf (r1))]) rfl ?_
  refine gx_aload_n hX dX0_chain_6 rfl ?_
  refine gx_ifnull (tgt := 16) hX dX0_chain_7 (by decide) h (fun h => ?_) (fun h => ?_)
  · refine gx_iconst (v := (-1)) hX dX0_chain_16 (by decide) ?_
    cases h
    exact gx_iret hX rfl dX0_chain_17 rfl ⟨rfl, rfl⟩ (fun _ h => h)
  · refine gx_iload_n hX dX0_chain_10 rfl ?_
    refine gx_bipush (v := (-3)) hX dX0_chain_11 (by decide) ?_
    refine gx_icmp_ge (tgt := 18) hX dX0_chain_13 (by decide) h (fun h => ?_) (fun h => ?_)
    · refine gx_aload_n hX dX0_chain_18 rfl ?_
      refine xk_getiN hX 42 q338 rfl dX0_chain_19 h (fun v3 h => ?_)
      refine gx_if_eq (tgt := 28) hX dX0_chain_22 (by decide) h (fun h => ?_) (fun h => ?_)
      · refine gx_aload_n hX dX0_chain_28 rfl ?_
        refine gx_aload_n hX dX0_chain_29 rfl ?_
        obtain ⟨b5, hb, h⟩ := gx_bs h
        obtain ⟨eb, hkb⟩ := xk_isS hb
        obtain ⟨r4, hr4, h⟩ := gx_bs h
        refine gx_cV (As := [va_rf (r1)]) (rest := []) (b := b5) hX (tX0_findChain w (gx_A X) (gx_l X) N (b5) (σ) (r1) hr4) (lw_V q1019 q1021 qs21 q86 q1022) ⟨rfl, dsX0_findChain⟩ (by decide) (Nat.le_of_ble_eq_true rfl) (xk_rc hX (ci := 0) (by decide) (by decide) hkb) (by rw [eb]; rfl) (gx_w8 gx_k0 (Nat.le_of_ble_eq_true rfl)) dX0_chain_30 ⟨Nat.le_refl _, Nat.le_refl _⟩ rfl ?_
        refine gx_iload_n hX dX0_chain_33 rfl ?_
        by_cases c0 : x2 = (-3)
        · rw [if_pos c0] at h
          refine gx_tsw (off := 36) (tgt := 70) hX dX0_chain_34 (by decide) (by rw [c0]; decide) (by decide) ?_
          refine gx_aload_n hX dX0_chain_70 rfl ?_
          refine xk_getr hX 16 q238 (fun _ h => h) rfl dX0_chain_71 h (fun v6 h => ?_)
          refine xk_getiN hX 37 q325 rfl dX0_chain_74 h (fun v7 h => ?_)
          cases h
          exact gx_iret hX rfl dX0_chain_77 rfl ⟨rfl, rfl⟩ (fun _ h => h)
        · rw [if_neg c0] at h
          by_cases c1 : x2 = (-2)
          · rw [if_pos c1] at h
            refine gx_tsw (off := 31) (tgt := 65) hX dX0_chain_34 (by decide) (by rw [c1]; decide) (by decide) ?_
            refine gx_aload_n hX dX0_chain_65 rfl ?_
            refine xk_geti hX 15 q237 (fun _ h => h) rfl dX0_chain_66 h (fun v8 h => ?_)
            cases h
            exact gx_iret hX rfl dX0_chain_69 rfl ⟨rfl, rfl⟩ (fun _ h => h)
          · rw [if_neg c1] at h
            by_cases c2 : x2 = (-1)
            · rw [if_pos c2] at h
              refine gx_tsw (off := 26) (tgt := 60) hX dX0_chain_34 (by decide) (by rw [c2]; decide) (by decide) ?_
              refine gx_aload_n hX dX0_chain_60 rfl ?_
              refine xk_geti hX 14 q236 (fun _ h => h) rfl dX0_chain_61 h (fun v9 h => ?_)
              cases h
              exact gx_iret hX rfl dX0_chain_64 rfl ⟨rfl, rfl⟩ (fun _ h => h)
            · rw [if_neg c2] at h
              have e0 : (x2).toInt ≠ (-3) := gx_nei c0
              have e1 : (x2).toInt ≠ (-2) := gx_nei c1
              have e2 : (x2).toInt ≠ (-1) := gx_nei c2
              refine gx_tsw (off := 44) (tgt := 78) hX dX0_chain_34 (by decide) (by unfold gx_to; rw [if_pos (by omega)]) (by decide) ?_
              refine gx_iload_n hX dX0_chain_78 rfl ?_
              refine gx_aload_n hX dX0_chain_79 rfl ?_
              refine xk_geti hX 14 q236 (fun _ h => h) rfl dX0_chain_80 h (fun v10 h => ?_)
              refine gx_icmp_ge (tgt := 95) hX dX0_chain_83 (by decide) h (fun h => ?_) (fun h => ?_)
              · refine gx_iconst (v := (-1)) hX dX0_chain_95 (by decide) ?_
                cases h
                exact gx_iret hX rfl dX0_chain_96 rfl ⟨rfl, rfl⟩ (fun _ h => h)
              · refine gx_aload_n hX dX0_chain_86 rfl ?_
                refine xk_getr hX 13 q235 (fun _ h => h) rfl dX0_chain_87 h (fun v11 h => ?_)
                refine gx_iload_n hX dX0_chain_90 rfl ?_
                refine xk_iaload hX dX0_chain_91 h (fun v12 h => ?_)
                refine gx_goto (tgt := 96) hX dX0_chain_92 (by decide) ?_
                cases h
                exact gx_iret hX rfl dX0_chain_96 rfl ⟨rfl, rfl⟩ (fun _ h => h)
      · refine gx_bipush (v := (-3)) hX dX0_chain_25 (by decide) ?_
        cases h
        exact gx_iret hX rfl dX0_chain_27 rfl ⟨rfl, rfl⟩ (fun _ h => h)
    · refine gx_iconst (v := (-1)) hX dX0_chain_16 (by decide) ?_
      cases h
      exact gx_iret hX rfl dX0_chain_17 rfl ⟨rfl, rfl⟩ (fun _ h => h)
abbrev iX0_valueOf : gx_M := (RX0, "valueOf", cX0_valueOf, 2, some .int)
theorem dsX0_valueOf : gx_ds yX0_valueOf 1 := by decide +kernel
def fX0_valueOf (N : Nat) (x0 : Nat) (σ : xk_C) (x1 : Int32) : Option (xk_C × Int32) := (xk_nw (σ) 4).bind fun σ1 => (fX4_init ((xk_n (σ))) (σ1) ((-1)) (0) (x1) (0) (0)).bind fun r2 => (xk_is (r2.1) 1 (some x0)).bind fun b4 => (fX0_findChain N (b4) (r2.1) (some (xk_n (σ)))).bind fun r3 => (xk_gi (r3.1) 15 (some x0)).bind fun v5 => some (r3.1, v5)
set_option maxHeartbeats 4000000 in
theorem mX0_valueOf {N : Nat} {x0 : Nat} {σ : xk_C} {x1 : Int32} : ∀ p, fX0_valueOf N x0 σ x1 = some p → xk_n σ ≤ xk_n p.1 ∧ xk_s σ ≤ xk_s p.1 := fun r => show xk_lr r σ (fX0_valueOf N x0 σ x1) from by
  unfold fX0_valueOf
  exact (xk_lr_op xk_m_nw (fun _ => (xk_lr_ca (mX4_init) (fun _ => (xk_lr_rd (fun _ => (xk_lr_ca (mX0_findChain) (fun _ => (xk_lr_rd (fun _ => xk_lr_ret))))))))))
set_option maxHeartbeats 4000000 in
theorem tX0_valueOf (w : gw_W) (A : Nat → Prop) (l : Launch) (N : Nat) (x0 : Nat) (σ : xk_C) (x1 : Int32) {r : xk_C × Int32} (h : fX0_valueOf N x0 σ x1 = some r) : gx_T (gw_I w A) A l yX0_valueOf iX0_valueOf 6 [va_rf (some x0), .int (x1)] (xk_P A w σ) (xk_n r.1 - xk_n σ) (xk_s r.1 - xk_s σ) (xk_P A w r.1) (.returned (some (.int r.2))) := by
  refine gx_T.of (gw_I.inv w A) (by decide) ⟨rfl, rfl⟩ (gx_kR (gx_kI gx_k0)) (Nat.le_of_ble_eq_true rfl) (fun X hl hAx hX => ?_)
  subst hl
  subst hAx
  show gx_G X (xk_P (gx_A X) w (σ)) 0 0 [some (va_rf (some x0)), some (.int (x1))] 0 []
  have hu := mX0_valueOf _ h
  unfold fX0_valueOf at h
  refine xk_G0 (a := xk_n σ) (b := xk_s σ) ?_
  have hm : xk_n σ ≤ xk_n σ ∧ xk_s σ ≤ xk_s σ := ⟨Nat.le_refl _, Nat.le_refl _⟩
  refine gx_aload_n hX dX0_valueOf_0 rfl ?_
  refine xk_new hX 4 ⟨by decide, by decide⟩ ⟨q206, q318, q93⟩ dX0_valueOf_1 h (fun σ1 hτ h => ?_)
  have hu := xk_use (C := σ1) h (xk_lr_ca (mX4_init) (fun _ => (xk_lr_rd (fun _ => (xk_lr_ca (mX0_findChain) (fun _ => (xk_lr_rd (fun _ => xk_lr_ret))))))))
  refine ⟨xk_hfm hm hτ hu, xk_Gm hm hτ ?_⟩
  have hm := xk_hmm hm hτ
  refine gx_dup hX dX0_valueOf_4 (gx_cat _) ?_
  refine gx_iconst (v := (-1)) hX dX0_valueOf_5 (by decide) ?_
  refine gx_iconst (v := 0) hX dX0_valueOf_6 (by decide) ?_
  refine gx_iload_n hX dX0_valueOf_7 rfl ?_
  refine gx_iconst (v := 0) hX dX0_valueOf_8 (by decide) ?_
  refine gx_iconst (v := 0) hX dX0_valueOf_9 (by decide) ?_
  obtain ⟨r2, hr2, h⟩ := gx_bs h
  have he := eX4_init _ hr2
  refine gx_cI (As := [.int ((-1)), .int (0), .int (x1), .int (0), .int (0)]) (rest := [va_rf (some (xk_n (σ))), va_rf (some x0)]) (b := (xk_n (σ))) (C2 := RX4) (nm2 := "<init>") hX (tX4_init w (gx_A X) (gx_l X) ((xk_n (σ))) (σ1) ((-1)) (0) (x1) (0) (0) hr2) (lw_meth q321) ⟨q93, q319, q320⟩ ⟨rfl, dsX4_init⟩ (by decide) (Nat.le_of_ble_eq_true rfl) rfl (gx_w8 (gx_kR (gx_kR gx_k0)) (Nat.le_of_ble_eq_true rfl)) dX0_valueOf_10 (xk_hfe hu) rfl (xk_Ge he ?_)
  have hm := xk_hme hm he
  have hu := xk_hue hu he
  obtain ⟨b4, hb, h⟩ := gx_bs h
  obtain ⟨eb, hkb⟩ := xk_isS hb
  obtain ⟨r3, hr3, h⟩ := gx_bs h
  have he := eX0_findChain _ hr3
  refine gx_cV (As := [va_rf (some (xk_n (σ)))]) (rest := []) (b := b4) hX (tX0_findChain w (gx_A X) (gx_l X) N (b4) (r2.1) (some (xk_n (σ))) hr3) (lw_V q1019 q1021 qs21 q86 q1022) ⟨rfl, dsX0_findChain⟩ (by decide) (Nat.le_of_ble_eq_true rfl) (xk_rc hX (ci := 0) (by decide) (by decide) hkb) (by rw [eb]; rfl) (gx_w8 gx_k0 (Nat.le_of_ble_eq_true rfl)) dX0_valueOf_13 (xk_hfe hu) rfl (xk_Ge he ?_)
  have hm := xk_hme hm he
  have hu := xk_hue hu he
  refine gx_aload_n hX dX0_valueOf_16 rfl ?_
  refine xk_geti hX 15 q237 (fun _ h => h) rfl dX0_valueOf_17 h (fun v5 h => ?_)
  cases h
  exact gx_iret hX rfl dX0_valueOf_20 rfl ⟨rfl, rfl⟩ (fun _ h => h)
abbrev iX0_value : gx_M := (RX0, "value", cX0_value, 2, some .int)
theorem dsX0_value : gx_ds yX0_value 1 := by decide +kernel
def fX0_value (N : Nat) (x0 : Nat) (σ : xk_C) (x1 : Int32) : Option (xk_C × Int32) := (fX0_in  (x1) (1) (nI 40)).bind fun r1 => if r1 = 0 then some (σ, (-2)) else (xk_is (σ) 1 (some x0)).bind fun b3 => (fX0_valueOf N (b3) (σ) (x1)).bind fun r2 => some (r2.1, r2.2)
set_option maxHeartbeats 4000000 in
theorem mX0_value {N : Nat} {x0 : Nat} {σ : xk_C} {x1 : Int32} : ∀ p, fX0_value N x0 σ x1 = some p → xk_n σ ≤ xk_n p.1 ∧ xk_s σ ≤ xk_s p.1 := fun r => show xk_lr r σ (fX0_value N x0 σ x1) from by
  unfold fX0_value
  exact (xk_lr_rd (fun _ => (xk_lr_ite xk_lr_ret (xk_lr_rd (fun _ => (xk_lr_ca (mX0_valueOf) (fun _ => xk_lr_ret)))))))
set_option maxHeartbeats 4000000 in
theorem tX0_value (w : gw_W) (A : Nat → Prop) (l : Launch) (N : Nat) (x0 : Nat) (σ : xk_C) (x1 : Int32) {r : xk_C × Int32} (h : fX0_value N x0 σ x1 = some r) : gx_T (gw_I w A) A l yX0_value iX0_value 7 [va_rf (some x0), .int (x1)] (xk_P A w σ) (xk_n r.1 - xk_n σ) (xk_s r.1 - xk_s σ) (xk_P A w r.1) (.returned (some (.int r.2))) := by
  refine gx_T.of (gw_I.inv w A) (by decide) ⟨rfl, rfl⟩ (gx_kR (gx_kI gx_k0)) (Nat.le_of_ble_eq_true rfl) (fun X hl hAx hX => ?_)
  subst hl
  subst hAx
  show gx_G X (xk_P (gx_A X) w (σ)) 0 0 [some (va_rf (some x0)), some (.int (x1))] 0 []
  have hu := mX0_value _ h
  unfold fX0_value at h
  refine xk_G0 (a := xk_n σ) (b := xk_s σ) ?_
  have hm : xk_n σ ≤ xk_n σ ∧ xk_s σ ≤ xk_s σ := ⟨Nat.le_refl _, Nat.le_refl _⟩
  refine gx_iload_n hX dX0_value_0 rfl ?_
  refine gx_iconst (v := 1) hX dX0_value_1 (by decide) ?_
  refine gx_bipush (v := nI 40) hX dX0_value_2 (by decide) ?_
  obtain ⟨r1, hr1, h⟩ := gx_bs h
  refine gx_cS (As := [.int (x1), .int (1), .int (nI 40)]) (rest := []) hX (tX0_in w (gx_A X) (gx_l X) (xk_P (gx_A X) w (σ)) (x1) (1) (nI 40) hr1) (lw_S q311 q312 q86 q313) dsX0_in (by decide) (Nat.le_of_ble_eq_true rfl) rfl (gx_w8 gx_k0 (Nat.le_of_ble_eq_true rfl)) dX0_value_4 (xk_hfe hu) rfl (xk_Gz ?_)
  refine gx_if_eq (tgt := 18) hX dX0_value_7 (by decide) h (fun h => ?_) (fun h => ?_)
  · refine gx_bipush (v := (-2)) hX dX0_value_18 (by decide) ?_
    cases h
    exact gx_iret hX rfl dX0_value_20 rfl ⟨rfl, rfl⟩ (fun _ h => h)
  · refine gx_aload_n hX dX0_value_10 rfl ?_
    refine gx_iload_n hX dX0_value_11 rfl ?_
    obtain ⟨b3, hb, h⟩ := gx_bs h
    obtain ⟨eb, hkb⟩ := xk_isS hb
    obtain ⟨r2, hr2, h⟩ := gx_bs h
    have hl := (mX0_valueOf) _ hr2
    have hu := xk_use (C := r2.1) h xk_lr_ret
    refine gx_cV (As := [.int (x1)]) (rest := []) (b := b3) hX (tX0_valueOf w (gx_A X) (gx_l X) N (b3) (σ) (x1) hr2) (lw_V q1027 q1029 qs22 q86 q1030) ⟨rfl, dsX0_valueOf⟩ (by decide) (Nat.le_of_ble_eq_true rfl) (xk_rc hX (ci := 0) (by decide) (by decide) hkb) (by rw [eb]; rfl) (gx_w8 gx_k0 (Nat.le_of_ble_eq_true rfl)) dX0_value_12 (xk_hfc hm hl hu) rfl (xk_Gc hm hl ?_)
    have hm := xk_hmc hm hl
    refine gx_goto (tgt := 20) hX dX0_value_15 (by decide) ?_
    cases h
    exact gx_iret hX rfl dX0_value_20 rfl ⟨rfl, rfl⟩ (fun _ h => h)
abbrev iX0_first : gx_M := (RX0, "first", cX0_first, 5, some .int)
theorem dsX0_first : gx_ds yX0_first 0 := by decide +kernel
def fX0_first_B33 (N : Nat) (x0 : Nat)  (K6 : xk_C → Int32 → Int32 → Int32 → Option (xk_C × Int32)) (σ : xk_C) (x1 : Int32) (x2 : Int32) (x3 : Int32) : Option (xk_C × Int32) := K6 (σ) (x1) (x2) ((x3) + 1)
set_option maxHeartbeats 4000000 in
theorem lX0_first_B33 {r : xk_C × Int32} {N : Nat} {x0 : Nat} {K6 : xk_C → Int32 → Int32 → Int32 → Option (xk_C × Int32)} (hL6 : ∀ (σ : xk_C) (x1 : Int32) (x2 : Int32) (x3 : Int32), xk_lr r σ (K6 σ x1 x2 x3)) {σ : xk_C} {x1 : Int32} {x2 : Int32} {x3 : Int32} : xk_lr r σ (fX0_first_B33 N x0 K6 σ x1 x2 x3) := by
  unfold fX0_first_B33
  exact (hL6 _ _ _ _)
set_option maxHeartbeats 4000000 in
theorem tX0_first_B33 {w : gw_W} {X : gx_X} {N : Nat} {x0 : Nat} {n0 s0 : Nat} {r : xk_C × Int32} (hX : gx_O (gw_I w (gx_A X)) X iX0_first 7 (xk_n r.1 - n0) (xk_s r.1 - s0) (xk_P (gx_A X) w r.1) (.returned (some (.int r.2)))) {K6 : xk_C → Int32 → Int32 → Int32 → Option (xk_C × Int32)} (hK6 : ∀ (σ : xk_C) (x1 : Int32) (x2 : Int32) (x3 : Int32), (n0 ≤ xk_n σ ∧ s0 ≤ xk_s σ) → K6 σ x1 x2 x3 = some r → gx_G X (xk_P (gx_A X) w (σ)) (xk_n (σ) - n0) (xk_s (σ) - s0) [some (va_rf (some x0)), some (.int (x1)), some (.int (x2)), some (.int (x3)), none] 6 []) (hL6 : ∀ (σ : xk_C) (x1 : Int32) (x2 : Int32) (x3 : Int32), xk_lr r σ (K6 σ x1 x2 x3)) {σ : xk_C} {x1 : Int32} {x2 : Int32} {x3 : Int32} (hm : n0 ≤ xk_n σ ∧ s0 ≤ xk_s σ) (h : fX0_first_B33 N x0 K6 σ x1 x2 x3 = some r) : gx_G X (xk_P (gx_A X) w (σ)) (xk_n (σ) - n0) (xk_s (σ) - s0) [some (va_rf (some x0)), some (.int (x1)), some (.int (x2)), some (.int (x3)), none] 33 [] := by
  have hu := lX0_first_B33 (r := r) hL6 h
  unfold fX0_first_B33 at h
  refine gx_iinc (v := 1) hX dX0_first_33 rfl (by decide) gx_c1i (lv' := [some (va_rf (some x0)), some (.int (x1)), some (.int (x2)), some (.int ((x3) + 1)), none]) rfl ?_
  refine gx_goto (tgt := 6) hX dX0_first_36 (by decide) ?_
  exact hK6 _ _ _ _ hm h
def fX0_first_L6 (N : Nat) (x0 : Nat)   : Nat → xk_C → Int32 → Int32 → Int32 → Option (xk_C × Int32)
  | 0, _, _, _, _ => none
  | k + 1, σ, x1, x2, x3 => if (nI 40) < x3 then some (σ, x1) else (xk_is (σ) 1 (some x0)).bind fun b2 => (fX0_valueOf N (b2) (σ) (x3)).bind fun r1 => if (x2) < r1.2 then fX0_first_B33 N x0 (fX0_first_L6 N x0 k) (r1.1) (x3) (r1.2) (x3) else fX0_first_B33 N x0 (fX0_first_L6 N x0 k) (r1.1) (x1) (x2) (x3)
set_option maxHeartbeats 4000000 in
theorem lX0_first_L6 {r : xk_C × Int32} {N : Nat} {x0 : Nat}   : ∀ (k : Nat) (σ : xk_C) (x1 : Int32) (x2 : Int32) (x3 : Int32), xk_lr r σ (fX0_first_L6 N x0 k σ x1 x2 x3) := by
  intro k
  induction k with
  | zero =>
    intro σ x1 x2 x3
    unfold fX0_first_L6
    exact xk_lr_none
  | succ k hL6 =>
    intro σ x1 x2 x3
    unfold fX0_first_L6
    exact (xk_lr_ite xk_lr_ret (xk_lr_rd (fun _ => (xk_lr_ca (mX0_valueOf) (fun _ => (xk_lr_ite (lX0_first_B33 hL6) (lX0_first_B33 hL6)))))))
set_option maxHeartbeats 4000000 in
theorem tX0_first_L6 {w : gw_W} {X : gx_X} {N : Nat} {x0 : Nat} {n0 s0 : Nat} {r : xk_C × Int32} (hX : gx_O (gw_I w (gx_A X)) X iX0_first 7 (xk_n r.1 - n0) (xk_s r.1 - s0) (xk_P (gx_A X) w r.1) (.returned (some (.int r.2))))  : ∀ (k : Nat) (σ : xk_C) (x1 : Int32) (x2 : Int32) (x3 : Int32), (n0 ≤ xk_n σ ∧ s0 ≤ xk_s σ) → fX0_first_L6 N x0 k σ x1 x2 x3 = some r → gx_G X (xk_P (gx_A X) w (σ)) (xk_n (σ) - n0) (xk_s (σ) - s0) [some (va_rf (some x0)), some (.int (x1)), some (.int (x2)), some (.int (x3)), none] 6 [] := by
  intro k
  induction k with
  | zero =>
    intro σ x1 x2 x3 hm h
    unfold fX0_first_L6 at h
    cases h
  | succ k ih =>
    intro σ x1 x2 x3 hm h
    have hu := lX0_first_L6 (r := r)  (k + 1) _ _ _ _ h
    unfold fX0_first_L6 at h
    have hL6 : ∀ (σ : xk_C) (x1 : Int32) (x2 : Int32) (x3 : Int32), xk_lr r σ (fX0_first_L6 N x0 k σ x1 x2 x3) := fun σ x1 x2 x3 => lX0_first_L6  k σ x1 x2 x3
    refine gx_iload_n hX dX0_first_6 rfl ?_
    refine gx_bipush (v := nI 40) hX dX0_first_7 (by decide) ?_
    refine gx_icmp_gt (tgt := 39) hX dX0_first_9 (by decide) h (fun h => ?_) (fun h => ?_)
    · refine gx_iload_n hX dX0_first_39 rfl ?_
      cases h
      exact gx_iret hX rfl dX0_first_40 rfl ⟨rfl, rfl⟩ (fun _ h => h)
    · refine gx_aload_n hX dX0_first_12 rfl ?_
      refine gx_iload_n hX dX0_first_13 rfl ?_
      obtain ⟨b2, hb, h⟩ := gx_bs h
      obtain ⟨eb, hkb⟩ := xk_isS hb
      obtain ⟨r1, hr1, h⟩ := gx_bs h
      have hl := (mX0_valueOf) _ hr1
      have hu := xk_use (C := r1.1) h (xk_lr_ite (lX0_first_B33 hL6) (lX0_first_B33 hL6))
      refine gx_cV (As := [.int (x3)]) (rest := []) (b := b2) hX (tX0_valueOf w (gx_A X) (gx_l X) N (b2) (σ) (x3) hr1) (lw_V q1027 q1029 qs22 q86 q1030) ⟨rfl, dsX0_valueOf⟩ (by decide) (Nat.le_of_ble_eq_true rfl) (xk_rc hX (ci := 0) (by decide) (by decide) hkb) (by rw [eb]; rfl) (gx_w8 gx_k0 (Nat.le_of_ble_eq_true rfl)) dX0_first_14 (xk_hfc hm hl hu) rfl (xk_Gc hm hl ?_)
      have hm := xk_hmc hm hl
      refine gx_istore hX dX0_first_17 (Nat.le_of_ble_eq_true rfl) gx_c1i (lv' := [some (va_rf (some x0)), some (.int (x1)), some (.int (x2)), some (.int (x3)), some (.int (r1.2))]) rfl ?_
      refine gx_iload hX dX0_first_19 rfl ?_
      refine gx_iload_n hX dX0_first_21 rfl ?_
      refine gx_icmp_gt (tgt := 28) hX dX0_first_22 (by decide) h (fun h => ?_) (fun h => ?_)
      · refine gx_iload hX dX0_first_28 rfl ?_
        refine gx_istore_n hX dX0_first_30 (Nat.le_of_ble_eq_true rfl) gx_c1i (lv' := [some (va_rf (some x0)), some (.int (x1)), some (.int (r1.2)), some (.int (x3)), some (.int (r1.2))]) rfl ?_
        refine gx_iload_n hX dX0_first_31 rfl ?_
        refine gx_istore_n hX dX0_first_32 (Nat.le_of_ble_eq_true rfl) gx_c1r (lv' := [some (va_rf (some x0)), some (.int (x3)), some (.int (r1.2)), some (.int (x3)), some (.int (r1.2))]) rfl ?_
        refine gx_sub hX (lv' := [some (va_rf (some x0)), some (.int (x3)), some (.int (r1.2)), some (.int (x3)), none]) ⟨Or.inr rfl, ⟨Or.inr rfl, ⟨Or.inr rfl, ⟨Or.inr rfl, ⟨Or.inl rfl, trivial⟩⟩⟩⟩⟩ ?_
        exact tX0_first_B33 hX ih hL6 hm h
      · refine gx_goto (tgt := 33) hX dX0_first_25 (by decide) ?_
        refine gx_sub hX (lv' := [some (va_rf (some x0)), some (.int (x1)), some (.int (x2)), some (.int (x3)), none]) ⟨Or.inr rfl, ⟨Or.inr rfl, ⟨Or.inr rfl, ⟨Or.inr rfl, ⟨Or.inl rfl, trivial⟩⟩⟩⟩⟩ ?_
        exact tX0_first_B33 hX ih hL6 hm h
def fX0_first (N : Nat) (x0 : Nat) (σ : xk_C)  : Option (xk_C × Int32) := fX0_first_L6 N x0 N (σ) (1) ((-1)) (1)
set_option maxHeartbeats 4000000 in
theorem mX0_first {N : Nat} {x0 : Nat} {σ : xk_C}  : ∀ p, fX0_first N x0 σ = some p → xk_n σ ≤ xk_n p.1 ∧ xk_s σ ≤ xk_s p.1 := fun r => show xk_lr r σ (fX0_first N x0 σ) from by
  unfold fX0_first
  exact (lX0_first_L6  N _ _ _ _)
set_option maxHeartbeats 4000000 in
theorem tX0_first (w : gw_W) (A : Nat → Prop) (l : Launch) (N : Nat) (x0 : Nat) (σ : xk_C)  {r : xk_C × Int32} (h : fX0_first N x0 σ = some r) : gx_T (gw_I w A) A l yX0_first iX0_first 7 [va_rf (some x0)] (xk_P A w σ) (xk_n r.1 - xk_n σ) (xk_s r.1 - xk_s σ) (xk_P A w r.1) (.returned (some (.int r.2))) := by
  refine gx_T.of (gw_I.inv w A) (by decide) ⟨rfl, rfl⟩ (gx_kR gx_k0) (Nat.le_of_ble_eq_true rfl) (fun X hl hAx hX => ?_)
  subst hl
  subst hAx
  show gx_G X (xk_P (gx_A X) w (σ)) 0 0 [some (va_rf (some x0)), none, none, none, none] 0 []
  have hu := mX0_first _ h
  unfold fX0_first at h
  refine xk_G0 (a := xk_n σ) (b := xk_s σ) ?_
  have hm : xk_n σ ≤ xk_n σ ∧ xk_s σ ≤ xk_s σ := ⟨Nat.le_refl _, Nat.le_refl _⟩
  refine gx_iconst (v := 1) hX dX0_first_0 (by decide) ?_
  refine gx_istore_n hX dX0_first_1 (Nat.le_of_ble_eq_true rfl) gx_c1r (lv' := [some (va_rf (some x0)), some (.int (1)), none, none, none]) rfl ?_
  refine gx_iconst (v := (-1)) hX dX0_first_2 (by decide) ?_
  refine gx_istore_n hX dX0_first_3 (Nat.le_of_ble_eq_true rfl) gx_c1i (lv' := [some (va_rf (some x0)), some (.int (1)), some (.int ((-1))), none, none]) rfl ?_
  refine gx_iconst (v := 1) hX dX0_first_4 (by decide) ?_
  refine gx_istore_n hX dX0_first_5 (Nat.le_of_ble_eq_true rfl) gx_c1i (lv' := [some (va_rf (some x0)), some (.int (1)), some (.int ((-1))), some (.int (1)), none]) rfl ?_
  exact tX0_first_L6 hX  N _ _ _ _ hm h
abbrev iX0_wouldBoth : gx_M := (RX0, "wouldBoth", cX0_wouldBoth, 4, some .boolean)
theorem dsX0_wouldBoth : gx_ds yX0_wouldBoth 4 := by decide +kernel
def fX0_wouldBoth (σ : xk_C) (x0 : Option Nat) (x1 : Option Nat) (x2 : Option Nat) (x3 : Option Nat) : Option (Int32) := (xk_gi (σ) 47 (x0)).bind fun v1 => (xk_is (σ) 5 (x3)).bind fun b3 => (fX4_fit (b3) (σ) (v1)).bind fun r2 => (xk_gi (σ) 47 (x0)).bind fun v4 => (xk_is (σ) 5 (x1)).bind fun b6 => (fX4_fit (b6) (σ) (v4)).bind fun r5 => if (r2) ≤ r5 then some (0) else (xk_gi (σ) 47 (x2)).bind fun v7 => (xk_is (σ) 5 (x1)).bind fun b9 => (fX4_fit (b9) (σ) (v7)).bind fun r8 => (xk_gi (σ) 47 (x2)).bind fun v10 => (xk_is (σ) 5 (x3)).bind fun b12 => (fX4_fit (b12) (σ) (v10)).bind fun r11 => if (r8) ≤ r11 then some (0) else some (1)
set_option maxHeartbeats 4000000 in
theorem tX0_wouldBoth (w : gw_W) (A : Nat → Prop) (l : Launch) (σ : xk_C) (x0 : Option Nat) (x1 : Option Nat) (x2 : Option Nat) (x3 : Option Nat) {r : Int32} (h : fX0_wouldBoth σ x0 x1 x2 x3 = some r) : gx_T (gw_I w A) A l yX0_wouldBoth iX0_wouldBoth 2 [va_rf (x0), va_rf (x1), va_rf (x2), va_rf (x3)] (xk_P A w σ) 0 0 (xk_P A w σ) (.returned (some (.int r))) := by
  refine gx_T.of (gw_I.inv w A) (by decide) ⟨rfl, rfl⟩ (gx_kR (gx_kR (gx_kR (gx_kR gx_k0)))) (Nat.le_of_ble_eq_true rfl) (fun X hl hAx hX => ?_)
  subst hl
  subst hAx
  show gx_G X (xk_P (gx_A X) w (σ)) 0 0 [some (va_rf (x0)), some (va_rf (x1)), some (va_rf (x2)), some (va_rf (x3))] 0 []
  unfold fX0_wouldBoth at h
  refine gx_aload_n hX dX0_wouldBoth_0 rfl ?_
  refine gx_aload_n hX dX0_wouldBoth_1 rfl ?_
  refine xk_getiN hX 47 q557 rfl dX0_wouldBoth_2 h (fun v1 h => ?_)
  obtain ⟨b3, hb, h⟩ := gx_bs h
  obtain ⟨eb, hkb⟩ := xk_isS hb
  obtain ⟨r2, hr2, h⟩ := gx_bs h
  refine gx_cV (As := [.int (v1)]) (rest := []) (b := b3) hX (tX4_fit w (gx_A X) (gx_l X) (b3) (σ) (v1) hr2) (lw_V q698 q691 q692 q93 q693) ⟨rfl, dsX4_fit⟩ (by decide) (Nat.le_of_ble_eq_true rfl) (xk_rc hX (ci := 4) (by decide) (by decide) hkb) (by rw [eb]; rfl) (gx_w8 gx_k0 (Nat.le_of_ble_eq_true rfl)) dX0_wouldBoth_5 ⟨Nat.le_refl _, Nat.le_refl _⟩ rfl ?_
  refine gx_aload_n hX dX0_wouldBoth_8 rfl ?_
  refine gx_aload_n hX dX0_wouldBoth_9 rfl ?_
  refine xk_getiN hX 47 q557 rfl dX0_wouldBoth_10 h (fun v4 h => ?_)
  obtain ⟨b6, hb, h⟩ := gx_bs h
  obtain ⟨eb, hkb⟩ := xk_isS hb
  obtain ⟨r5, hr5, h⟩ := gx_bs h
  refine gx_cV (As := [.int (v4)]) (rest := [.int (r2)]) (b := b6) hX (tX4_fit w (gx_A X) (gx_l X) (b6) (σ) (v4) hr5) (lw_V q698 q691 q692 q93 q693) ⟨rfl, dsX4_fit⟩ (by decide) (Nat.le_of_ble_eq_true rfl) (xk_rc hX (ci := 4) (by decide) (by decide) hkb) (by rw [eb]; rfl) (gx_w8 (gx_kI gx_k0) (Nat.le_of_ble_eq_true rfl)) dX0_wouldBoth_13 ⟨Nat.le_refl _, Nat.le_refl _⟩ rfl ?_
  refine gx_icmp_le (tgt := 42) hX dX0_wouldBoth_16 (by decide) h (fun h => ?_) (fun h => ?_)
  · refine gx_iconst (v := 0) hX dX0_wouldBoth_42 (by decide) ?_
    cases h
    exact gx_zret hX rfl rfl dX0_wouldBoth_43 rfl ⟨rfl, rfl⟩ (fun _ h => h)
  · refine gx_aload_n hX dX0_wouldBoth_19 rfl ?_
    refine gx_aload_n hX dX0_wouldBoth_20 rfl ?_
    refine xk_getiN hX 47 q557 rfl dX0_wouldBoth_21 h (fun v7 h => ?_)
    obtain ⟨b9, hb, h⟩ := gx_bs h
    obtain ⟨eb, hkb⟩ := xk_isS hb
    obtain ⟨r8, hr8, h⟩ := gx_bs h
    refine gx_cV (As := [.int (v7)]) (rest := []) (b := b9) hX (tX4_fit w (gx_A X) (gx_l X) (b9) (σ) (v7) hr8) (lw_V q698 q691 q692 q93 q693) ⟨rfl, dsX4_fit⟩ (by decide) (Nat.le_of_ble_eq_true rfl) (xk_rc hX (ci := 4) (by decide) (by decide) hkb) (by rw [eb]; rfl) (gx_w8 gx_k0 (Nat.le_of_ble_eq_true rfl)) dX0_wouldBoth_24 ⟨Nat.le_refl _, Nat.le_refl _⟩ rfl ?_
    refine gx_aload_n hX dX0_wouldBoth_27 rfl ?_
    refine gx_aload_n hX dX0_wouldBoth_28 rfl ?_
    refine xk_getiN hX 47 q557 rfl dX0_wouldBoth_29 h (fun v10 h => ?_)
    obtain ⟨b12, hb, h⟩ := gx_bs h
    obtain ⟨eb, hkb⟩ := xk_isS hb
    obtain ⟨r11, hr11, h⟩ := gx_bs h
    refine gx_cV (As := [.int (v10)]) (rest := [.int (r8)]) (b := b12) hX (tX4_fit w (gx_A X) (gx_l X) (b12) (σ) (v10) hr11) (lw_V q698 q691 q692 q93 q693) ⟨rfl, dsX4_fit⟩ (by decide) (Nat.le_of_ble_eq_true rfl) (xk_rc hX (ci := 4) (by decide) (by decide) hkb) (by rw [eb]; rfl) (gx_w8 (gx_kI gx_k0) (Nat.le_of_ble_eq_true rfl)) dX0_wouldBoth_32 ⟨Nat.le_refl _, Nat.le_refl _⟩ rfl ?_
    refine gx_icmp_le (tgt := 42) hX dX0_wouldBoth_35 (by decide) h (fun h => ?_) (fun h => ?_)
    · refine gx_iconst (v := 0) hX dX0_wouldBoth_42 (by decide) ?_
      cases h
      exact gx_zret hX rfl rfl dX0_wouldBoth_43 rfl ⟨rfl, rfl⟩ (fun _ h => h)
    · refine gx_iconst (v := 1) hX dX0_wouldBoth_38 (by decide) ?_
      refine gx_goto (tgt := 43) hX dX0_wouldBoth_39 (by decide) ?_
      cases h
      exact gx_zret hX rfl rfl dX0_wouldBoth_43 rfl ⟨rfl, rfl⟩ (fun _ h => h)
abbrev iX0_isCalm : gx_M := (RX0, "isCalm", cX0_isCalm, 3, some .boolean)
theorem dsX0_isCalm : gx_ds yX0_isCalm 0 := by decide +kernel
def fX0_isCalm_L12 (N : Nat) (x0 : Nat) (σ : xk_C)  (K2 : Int32 → Option (Int32)) : Nat → Int32 → Int32 → Option (Int32)
  | 0, _, _ => none
  | k + 1, x1, x2 => if (x1) ≤ x2 then K2 ((x1) + 1) else (xk_gr (σ) 17 (some x0)).bind fun v2 => (xk_lq (σ) 6 (v2) (x1)).bind fun v3 => (xk_gr (σ) 18 (some x0)).bind fun v4 => (xk_lq (σ) 7 (v4) (x1)).bind fun v5 => (xk_gr (σ) 17 (some x0)).bind fun v6 => (xk_lq (σ) 6 (v6) (x2)).bind fun v7 => (xk_gr (σ) 18 (some x0)).bind fun v8 => (xk_lq (σ) 7 (v8) (x2)).bind fun v9 => (fX0_wouldBoth (σ) (v3) (v5) (v7) (v9)).bind fun r10 => if r10 = 0 then (fX0_isCalm_L12 N x0 σ K2 k) (x1) ((x2) + 1) else some (0)
set_option maxHeartbeats 4000000 in
theorem tX0_isCalm_L12 {w : gw_W} {X : gx_X} {N : Nat} {x0 : Nat} {σ : xk_C} {r : Int32} (hX : gx_O (gw_I w (gx_A X)) X iX0_isCalm 3 0 0 (xk_P (gx_A X) w σ) (.returned (some (.int r)))) {K2 : Int32 → Option (Int32)} (hK2 : ∀ (x1 : Int32), K2 x1 = some r → gx_G X (xk_P (gx_A X) w (σ)) 0 0 [some (va_rf (some x0)), some (.int (x1)), none] 2 []) : ∀ (k : Nat) (x1 : Int32) (x2 : Int32), fX0_isCalm_L12 N x0 σ K2 k x1 x2 = some r → gx_G X (xk_P (gx_A X) w (σ)) 0 0 [some (va_rf (some x0)), some (.int (x1)), some (.int (x2))] 12 [] := by
  intro k
  induction k with
  | zero =>
    intro x1 x2 h
    unfold fX0_isCalm_L12 at h
    cases h
  | succ k ih =>
    intro x1 x2 h
    unfold fX0_isCalm_L12 at h
    refine gx_iload_n hX dX0_isCalm_12 rfl ?_
    refine gx_iload_n hX dX0_isCalm_13 rfl ?_
    refine gx_icmp_ge (tgt := 55) hX dX0_isCalm_14 (by decide) h (fun h => ?_) (fun h => ?_)
    · refine gx_iinc (v := 1) hX dX0_isCalm_55 rfl (by decide) gx_c1r (lv' := [some (va_rf (some x0)), some (.int ((x1) + 1)), some (.int (x2))]) rfl ?_
      refine gx_goto (tgt := 2) hX dX0_isCalm_58 (by decide) ?_
      refine gx_sub hX (lv' := [some (va_rf (some x0)), some (.int ((x1) + 1)), none]) ⟨Or.inr rfl, ⟨Or.inr rfl, ⟨Or.inl rfl, trivial⟩⟩⟩ ?_
      exact hK2 _ h
    · refine gx_aload_n hX dX0_isCalm_17 rfl ?_
      refine xk_getr hX 17 q239 (fun _ h => h) rfl dX0_isCalm_18 h (fun v2 h => ?_)
      refine gx_iload_n hX dX0_isCalm_21 rfl ?_
      refine xk_aaload hX 6 ⟨by decide, by decide, rfl⟩ dX0_isCalm_22 h (fun v3 h => ?_)
      refine gx_aload_n hX dX0_isCalm_23 rfl ?_
      refine xk_getr hX 18 q240 (fun _ h => h) rfl dX0_isCalm_24 h (fun v4 h => ?_)
      refine gx_iload_n hX dX0_isCalm_27 rfl ?_
      refine xk_aaload hX 7 ⟨by decide, by decide, rfl⟩ dX0_isCalm_28 h (fun v5 h => ?_)
      refine gx_aload_n hX dX0_isCalm_29 rfl ?_
      refine xk_getr hX 17 q239 (fun _ h => h) rfl dX0_isCalm_30 h (fun v6 h => ?_)
      refine gx_iload_n hX dX0_isCalm_33 rfl ?_
      refine xk_aaload hX 6 ⟨by decide, by decide, rfl⟩ dX0_isCalm_34 h (fun v7 h => ?_)
      refine gx_aload_n hX dX0_isCalm_35 rfl ?_
      refine xk_getr hX 18 q240 (fun _ h => h) rfl dX0_isCalm_36 h (fun v8 h => ?_)
      refine gx_iload_n hX dX0_isCalm_39 rfl ?_
      refine xk_aaload hX 7 ⟨by decide, by decide, rfl⟩ dX0_isCalm_40 h (fun v9 h => ?_)
      obtain ⟨r10, hr10, h⟩ := gx_bs h
      refine gx_cS (As := [va_rf (v3), va_rf (v5), va_rf (v7), va_rf (v9)]) (rest := []) hX (tX0_wouldBoth w (gx_A X) (gx_l X) (σ) (v3) (v5) (v7) (v9) hr10) (lw_S q1062 q1063 q86 q1064) dsX0_wouldBoth (by decide) (Nat.le_of_ble_eq_true rfl) rfl (gx_w8 gx_k0 (Nat.le_of_ble_eq_true rfl)) dX0_isCalm_41 ⟨Nat.le_refl _, Nat.le_refl _⟩ rfl ?_
      refine gx_if_eq (tgt := 49) hX dX0_isCalm_44 (by decide) h (fun h => ?_) (fun h => ?_)
      · refine gx_iinc (v := 1) hX dX0_isCalm_49 rfl (by decide) gx_c1i (lv' := [some (va_rf (some x0)), some (.int (x1)), some (.int ((x2) + 1))]) rfl ?_
        refine gx_goto (tgt := 12) hX dX0_isCalm_52 (by decide) ?_
        exact ih _ _ h
      · refine gx_iconst (v := 0) hX dX0_isCalm_47 (by decide) ?_
        cases h
        exact gx_zret hX rfl rfl dX0_isCalm_48 rfl ⟨rfl, rfl⟩ (fun _ h => h)
def fX0_isCalm_L2 (N : Nat) (x0 : Nat) (σ : xk_C)   : Nat → Int32 → Option (Int32)
  | 0, _ => none
  | k + 1, x1 => (xk_gi (σ) 20 (some x0)).bind fun v1 => if (v1) ≤ x1 then some (1) else fX0_isCalm_L12 N x0 σ (fX0_isCalm_L2 N x0 σ k) N (x1) (0)
set_option maxHeartbeats 4000000 in
theorem tX0_isCalm_L2 {w : gw_W} {X : gx_X} {N : Nat} {x0 : Nat} {σ : xk_C} {r : Int32} (hX : gx_O (gw_I w (gx_A X)) X iX0_isCalm 3 0 0 (xk_P (gx_A X) w σ) (.returned (some (.int r))))  : ∀ (k : Nat) (x1 : Int32), fX0_isCalm_L2 N x0 σ k x1 = some r → gx_G X (xk_P (gx_A X) w (σ)) 0 0 [some (va_rf (some x0)), some (.int (x1)), none] 2 [] := by
  intro k
  induction k with
  | zero =>
    intro x1 h
    unfold fX0_isCalm_L2 at h
    cases h
  | succ k ih =>
    intro x1 h
    unfold fX0_isCalm_L2 at h
    refine gx_iload_n hX dX0_isCalm_2 rfl ?_
    refine gx_aload_n hX dX0_isCalm_3 rfl ?_
    refine xk_geti hX 20 q242 (fun _ h => h) rfl dX0_isCalm_4 h (fun v1 h => ?_)
    refine gx_icmp_ge (tgt := 61) hX dX0_isCalm_7 (by decide) h (fun h => ?_) (fun h => ?_)
    · refine gx_iconst (v := 1) hX dX0_isCalm_61 (by decide) ?_
      cases h
      exact gx_zret hX rfl rfl dX0_isCalm_62 rfl ⟨rfl, rfl⟩ (fun _ h => h)
    · refine gx_iconst (v := 0) hX dX0_isCalm_10 (by decide) ?_
      refine gx_istore_n hX dX0_isCalm_11 (Nat.le_of_ble_eq_true rfl) gx_c1i (lv' := [some (va_rf (some x0)), some (.int (x1)), some (.int (0))]) rfl ?_
      exact tX0_isCalm_L12 hX ih N _ _ h
def fX0_isCalm (N : Nat) (x0 : Nat) (σ : xk_C)  : Option (Int32) := fX0_isCalm_L2 N x0 σ N (0)
set_option maxHeartbeats 4000000 in
theorem tX0_isCalm (w : gw_W) (A : Nat → Prop) (l : Launch) (N : Nat) (x0 : Nat) (σ : xk_C)  {r : Int32} (h : fX0_isCalm N x0 σ = some r) : gx_T (gw_I w A) A l yX0_isCalm iX0_isCalm 3 [va_rf (some x0)] (xk_P A w σ) 0 0 (xk_P A w σ) (.returned (some (.int r))) := by
  refine gx_T.of (gw_I.inv w A) (by decide) ⟨rfl, rfl⟩ (gx_kR gx_k0) (Nat.le_of_ble_eq_true rfl) (fun X hl hAx hX => ?_)
  subst hl
  subst hAx
  show gx_G X (xk_P (gx_A X) w (σ)) 0 0 [some (va_rf (some x0)), none, none] 0 []
  unfold fX0_isCalm at h
  refine gx_iconst (v := 0) hX dX0_isCalm_0 (by decide) ?_
  refine gx_istore_n hX dX0_isCalm_1 (Nat.le_of_ble_eq_true rfl) gx_c1r (lv' := [some (va_rf (some x0)), some (.int (0)), none]) rfl ?_
  exact tX0_isCalm_L2 hX  N _ h
