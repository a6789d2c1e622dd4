set_option maxRecDepth 100000
abbrev iX0_count : gx_M := (RX0, "count", cX0_count, 4, some .int)
theorem dsX0_count : gx_ds yX0_count 1 := by decide +kernel
def fX0_count_B129 (N : Nat) (x0 : Nat) (σ : xk_C)  (K95 : Int32 → Int32 → Option (Int32)) (x3 : Int32) (y0 : Int32) (y1 : Int32) : Option (Int32) := K95 ((y1) + (y0)) ((x3) + 1)
set_option maxHeartbeats 4000000 in
theorem tX0_count_B129 {w : gw_W} {X : gx_X} {N : Nat} {x0 : Nat} {σ : xk_C} {r : Int32} (hX : gx_O (gw_I w (gx_A X)) X iX0_count 5 0 0 (xk_P (gx_A X) w σ) (.returned (some (.int r)))) {K95 : Int32 → Int32 → Option (Int32)} (hK95 : ∀ (x2 : Int32) (x3 : Int32), K95 x2 x3 = some r → gx_G X (xk_P (gx_A X) w (σ)) 0 0 [some (va_rf (some x0)), none, some (.int (x2)), some (.int (x3))] 95 []) {x3 : Int32} {y0 : Int32} {y1 : Int32} (h : fX0_count_B129 N x0 σ K95 x3 y0 y1 = some r) : gx_G X (xk_P (gx_A X) w (σ)) 0 0 [some (va_rf (some x0)), none, none, some (.int (x3))] 129 [.int (y0), .int (y1)] := by
  unfold fX0_count_B129 at h
  refine gx_iadd hX dX0_count_129 ?_
  refine gx_istore_n hX dX0_count_130 (Nat.le_of_ble_eq_true rfl) gx_c1n (lv' := [some (va_rf (some x0)), none, some (.int ((y1) + (y0))), some (.int (x3))]) rfl ?_
  refine gx_iinc (v := 1) hX dX0_count_131 rfl (by decide) gx_c1i (lv' := [some (va_rf (some x0)), none, some (.int ((y1) + (y0))), some (.int ((x3) + 1))]) rfl ?_
  refine gx_goto (tgt := 95) hX dX0_count_134 (by decide) ?_
  exact hK95 _ _ h
def fX0_count_L95 (N : Nat) (x0 : Nat) (σ : xk_C)   : Nat → Int32 → Int32 → Option (Int32)
  | 0, _, _ => none
  | k + 1, x2, x3 => (xk_gr (σ) 3 (some x0)).bind fun v14 => (xk_is (σ) 21 (v14)).bind fun b16 => (fJ2_size (b16) (σ)).bind fun r15 => if (r15) ≤ x3 then some (x2) else (xk_gr (σ) 3 (some x0)).bind fun v17 => (xk_is (σ) 21 (v17)).bind fun b19 => (fJ2_get (b19) (σ) (x3)).bind fun r18 => (xk_ck (σ) 6 (r18)).bind fun u20 => (xk_is (σ) 6 (r18)).bind fun b22 => (fX5_isHoused (b22) (σ)).bind fun r21 => if r21 = 0 then fX0_count_B129 N x0 σ (fX0_count_L95 N x0 σ k) (x3) (0) (x2) else fX0_count_B129 N x0 σ (fX0_count_L95 N x0 σ k) (x3) (1) (x2)
set_option maxHeartbeats 4000000 in
theorem tX0_count_L95 {w : gw_W} {X : gx_X} {N : Nat} {x0 : Nat} {σ : xk_C} {r : Int32} (hX : gx_O (gw_I w (gx_A X)) X iX0_count 5 0 0 (xk_P (gx_A X) w σ) (.returned (some (.int r))))  : ∀ (k : Nat) (x2 : Int32) (x3 : Int32), fX0_count_L95 N x0 σ k x2 x3 = some r → gx_G X (xk_P (gx_A X) w (σ)) 0 0 [some (va_rf (some x0)), none, some (.int (x2)), some (.int (x3))] 95 [] := by
  intro k
  induction k with
  | zero =>
    intro x2 x3 h
    unfold fX0_count_L95 at h
    cases h
  | succ k ih =>
    intro x2 x3 h
    unfold fX0_count_L95 at h
    refine gx_iload_n hX dX0_count_95 rfl ?_
    refine gx_aload_n hX dX0_count_96 rfl ?_
    refine xk_getr hX 3 q214 (fun _ h => h) rfl dX0_count_97 h (fun v14 h => ?_)
    obtain ⟨b16, hb, h⟩ := gx_bs h
    obtain ⟨eb, hkb⟩ := xk_isS hb
    obtain ⟨r15, hr15, h⟩ := gx_bs h
    refine gx_cV (As := []) (rest := [.int (x3)]) (b := b16) hX (tJ2_size w (gx_A X) (gx_l X) (b16) (σ)  hr15) (lw_V q314 q315 q316 q89 q317) ⟨rfl, dsJ2_size⟩ (by decide) (Nat.le_of_ble_eq_true rfl) (xk_rc hX (ci := 20) (by decide) (by decide) hkb) (by rw [eb]; rfl) (gx_w8 (gx_kI gx_k0) (Nat.le_of_ble_eq_true rfl)) dX0_count_100 ⟨Nat.le_refl _, Nat.le_refl _⟩ rfl ?_
    refine gx_icmp_ge (tgt := 137) hX dX0_count_103 (by decide) h (fun h => ?_) (fun h => ?_)
    · refine gx_iload_n hX dX0_count_137 rfl ?_
      cases h
      exact gx_iret hX rfl dX0_count_138 rfl ⟨rfl, rfl⟩ (fun _ h => h)
    · refine gx_iload_n hX dX0_count_106 rfl ?_
      refine gx_aload_n hX dX0_count_107 rfl ?_
      refine xk_getr hX 3 q214 (fun _ h => h) rfl dX0_count_108 h (fun v17 h => ?_)
      refine gx_iload_n hX dX0_count_111 rfl ?_
      obtain ⟨b19, hb, h⟩ := gx_bs h
      obtain ⟨eb, hkb⟩ := xk_isS hb
      obtain ⟨r18, hr18, h⟩ := gx_bs h
      refine gx_cV (As := [.int (x3)]) (rest := [.int (x2)]) (b := b19) hX (tJ2_get w (gx_A X) (gx_l X) (b19) (σ) (x3) hr18) (lw_V q433 q434 q435 q89 q436) ⟨rfl, dsJ2_get⟩ (by decide) (Nat.le_of_ble_eq_true rfl) (xk_rc hX (ci := 20) (by decide) (by decide) hkb) (by rw [eb]; rfl) (gx_w8 (gx_kI gx_k0) (Nat.le_of_ble_eq_true rfl)) dX0_count_112 ⟨Nat.le_refl _, Nat.le_refl _⟩ rfl ?_
      refine xk_castC hX 5 ⟨by decide, by decide⟩ q204 dX0_count_115 h (fun h => ?_)
      obtain ⟨b22, hb, h⟩ := gx_bs h
      obtain ⟨eb, hkb⟩ := xk_isS hb
      obtain ⟨r21, hr21, h⟩ := gx_bs h
      refine gx_cV (As := []) (rest := [.int (x2)]) (b := b22) hX (tX5_isHoused w (gx_A X) (gx_l X) (b22) (σ)  hr21) (lw_V q982 q648 q649 q100 q650) ⟨rfl, dsX5_isHoused⟩ (by decide) (Nat.le_of_ble_eq_true rfl) (xk_rc hX (ci := 5) (by decide) (by decide) hkb) (by rw [eb]; rfl) (gx_w8 (gx_kI gx_k0) (Nat.le_of_ble_eq_true rfl)) dX0_count_118 ⟨Nat.le_refl _, Nat.le_refl _⟩ rfl ?_
      refine gx_if_eq (tgt := 128) hX dX0_count_121 (by decide) h (fun h => ?_) (fun h => ?_)
      · refine gx_iconst (v := 0) hX dX0_count_128 (by decide) ?_
        refine gx_sub hX (lv' := [some (va_rf (some x0)), none, none, some (.int (x3))]) ⟨Or.inr rfl, ⟨Or.inr rfl, ⟨Or.inl rfl, ⟨Or.inr rfl, trivial⟩⟩⟩⟩ ?_
        exact tX0_count_B129 hX ih h
      · refine gx_iconst (v := 1) hX dX0_count_124 (by decide) ?_
        refine gx_goto (tgt := 129) hX dX0_count_125 (by decide) ?_
        refine gx_sub hX (lv' := [some (va_rf (some x0)), none, none, some (.int (x3))]) ⟨Or.inr rfl, ⟨Or.inr rfl, ⟨Or.inl rfl, ⟨Or.inr rfl, trivial⟩⟩⟩⟩ ?_
        exact tX0_count_B129 hX ih h
def fX0_count_B175 (N : Nat) (x0 : Nat) (σ : xk_C)  (K141 : Int32 → Int32 → Option (Int32)) (x3 : Int32) (y0 : Int32) (y1 : Int32) : Option (Int32) := K141 ((y1) + (y0)) ((x3) + 1)
set_option maxHeartbeats 4000000 in
theorem tX0_count_B175 {w : gw_W} {X : gx_X} {N : Nat} {x0 : Nat} {σ : xk_C} {r : Int32} (hX : gx_O (gw_I w (gx_A X)) X iX0_count 5 0 0 (xk_P (gx_A X) w σ) (.returned (some (.int r)))) {K141 : Int32 → Int32 → Option (Int32)} (hK141 : ∀ (x2 : Int32) (x3 : Int32), K141 x2 x3 = some r → gx_G X (xk_P (gx_A X) w (σ)) 0 0 [some (va_rf (some x0)), none, some (.int (x2)), some (.int (x3))] 141 []) {x3 : Int32} {y0 : Int32} {y1 : Int32} (h : fX0_count_B175 N x0 σ K141 x3 y0 y1 = some r) : gx_G X (xk_P (gx_A X) w (σ)) 0 0 [some (va_rf (some x0)), none, none, some (.int (x3))] 175 [.int (y0), .int (y1)] := by
  unfold fX0_count_B175 at h
  refine gx_iadd hX dX0_count_175 ?_
  refine gx_istore_n hX dX0_count_176 (Nat.le_of_ble_eq_true rfl) gx_c1n (lv' := [some (va_rf (some x0)), none, some (.int ((y1) + (y0))), some (.int (x3))]) rfl ?_
  refine gx_iinc (v := 1) hX dX0_count_177 rfl (by decide) gx_c1i (lv' := [some (va_rf (some x0)), none, some (.int ((y1) + (y0))), some (.int ((x3) + 1))]) rfl ?_
  refine gx_goto (tgt := 141) hX dX0_count_180 (by decide) ?_
  exact hK141 _ _ h
def fX0_count_L141 (N : Nat) (x0 : Nat) (σ : xk_C)   : Nat → Int32 → Int32 → Option (Int32)
  | 0, _, _ => none
  | k + 1, x2, x3 => (xk_gr (σ) 3 (some x0)).bind fun v23 => (xk_is (σ) 21 (v23)).bind fun b25 => (fJ2_size (b25) (σ)).bind fun r24 => if (r24) ≤ x3 then some (x2) else (xk_gr (σ) 3 (some x0)).bind fun v26 => (xk_is (σ) 21 (v26)).bind fun b28 => (fJ2_get (b28) (σ) (x3)).bind fun r27 => (xk_ck (σ) 6 (r27)).bind fun u29 => (xk_is (σ) 6 (r27)).bind fun b31 => (fX5_isBare (b31) (σ)).bind fun r30 => if r30 = 0 then fX0_count_B175 N x0 σ (fX0_count_L141 N x0 σ k) (x3) (0) (x2) else fX0_count_B175 N x0 σ (fX0_count_L141 N x0 σ k) (x3) (1) (x2)
set_option maxHeartbeats 4000000 in
theorem tX0_count_L141 {w : gw_W} {X : gx_X} {N : Nat} {x0 : Nat} {σ : xk_C} {r : Int32} (hX : gx_O (gw_I w (gx_A X)) X iX0_count 5 0 0 (xk_P (gx_A X) w σ) (.returned (some (.int r))))  : ∀ (k : Nat) (x2 : Int32) (x3 : Int32), fX0_count_L141 N x0 σ k x2 x3 = some r → gx_G X (xk_P (gx_A X) w (σ)) 0 0 [some (va_rf (some x0)), none, some (.int (x2)), some (.int (x3))] 141 [] := by
  intro k
  induction k with
  | zero =>
    intro x2 x3 h
    unfold fX0_count_L141 at h
    cases h
  | succ k ih =>
    intro x2 x3 h
    unfold fX0_count_L141 at h
    refine gx_iload_n hX dX0_count_141 rfl ?_
    refine gx_aload_n hX dX0_count_142 rfl ?_
    refine xk_getr hX 3 q214 (fun _ h => h) rfl dX0_count_143 h (fun v23 h => ?_)
    obtain ⟨b25, hb, h⟩ := gx_bs h
    obtain ⟨eb, hkb⟩ := xk_isS hb
    obtain ⟨r24, hr24, h⟩ := gx_bs h
    refine gx_cV (As := []) (rest := [.int (x3)]) (b := b25) hX (tJ2_size w (gx_A X) (gx_l X) (b25) (σ)  hr24) (lw_V q314 q315 q316 q89 q317) ⟨rfl, dsJ2_size⟩ (by decide) (Nat.le_of_ble_eq_true rfl) (xk_rc hX (ci := 20) (by decide) (by decide) hkb) (by rw [eb]; rfl) (gx_w8 (gx_kI gx_k0) (Nat.le_of_ble_eq_true rfl)) dX0_count_146 ⟨Nat.le_refl _, Nat.le_refl _⟩ rfl ?_
    refine gx_icmp_ge (tgt := 183) hX dX0_count_149 (by decide) h (fun h => ?_) (fun h => ?_)
    · refine gx_iload_n hX dX0_count_183 rfl ?_
      cases h
      exact gx_iret hX rfl dX0_count_184 rfl ⟨rfl, rfl⟩ (fun _ h => h)
    · refine gx_iload_n hX dX0_count_152 rfl ?_
      refine gx_aload_n hX dX0_count_153 rfl ?_
      refine xk_getr hX 3 q214 (fun _ h => h) rfl dX0_count_154 h (fun v26 h => ?_)
      refine gx_iload_n hX dX0_count_157 rfl ?_
      obtain ⟨b28, hb, h⟩ := gx_bs h
      obtain ⟨eb, hkb⟩ := xk_isS hb
      obtain ⟨r27, hr27, h⟩ := gx_bs h
      refine gx_cV (As := [.int (x3)]) (rest := [.int (x2)]) (b := b28) hX (tJ2_get w (gx_A X) (gx_l X) (b28) (σ) (x3) hr27) (lw_V q433 q434 q435 q89 q436) ⟨rfl, dsJ2_get⟩ (by decide) (Nat.le_of_ble_eq_true rfl) (xk_rc hX (ci := 20) (by decide) (by decide) hkb) (by rw [eb]; rfl) (gx_w8 (gx_kI gx_k0) (Nat.le_of_ble_eq_true rfl)) dX0_count_158 ⟨Nat.le_refl _, Nat.le_refl _⟩ rfl ?_
      refine xk_castC hX 5 ⟨by decide, by decide⟩ q204 dX0_count_161 h (fun h => ?_)
      obtain ⟨b31, hb, h⟩ := gx_bs h
      obtain ⟨eb, hkb⟩ := xk_isS hb
      obtain ⟨r30, hr30, h⟩ := gx_bs h
      refine gx_cV (As := []) (rest := [.int (x2)]) (b := b31) hX (tX5_isBare w (gx_A X) (gx_l X) (b31) (σ)  hr30) (lw_V q712 q713 q714 q100 q715) ⟨rfl, dsX5_isBare⟩ (by decide) (Nat.le_of_ble_eq_true rfl) (xk_rc hX (ci := 5) (by decide) (by decide) hkb) (by rw [eb]; rfl) (gx_w8 (gx_kI gx_k0) (Nat.le_of_ble_eq_true rfl)) dX0_count_164 ⟨Nat.le_refl _, Nat.le_refl _⟩ rfl ?_
      refine gx_if_eq (tgt := 174) hX dX0_count_167 (by decide) h (fun h => ?_) (fun h => ?_)
      · refine gx_iconst (v := 0) hX dX0_count_174 (by decide) ?_
        refine gx_sub hX (lv' := [some (va_rf (some x0)), none, none, some (.int (x3))]) ⟨Or.inr rfl, ⟨Or.inr rfl, ⟨Or.inl rfl, ⟨Or.inr rfl, trivial⟩⟩⟩⟩ ?_
        exact tX0_count_B175 hX ih h
      · refine gx_iconst (v := 1) hX dX0_count_170 (by decide) ?_
        refine gx_goto (tgt := 175) hX dX0_count_171 (by decide) ?_
        refine gx_sub hX (lv' := [some (va_rf (some x0)), none, none, some (.int (x3))]) ⟨Or.inr rfl, ⟨Or.inr rfl, ⟨Or.inl rfl, ⟨Or.inr rfl, trivial⟩⟩⟩⟩ ?_
        exact tX0_count_B175 hX ih h
def fX0_count_B221 (N : Nat) (x0 : Nat) (σ : xk_C)  (K187 : Int32 → Int32 → Option (Int32)) (x3 : Int32) (y0 : Int32) (y1 : Int32) : Option (Int32) := K187 ((y1) + (y0)) ((x3) + 1)
set_option maxHeartbeats 4000000 in
theorem tX0_count_B221 {w : gw_W} {X : gx_X} {N : Nat} {x0 : Nat} {σ : xk_C} {r : Int32} (hX : gx_O (gw_I w (gx_A X)) X iX0_count 5 0 0 (xk_P (gx_A X) w σ) (.returned (some (.int r)))) {K187 : Int32 → Int32 → Option (Int32)} (hK187 : ∀ (x2 : Int32) (x3 : Int32), K187 x2 x3 = some r → gx_G X (xk_P (gx_A X) w (σ)) 0 0 [some (va_rf (some x0)), none, some (.int (x2)), some (.int (x3))] 187 []) {x3 : Int32} {y0 : Int32} {y1 : Int32} (h : fX0_count_B221 N x0 σ K187 x3 y0 y1 = some r) : gx_G X (xk_P (gx_A X) w (σ)) 0 0 [some (va_rf (some x0)), none, none, some (.int (x3))] 221 [.int (y0), .int (y1)] := by
  unfold fX0_count_B221 at h
  refine gx_iadd hX dX0_count_221 ?_
  refine gx_istore_n hX dX0_count_222 (Nat.le_of_ble_eq_true rfl) gx_c1n (lv' := [some (va_rf (some x0)), none, some (.int ((y1) + (y0))), some (.int (x3))]) rfl ?_
  refine gx_iinc (v := 1) hX dX0_count_223 rfl (by decide) gx_c1i (lv' := [some (va_rf (some x0)), none, some (.int ((y1) + (y0))), some (.int ((x3) + 1))]) rfl ?_
  refine gx_goto (tgt := 187) hX dX0_count_226 (by decide) ?_
  exact hK187 _ _ h
def fX0_count_L187 (N : Nat) (x0 : Nat) (σ : xk_C)   : Nat → Int32 → Int32 → Option (Int32)
  | 0, _, _ => none
  | k + 1, x2, x3 => (xk_gr (σ) 3 (some x0)).bind fun v32 => (xk_is (σ) 21 (v32)).bind fun b34 => (fJ2_size (b34) (σ)).bind fun r33 => if (r33) ≤ x3 then some (x2) else (xk_gr (σ) 3 (some x0)).bind fun v35 => (xk_is (σ) 21 (v35)).bind fun b37 => (fJ2_get (b37) (σ) (x3)).bind fun r36 => (xk_ck (σ) 6 (r36)).bind fun u38 => (xk_gi (σ) 50 (r36)).bind fun v39 => if v39 = 0 then fX0_count_B221 N x0 σ (fX0_count_L187 N x0 σ k) (x3) (0) (x2) else fX0_count_B221 N x0 σ (fX0_count_L187 N x0 σ k) (x3) (1) (x2)
set_option maxHeartbeats 4000000 in
theorem tX0_count_L187 {w : gw_W} {X : gx_X} {N : Nat} {x0 : Nat} {σ : xk_C} {r : Int32} (hX : gx_O (gw_I w (gx_A X)) X iX0_count 5 0 0 (xk_P (gx_A X) w σ) (.returned (some (.int r))))  : ∀ (k : Nat) (x2 : Int32) (x3 : Int32), fX0_count_L187 N x0 σ k x2 x3 = some r → gx_G X (xk_P (gx_A X) w (σ)) 0 0 [some (va_rf (some x0)), none, some (.int (x2)), some (.int (x3))] 187 [] := by
  intro k
  induction k with
  | zero =>
    intro x2 x3 h
    unfold fX0_count_L187 at h
    cases h
  | succ k ih =>
    intro x2 x3 h
    unfold fX0_count_L187 at h
    refine gx_iload_n hX dX0_count_187 rfl ?_
    refine gx_aload_n hX dX0_count_188 rfl ?_
    refine xk_getr hX 3 q214 (fun _ h => h) rfl dX0_count_189 h (fun v32 h => ?_)
    obtain ⟨b34, hb, h⟩ := gx_bs h
    obtain ⟨eb, hkb⟩ := xk_isS hb
    obtain ⟨r33, hr33, h⟩ := gx_bs h
    refine gx_cV (As := []) (rest := [.int (x3)]) (b := b34) hX (tJ2_size w (gx_A X) (gx_l X) (b34) (σ)  hr33) (lw_V q314 q315 q316 q89 q317) ⟨rfl, dsJ2_size⟩ (by decide) (Nat.le_of_ble_eq_true rfl) (xk_rc hX (ci := 20) (by decide) (by decide) hkb) (by rw [eb]; rfl) (gx_w8 (gx_kI gx_k0) (Nat.le_of_ble_eq_true rfl)) dX0_count_192 ⟨Nat.le_refl _, Nat.le_refl _⟩ rfl ?_
    refine gx_icmp_ge (tgt := 229) hX dX0_count_195 (by decide) h (fun h => ?_) (fun h => ?_)
    · refine gx_iload_n hX dX0_count_229 rfl ?_
      cases h
      exact gx_iret hX rfl dX0_count_230 rfl ⟨rfl, rfl⟩ (fun _ h => h)
    · refine gx_iload_n hX dX0_count_198 rfl ?_
      refine gx_aload_n hX dX0_count_199 rfl ?_
      refine xk_getr hX 3 q214 (fun _ h => h) rfl dX0_count_200 h (fun v35 h => ?_)
      refine gx_iload_n hX dX0_count_203 rfl ?_
      obtain ⟨b37, hb, h⟩ := gx_bs h
      obtain ⟨eb, hkb⟩ := xk_isS hb
      obtain ⟨r36, hr36, h⟩ := gx_bs h
      refine gx_cV (As := [.int (x3)]) (rest := [.int (x2)]) (b := b37) hX (tJ2_get w (gx_A X) (gx_l X) (b37) (σ) (x3) hr36) (lw_V q433 q434 q435 q89 q436) ⟨rfl, dsJ2_get⟩ (by decide) (Nat.le_of_ble_eq_true rfl) (xk_rc hX (ci := 20) (by decide) (by decide) hkb) (by rw [eb]; rfl) (gx_w8 (gx_kI gx_k0) (Nat.le_of_ble_eq_true rfl)) dX0_count_204 ⟨Nat.le_refl _, Nat.le_refl _⟩ rfl ?_
      refine xk_castC hX 5 ⟨by decide, by decide⟩ q204 dX0_count_207 h (fun h => ?_)
      refine xk_getiN hX 50 q566 rfl dX0_count_210 h (fun v39 h => ?_)
      refine gx_if_eq (tgt := 220) hX dX0_count_213 (by decide) h (fun h => ?_) (fun h => ?_)
      · refine gx_iconst (v := 0) hX dX0_count_220 (by decide) ?_
        refine gx_sub hX (lv' := [some (va_rf (some x0)), none, none, some (.int (x3))]) ⟨Or.inr rfl, ⟨Or.inr rfl, ⟨Or.inl rfl, ⟨Or.inr rfl, trivial⟩⟩⟩⟩ ?_
        exact tX0_count_B221 hX ih h
      · refine gx_iconst (v := 1) hX dX0_count_216 (by decide) ?_
        refine gx_goto (tgt := 221) hX dX0_count_217 (by decide) ?_
        refine gx_sub hX (lv' := [some (va_rf (some x0)), none, none, some (.int (x3))]) ⟨Or.inr rfl, ⟨Or.inr rfl, ⟨Or.inl rfl, ⟨Or.inr rfl, trivial⟩⟩⟩⟩ ?_
        exact tX0_count_B221 hX ih h
def fX0_count (N : Nat) (x0 : Nat) (σ : xk_C) (x1 : Int32) : Option (Int32) := if x1 = 0 then (xk_gr (σ) 0 (some x0)).bind fun v1 => (xk_is (σ) 21 (v1)).bind fun b3 => (fJ2_size (b3) (σ)).bind fun r2 => some (r2) else if x1 = 1 then (xk_gr (σ) 3 (some x0)).bind fun v4 => (xk_is (σ) 21 (v4)).bind fun b6 => (fJ2_size (b6) (σ)).bind fun r5 => some (r5) else if x1 = 2 then (xk_gr (σ) 11 (some x0)).bind fun v7 => (xk_is (σ) 21 (v7)).bind fun b9 => (fJ2_size (b9) (σ)).bind fun r8 => some (r8) else if x1 = 3 then (xk_gr (σ) 23 (some x0)).bind fun v10 => (xk_is (σ) 21 (v10)).bind fun b12 => (fJ2_size (b12) (σ)).bind fun r11 => some (r11) else if x1 = 4 then (xk_gi (σ) 4 (some x0)).bind fun v13 => some (v13) else if x1 = 5 then fX0_count_L95 N x0 σ N (0) (0) else if x1 = nI 6 then fX0_count_L141 N x0 σ N (0) (0) else if x1 = nI 7 then fX0_count_L187 N x0 σ N (0) (0) else if x1 = nI 8 then (xk_gi (σ) 9 (some x0)).bind fun v40 => some (v40) else if x1 = nI 9 then (xk_gi (σ) 1 (some x0)).bind fun v41 => some (v41) else some ((-1))
set_option maxHeartbeats 4000000 in
theorem tX0_count (w : gw_W) (A : Nat → Prop) (l : Launch) (N : Nat) (x0 : Nat) (σ : xk_C) (x1 : Int32) {r : Int32} (h : fX0_count N x0 σ x1 = some r) : gx_T (gw_I w A) A l yX0_count iX0_count 5 [va_rf (some x0), .int (x1)] (xk_P A w σ) 0 0 (xk_P A w σ) (.returned (some (.int r))) := by
  refine gx_T.of (gw_I.inv w A) (by decide) ⟨rfl, rfl⟩ (gx_kR (gx_kI gx_k0)) (Nat.le_of_ble_eq_true rfl) (fun X hl hAx hX => ?_)
  subst hl
  subst hAx
  show gx_G X (xk_P (gx_A X) w (σ)) 0 0 [some (va_rf (some x0)), some (.int (x1)), none, none] 0 []
  unfold fX0_count at h
  refine gx_iconst (v := 0) hX dX0_count_0 (by decide) ?_
  refine gx_istore_n hX dX0_count_1 (Nat.le_of_ble_eq_true rfl) gx_c1i (lv' := [some (va_rf (some x0)), some (.int (x1)), some (.int (0)), none]) rfl ?_
  refine gx_iload_n hX dX0_count_2 rfl ?_
  by_cases c0 : x1 = 0
  · rw [if_pos c0] at h
    refine gx_tsw (off := 53) (tgt := 56) hX dX0_count_3 (by decide) (by rw [c0]; decide) (by decide) ?_
    refine gx_aload_n hX dX0_count_56 rfl ?_
    refine xk_getr hX 0 q209 (fun _ h => h) rfl dX0_count_57 h (fun v1 h => ?_)
    obtain ⟨b3, hb, h⟩ := gx_bs h
    obtain ⟨eb, hkb⟩ := xk_isS hb
    obtain ⟨r2, hr2, h⟩ := gx_bs h
    refine gx_cV (As := []) (rest := []) (b := b3) hX (tJ2_size w (gx_A X) (gx_l X) (b3) (σ)  hr2) (lw_V q314 q315 q316 q89 q317) ⟨rfl, dsJ2_size⟩ (by decide) (Nat.le_of_ble_eq_true rfl) (xk_rc hX (ci := 20) (by decide) (by decide) hkb) (by rw [eb]; rfl) (gx_w8 gx_k0 (Nat.le_of_ble_eq_true rfl)) dX0_count_60 ⟨Nat.le_refl _, Nat.le_refl _⟩ rfl ?_
    cases h
    exact gx_iret hX rfl dX0_count_63 rfl ⟨rfl, rfl⟩ (fun _ h => h)
  · rw [if_neg c0] at h
    by_cases c1 : x1 = 1
    · rw [if_pos c1] at h
      refine gx_tsw (off := 61) (tgt := 64) hX dX0_count_3 (by decide) (by rw [c1]; decide) (by decide) ?_
      refine gx_aload_n hX dX0_count_64 rfl ?_
      refine xk_getr hX 3 q214 (fun _ h => h) rfl dX0_count_65 h (fun v4 h => ?_)
      obtain ⟨b6, hb, h⟩ := gx_bs h
      obtain ⟨eb, hkb⟩ := xk_isS hb
      obtain ⟨r5, hr5, h⟩ := gx_bs h
      refine gx_cV (As := []) (rest := []) (b := b6) hX (tJ2_size w (gx_A X) (gx_l X) (b6) (σ)  hr5) (lw_V q314 q315 q316 q89 q317) ⟨rfl, dsJ2_size⟩ (by decide) (Nat.le_of_ble_eq_true rfl) (xk_rc hX (ci := 20) (by decide) (by decide) hkb) (by rw [eb]; rfl) (gx_w8 gx_k0 (Nat.le_of_ble_eq_true rfl)) dX0_count_68 ⟨Nat.le_refl _, Nat.le_refl _⟩ rfl ?_
      cases h
      exact gx_iret hX rfl dX0_count_71 rfl ⟨rfl, rfl⟩ (fun _ h => h)
    · rw [if_neg c1] at h
      by_cases c2 : x1 = 2
      · rw [if_pos c2] at h
        refine gx_tsw (off := 69) (tgt := 72) hX dX0_count_3 (by decide) (by rw [c2]; decide) (by decide) ?_
        refine gx_aload_n hX dX0_count_72 rfl ?_
        refine xk_getr hX 11 q232 (fun _ h => h) rfl dX0_count_73 h (fun v7 h => ?_)
        obtain ⟨b9, hb, h⟩ := gx_bs h
        obtain ⟨eb, hkb⟩ := xk_isS hb
        obtain ⟨r8, hr8, h⟩ := gx_bs h
        refine gx_cV (As := []) (rest := []) (b := b9) hX (tJ2_size w (gx_A X) (gx_l X) (b9) (σ)  hr8) (lw_V q314 q315 q316 q89 q317) ⟨rfl, dsJ2_size⟩ (by decide) (Nat.le_of_ble_eq_true rfl) (xk_rc hX (ci := 20) (by decide) (by decide) hkb) (by rw [eb]; rfl) (gx_w8 gx_k0 (Nat.le_of_ble_eq_true rfl)) dX0_count_76 ⟨Nat.le_refl _, Nat.le_refl _⟩ rfl ?_
        cases h
        exact gx_iret hX rfl dX0_count_79 rfl ⟨rfl, rfl⟩ (fun _ h => h)
      · rw [if_neg c2] at h
        by_cases c3 : x1 = 3
        · rw [if_pos c3] at h
          refine gx_tsw (off := 77) (tgt := 80) hX dX0_count_3 (by decide) (by rw [c3]; decide) (by decide) ?_
          refine gx_aload_n hX dX0_count_80 rfl ?_
          refine xk_getr hX 23 q245 (fun _ h => h) rfl dX0_count_81 h (fun v10 h => ?_)
          obtain ⟨b12, hb, h⟩ := gx_bs h
          obtain ⟨eb, hkb⟩ := xk_isS hb
          obtain ⟨r11, hr11, h⟩ := gx_bs h
          refine gx_cV (As := []) (rest := []) (b := b12) hX (tJ2_size w (gx_A X) (gx_l X) (b12) (σ)  hr11) (lw_V q314 q315 q316 q89 q317) ⟨rfl, dsJ2_size⟩ (by decide) (Nat.le_of_ble_eq_true rfl) (xk_rc hX (ci := 20) (by decide) (by decide) hkb) (by rw [eb]; rfl) (gx_w8 gx_k0 (Nat.le_of_ble_eq_true rfl)) dX0_count_84 ⟨Nat.le_refl _, Nat.le_refl _⟩ rfl ?_
          cases h
          exact gx_iret hX rfl dX0_count_87 rfl ⟨rfl, rfl⟩ (fun _ h => h)
        · rw [if_neg c3] at h
          by_cases c4 : x1 = 4
          · rw [if_pos c4] at h
            refine gx_tsw (off := 85) (tgt := 88) hX dX0_count_3 (by decide) (by rw [c4]; decide) (by decide) ?_
            refine gx_aload_n hX dX0_count_88 rfl ?_
            refine xk_geti hX 4 q217 (fun _ h => h) rfl dX0_count_89 h (fun v13 h => ?_)
            cases h
            exact gx_iret hX rfl dX0_count_92 rfl ⟨rfl, rfl⟩ (fun _ h => h)
          · rw [if_neg c4] at h
            by_cases c5 : x1 = 5
            · rw [if_pos c5] at h
              refine gx_tsw (off := 90) (tgt := 93) hX dX0_count_3 (by decide) (by rw [c5]; decide) (by decide) ?_
              refine gx_iconst (v := 0) hX dX0_count_93 (by decide) ?_
              refine gx_istore_n hX dX0_count_94 (Nat.le_of_ble_eq_true rfl) gx_c1i (lv' := [some (va_rf (some x0)), some (.int (x1)), some (.int (0)), some (.int (0))]) rfl ?_
              refine gx_sub hX (lv' := [some (va_rf (some x0)), none, some (.int (0)), some (.int (0))]) ⟨Or.inr rfl, ⟨Or.inl rfl, ⟨Or.inr rfl, ⟨Or.inr rfl, trivial⟩⟩⟩⟩ ?_
              exact tX0_count_L95 hX  N _ _ h
            · rw [if_neg c5] at h
              by_cases c6 : x1 = nI 6
              · rw [if_pos c6] at h
                refine gx_tsw (off := 136) (tgt := 139) hX dX0_count_3 (by decide) (by rw [c6]; decide) (by decide) ?_
                refine gx_iconst (v := 0) hX dX0_count_139 (by decide) ?_
                refine gx_istore_n hX dX0_count_140 (Nat.le_of_ble_eq_true rfl) gx_c1i (lv' := [some (va_rf (some x0)), some (.int (x1)), some (.int (0)), some (.int (0))]) rfl ?_
                refine gx_sub hX (lv' := [some (va_rf (some x0)), none, some (.int (0)), some (.int (0))]) ⟨Or.inr rfl, ⟨Or.inl rfl, ⟨Or.inr rfl, ⟨Or.inr rfl, trivial⟩⟩⟩⟩ ?_
                exact tX0_count_L141 hX  N _ _ h
              · rw [if_neg c6] at h
                by_cases c7 : x1 = nI 7
                · rw [if_pos c7] at h
                  refine gx_tsw (off := 182) (tgt := 185) hX dX0_count_3 (by decide) (by rw [c7]; decide) (by decide) ?_
                  refine gx_iconst (v := 0) hX dX0_count_185 (by decide) ?_
                  refine gx_istore_n hX dX0_count_186 (Nat.le_of_ble_eq_true rfl) gx_c1i (lv' := [some (va_rf (some x0)), some (.int (x1)), some (.int (0)), some (.int (0))]) rfl ?_
                  refine gx_sub hX (lv' := [some (va_rf (some x0)), none, some (.int (0)), some (.int (0))]) ⟨Or.inr rfl, ⟨Or.inl rfl, ⟨Or.inr rfl, ⟨Or.inr rfl, trivial⟩⟩⟩⟩ ?_
                  exact tX0_count_L187 hX  N _ _ h
                · rw [if_neg c7] at h
                  by_cases c8 : x1 = nI 8
                  · rw [if_pos c8] at h
                    refine gx_tsw (off := 228) (tgt := 231) hX dX0_count_3 (by decide) (by rw [c8]; decide) (by decide) ?_
                    refine gx_aload_n hX dX0_count_231 rfl ?_
                    refine xk_geti hX 9 q229 (fun _ h => h) rfl dX0_count_232 h (fun v40 h => ?_)
                    cases h
                    exact gx_iret hX rfl dX0_count_235 rfl ⟨rfl, rfl⟩ (fun _ h => h)
                  · rw [if_neg c8] at h
                    by_cases c9 : x1 = nI 9
                    · rw [if_pos c9] at h
                      refine gx_tsw (off := 233) (tgt := 236) hX dX0_count_3 (by decide) (by rw [c9]; decide) (by decide) ?_
                      refine gx_aload_n hX dX0_count_236 rfl ?_
                      refine xk_geti hX 1 q211 (fun _ h => h) rfl dX0_count_237 h (fun v41 h => ?_)
                      cases h
                      exact gx_iret hX rfl dX0_count_240 rfl ⟨rfl, rfl⟩ (fun _ h => h)
                    · rw [if_neg c9] at h
                      have e0 : (x1).toInt ≠ 0 := gx_nei c0
                      have e1 : (x1).toInt ≠ 1 := gx_nei c1
                      have e2 : (x1).toInt ≠ 2 := gx_nei c2
                      have e3 : (x1).toInt ≠ 3 := gx_nei c3
                      have e4 : (x1).toInt ≠ 4 := gx_nei c4
                      have e5 : (x1).toInt ≠ 5 := gx_nei c5
                      have e6 : (x1).toInt ≠ 6 := gx_nei c6
                      have e7 : (x1).toInt ≠ 7 := gx_nei c7
                      have e8 : (x1).toInt ≠ 8 := gx_nei c8
                      have e9 : (x1).toInt ≠ 9 := gx_nei c9
                      refine gx_tsw (off := 238) (tgt := 241) hX dX0_count_3 (by decide) (by unfold gx_to; rw [if_pos (by omega)]) (by decide) ?_
                      refine gx_iconst (v := (-1)) hX dX0_count_241 (by decide) ?_
                      cases h
                      exact gx_iret hX rfl dX0_count_242 rfl ⟨rfl, rfl⟩ (fun _ h => h)
abbrev iX3_init : gx_M := (RX3, "<init>", cX3_init, 1, none)
theorem dsX3_init : gx_ds yX3_init 0 := by decide +kernel
def fX3_init (x0 : Nat) (σ : xk_C)  : Option (xk_C × Unit) := (xk_na (σ) 0 (nI 240)).bind fun σ1 => (xk_pr (σ1) 105 (some x0) (some (xk_n (σ)))).bind fun σ2 => (xk_na (σ2) 0 (nI 240)).bind fun σ3 => (xk_pr (σ3) 106 (some x0) (some (xk_n (σ2)))).bind fun σ4 => (xk_na (σ4) 0 (nI 240)).bind fun σ5 => (xk_pr (σ5) 107 (some x0) (some (xk_n (σ4)))).bind fun σ6 => (xk_na (σ6) 0 (nI 120)).bind fun σ7 => (xk_pr (σ7) 112 (some x0) (some (xk_n (σ6)))).bind fun σ8 => (xk_na (σ8) 0 (nI 960)).bind fun σ9 => (xk_pr (σ9) 113 (some x0) (some (xk_n (σ8)))).bind fun σ10 => (xk_na (σ10) 0 (nI 8)).bind fun σ11 => (xk_pr (σ11) 114 (some x0) (some (xk_n (σ10)))).bind fun σ12 => (xk_na (σ12) 0 (nI 280)).bind fun σ13 => (xk_pr (σ13) 115 (some x0) (some (xk_n (σ12)))).bind fun σ14 => (xk_na (σ14) 0 (5)).bind fun σ15 => (xk_pr (σ15) 120 (some x0) (some (xk_n (σ14)))).bind fun σ16 => (xk_na (σ16) 0 (nI 1120)).bind fun σ17 => (xk_pr (σ17) 121 (some x0) (some (xk_n (σ16)))).bind fun σ18 => (xk_na (σ18) 0 (nI 8)).bind fun σ19 => (xk_pr (σ19) 122 (some x0) (some (xk_n (σ18)))).bind fun σ20 => (xk_na (σ20) 3 (nI 64)).bind fun σ21 => (xk_pr (σ21) 123 (some x0) (some (xk_n (σ20)))).bind fun σ22 => (xk_pi (σ22) 124 (some x0) ((-1))).bind fun σ23 => (xk_pi (σ23) 126 (some x0) ((-1))).bind fun σ24 => (xk_na (σ24) 0 (nI 12)).bind fun σ25 => (xk_pr (σ25) 127 (some x0) (some (xk_n (σ24)))).bind fun σ26 => (xk_na (σ26) 0 (nI 6)).bind fun σ27 => (xk_pr (σ27) 131 (some x0) (some (xk_n (σ26)))).bind fun σ28 => (xk_na (σ28) 0 (nI 6)).bind fun σ29 => (xk_pr (σ29) 132 (some x0) (some (xk_n (σ28)))).bind fun σ30 => (xk_na (σ30) 0 (nI 6)).bind fun σ31 => (xk_pr (σ31) 133 (some x0) (some (xk_n (σ30)))).bind fun σ32 => (xk_na (σ32) 0 (nI 20)).bind fun σ33 => (xk_pr (σ33) 138 (some x0) (some (xk_n (σ32)))).bind fun σ34 => (xk_gr (σ34) 105 (some x0)).bind fun v35 => (xk_st (σ34) 0 (v35) (3) (1)).bind fun σ36 => some (σ36, ())
set_option maxHeartbeats 4000000 in
theorem mX3_init {x0 : Nat} {σ : xk_C}  : ∀ p, fX3_init x0 σ = some p → xk_n σ ≤ xk_n p.1 ∧ xk_s σ ≤ xk_s p.1 := fun r => show xk_lr r σ (fX3_init x0 σ) from by
  unfold fX3_init
  exact (xk_lr_op xk_m_na (fun _ => (xk_lr_op xk_m_pr (fun _ => (xk_lr_op xk_m_na (fun _ => (xk_lr_op xk_m_pr (fun _ => (xk_lr_op xk_m_na (fun _ => (xk_lr_op xk_m_pr (fun _ => (xk_lr_op xk_m_na (fun _ => (xk_lr_op xk_m_pr (fun _ => (xk_lr_op xk_m_na (fun _ => (xk_lr_op xk_m_pr (fun _ => (xk_lr_op xk_m_na (fun _ => (xk_lr_op xk_m_pr (fun _ => (xk_lr_op xk_m_na (fun _ => (xk_lr_op xk_m_pr (fun _ => (xk_lr_op xk_m_na (fun _ => (xk_lr_op xk_m_pr (fun _ => (xk_lr_op xk_m_na (fun _ => (xk_lr_op xk_m_pr (fun _ => (xk_lr_op xk_m_na (fun _ => (xk_lr_op xk_m_pr (fun _ => (xk_lr_op xk_m_na (fun _ => (xk_lr_op xk_m_pr (fun _ => (xk_lr_op xk_m_pi (fun _ => (xk_lr_op xk_m_pi (fun _ => (xk_lr_op xk_m_na (fun _ => (xk_lr_op xk_m_pr (fun _ => (xk_lr_op xk_m_na (fun _ => (xk_lr_op xk_m_pr (fun _ => (xk_lr_op xk_m_na (fun _ => (xk_lr_op xk_m_pr (fun _ => (xk_lr_op xk_m_na (fun _ => (xk_lr_op xk_m_pr (fun _ => (xk_lr_op xk_m_na (fun _ => (xk_lr_op xk_m_pr (fun _ => (xk_lr_rd (fun _ => (xk_lr_op xk_m_st (fun _ => xk_lr_ret))))))))))))))))))))))))))))))))))))))))))))))))))))))))))))))))))))))))
set_option maxHeartbeats 4000000 in
theorem tX3_init (w : gw_W) (A : Nat → Prop) (l : Launch) (x0 : Nat) (σ : xk_C)  {r : xk_C × Unit} (h : fX3_init x0 σ = some r) : gx_T (gw_I w A) A l yX3_init iX3_init 2 [va_rf (some x0)] (xk_P A w σ) (xk_n r.1 - xk_n σ) (xk_s r.1 - xk_s σ) (xk_P A w r.1) (.returned none) := by
  refine gx_T.of (gw_I.inv w A) (by decide) ⟨rfl, rfl⟩ (gx_kR gx_k0) (Nat.le_of_ble_eq_true rfl) (fun X hl hAx hX => ?_)
  subst hl
  subst hAx
  show gx_G X (xk_P (gx_A X) w (σ)) 0 0 [some (va_rf (some x0))] 0 []
  have hu := mX3_init _ h
  unfold fX3_init at h
  refine xk_G0 (a := xk_n σ) (b := xk_s σ) ?_
  have hm : xk_n σ ≤ xk_n σ ∧ xk_s σ ≤ xk_s σ := ⟨Nat.le_refl _, Nat.le_refl _⟩
  refine gx_aload_n hX dX3_init_0 rfl ?_
  refine gx_obj (b := x0) hX ⟨q1341, q127, q128⟩ (by decide) (gx_w8 gx_k0 (Nat.le_of_ble_eq_true rfl)) dX3_init_1 rfl ?_
  refine gx_aload_n hX dX3_init_4 rfl ?_
  refine gx_sipush (v := nI 240) hX dX3_init_5 (by decide) ?_
  refine xk_newa (atype := .int) hX 0 ⟨by decide, rfl, by decide, rfl, fun _ => rfl⟩ q177 dX3_init_8 h (fun σ1 hτ h => ?_)
  have hu := xk_use (C := σ1) h (xk_lr_op xk_m_pr (fun _ => (xk_lr_op xk_m_na (fun _ => (xk_lr_op xk_m_pr (fun _ => (xk_lr_op xk_m_na (fun _ => (xk_lr_op xk_m_pr (fun _ => (xk_lr_op xk_m_na (fun _ => (xk_lr_op xk_m_pr (fun _ => (xk_lr_op xk_m_na (fun _ => (xk_lr_op xk_m_pr (fun _ => (xk_lr_op xk_m_na (fun _ => (xk_lr_op xk_m_pr (fun _ => (xk_lr_op xk_m_na (fun _ => (xk_lr_op xk_m_pr (fun _ => (xk_lr_op xk_m_na (fun _ => (xk_lr_op xk_m_pr (fun _ => (xk_lr_op xk_m_na (fun _ => (xk_lr_op xk_m_pr (fun _ => (xk_lr_op xk_m_na (fun _ => (xk_lr_op xk_m_pr (fun _ => (xk_lr_op xk_m_na (fun _ => (xk_lr_op xk_m_pr (fun _ => (xk_lr_op xk_m_pi (fun _ => (xk_lr_op xk_m_pi (fun _ => (xk_lr_op xk_m_na (fun _ => (xk_lr_op xk_m_pr (fun _ => (xk_lr_op xk_m_na (fun _ => (xk_lr_op xk_m_pr (fun _ => (xk_lr_op xk_m_na (fun _ => (xk_lr_op xk_m_pr (fun _ => (xk_lr_op xk_m_na (fun _ => (xk_lr_op xk_m_pr (fun _ => (xk_lr_op xk_m_na (fun _ => (xk_lr_op xk_m_pr (fun _ => (xk_lr_rd (fun _ => (xk_lr_op xk_m_st (fun _ => xk_lr_ret))))))))))))))))))))))))))))))))))))))))))))))))))))))))))))))))))))))
  refine ⟨xk_hfm hm hτ hu, xk_Gm hm hτ ?_⟩
  have hm := xk_hmm hm hτ
  refine xk_putrF hX 105 xk_ty105 (Or.inr ⟨_, rfl⟩) q1342 rfl ⟨rfl, rfl, rfl⟩ dX3_init_10 h (fun σ2 hτ h => xk_Gt hτ ?_)
  have hm := xk_hme hm hτ
  have hu := xk_hue hu hτ
  refine gx_aload_n hX dX3_init_13 rfl ?_
  refine gx_sipush (v := nI 240) hX dX3_init_14 (by decide) ?_
  refine xk_newa (atype := .int) hX 0 ⟨by decide, rfl, by decide, rfl, fun _ => rfl⟩ q177 dX3_init_17 h (fun σ3 hτ h => ?_)
  have hu := xk_use (C := σ3) h (xk_lr_op xk_m_pr (fun _ => (xk_lr_op xk_m_na (fun _ => (xk_lr_op xk_m_pr (fun _ => (xk_lr_op xk_m_na (fun _ => (xk_lr_op xk_m_pr (fun _ => (xk_lr_op xk_m_na (fun _ => (xk_lr_op xk_m_pr (fun _ => (xk_lr_op xk_m_na (fun _ => (xk_lr_op xk_m_pr (fun _ => (xk_lr_op xk_m_na (fun _ => (xk_lr_op xk_m_pr (fun _ => (xk_lr_op xk_m_na (fun _ => (xk_lr_op xk_m_pr (fun _ => (xk_lr_op xk_m_na (fun _ => (xk_lr_op xk_m_pr (fun _ => (xk_lr_op xk_m_na (fun _ => (xk_lr_op xk_m_pr (fun _ => (xk_lr_op xk_m_na (fun _ => (xk_lr_op xk_m_pr (fun _ => (xk_lr_op xk_m_pi (fun _ => (xk_lr_op xk_m_pi (fun _ => (xk_lr_op xk_m_na (fun _ => (xk_lr_op xk_m_pr (fun _ => (xk_lr_op xk_m_na (fun _ => (xk_lr_op xk_m_pr (fun _ => (xk_lr_op xk_m_na (fun _ => (xk_lr_op xk_m_pr (fun _ => (xk_lr_op xk_m_na (fun _ => (xk_lr_op xk_m_pr (fun _ => (xk_lr_op xk_m_na (fun _ => (xk_lr_op xk_m_pr (fun _ => (xk_lr_rd (fun _ => (xk_lr_op xk_m_st (fun _ => xk_lr_ret))))))))))))))))))))))))))))))))))))))))))))))))))))))))))))))))))
  refine ⟨xk_hfm hm hτ hu, xk_Gm hm hτ ?_⟩
  have hm := xk_hmm hm hτ
  refine xk_putrF hX 106 xk_ty106 (Or.inr ⟨_, rfl⟩) q1343 rfl ⟨rfl, rfl, rfl⟩ dX3_init_19 h (fun σ4 hτ h => xk_Gt hτ ?_)
  have hm := xk_hme hm hτ
  have hu := xk_hue hu hτ
  refine gx_aload_n hX dX3_init_22 rfl ?_
  refine gx_sipush (v := nI 240) hX dX3_init_23 (by decide) ?_
  refine xk_newa (atype := .int) hX 0 ⟨by decide, rfl, by decide, rfl, fun _ => rfl⟩ q177 dX3_init_26 h (fun σ5 hτ h => ?_)
  have hu := xk_use (C := σ5) h (xk_lr_op xk_m_pr (fun _ => (xk_lr_op xk_m_na (fun _ => (xk_lr_op xk_m_pr (fun _ => (xk_lr_op xk_m_na (fun _ => (xk_lr_op xk_m_pr (fun _ => (xk_lr_op xk_m_na (fun _ => (xk_lr_op xk_m_pr (fun _ => (xk_lr_op xk_m_na (fun _ => (xk_lr_op xk_m_pr (fun _ => (xk_lr_op xk_m_na (fun _ => (xk_lr_op xk_m_pr (fun _ => (xk_lr_op xk_m_na (fun _ => (xk_lr_op xk_m_pr (fun _ => (xk_lr_op xk_m_na (fun _ => (xk_lr_op xk_m_pr (fun _ => (xk_lr_op xk_m_na (fun _ => (xk_lr_op xk_m_pr (fun _ => (xk_lr_op xk_m_pi (fun _ => (xk_lr_op xk_m_pi (fun _ => (xk_lr_op xk_m_na (fun _ => (xk_lr_op xk_m_pr (fun _ => (xk_lr_op xk_m_na (fun _ => (xk_lr_op xk_m_pr (fun _ => (xk_lr_op xk_m_na (fun _ => (xk_lr_op xk_m_pr (fun _ => (xk_lr_op xk_m_na (fun _ => (xk_lr_op xk_m_pr (fun _ => (xk_lr_op xk_m_na (fun _ => (xk_lr_op xk_m_pr (fun _ => (xk_lr_rd (fun _ => (xk_lr_op xk_m_st (fun _ => xk_lr_ret))))))))))))))))))))))))))))))))))))))))))))))))))))))))))))))
  refine ⟨xk_hfm hm hτ hu, xk_Gm hm hτ ?_⟩
  have hm := xk_hmm hm hτ
  refine xk_putrF hX 107 xk_ty107 (Or.inr ⟨_, rfl⟩) q1344 rfl ⟨rfl, rfl, rfl⟩ dX3_init_28 h (fun σ6 hτ h => xk_Gt hτ ?_)
  have hm := xk_hme hm hτ
  have hu := xk_hue hu hτ
  refine gx_aload_n hX dX3_init_31 rfl ?_
  refine gx_bipush (v := nI 120) hX dX3_init_32 (by decide) ?_
  refine xk_newa (atype := .int) hX 0 ⟨by decide, rfl, by decide, rfl, fun _ => rfl⟩ q177 dX3_init_34 h (fun σ7 hτ h => ?_)
  have hu := xk_use (C := σ7) h (xk_lr_op xk_m_pr (fun _ => (xk_lr_op xk_m_na (fun _ => (xk_lr_op xk_m_pr (fun _ => (xk_lr_op xk_m_na (fun _ => (xk_lr_op xk_m_pr (fun _ => (xk_lr_op xk_m_na (fun _ => (xk_lr_op xk_m_pr (fun _ => (xk_lr_op xk_m_na (fun _ => (xk_lr_op xk_m_pr (fun _ => (xk_lr_op xk_m_na (fun _ => (xk_lr_op xk_m_pr (fun _ => (xk_lr_op xk_m_na (fun _ => (xk_lr_op xk_m_pr (fun _ => (xk_lr_op xk_m_na (fun _ => (xk_lr_op xk_m_pr (fun _ => (xk_lr_op xk_m_pi (fun _ => (xk_lr_op xk_m_pi (fun _ => (xk_lr_op xk_m_na (fun _ => (xk_lr_op xk_m_pr (fun _ => (xk_lr_op xk_m_na (fun _ => (xk_lr_op xk_m_pr (fun _ => (xk_lr_op xk_m_na (fun _ => (xk_lr_op xk_m_pr (fun _ => (xk_lr_op xk_m_na (fun _ => (xk_lr_op xk_m_pr (fun _ => (xk_lr_op xk_m_na (fun _ => (xk_lr_op xk_m_pr (fun _ => (xk_lr_rd (fun _ => (xk_lr_op xk_m_st (fun _ => xk_lr_ret))))))))))))))))))))))))))))))))))))))))))))))))))))))))))
  refine ⟨xk_hfm hm hτ hu, xk_Gm hm hτ ?_⟩
  have hm := xk_hmm hm hτ
  refine xk_putrF hX 112 xk_ty112 (Or.inr ⟨_, rfl⟩) q1349 rfl ⟨rfl, rfl, rfl⟩ dX3_init_36 h (fun σ8 hτ h => xk_Gt hτ ?_)
  have hm := xk_hme hm hτ
  have hu := xk_hue hu hτ
  refine gx_aload_n hX dX3_init_39 rfl ?_
  refine gx_sipush (v := nI 960) hX dX3_init_40 (by decide) ?_
  refine xk_newa (atype := .int) hX 0 ⟨by decide, rfl, by decide, rfl, fun _ => rfl⟩ q177 dX3_init_43 h (fun σ9 hτ h => ?_)
  have hu := xk_use (C := σ9) h (xk_lr_op xk_m_pr (fun _ => (xk_lr_op xk_m_na (fun _ => (xk_lr_op xk_m_pr (fun _ => (xk_lr_op xk_m_na (fun _ => (xk_lr_op xk_m_pr (fun _ => (xk_lr_op xk_m_na (fun _ => (xk_lr_op xk_m_pr (fun _ => (xk_lr_op xk_m_na (fun _ => (xk_lr_op xk_m_pr (fun _ => (xk_lr_op xk_m_na (fun _ => (xk_lr_op xk_m_pr (fun _ => (xk_lr_op xk_m_na (fun _ => (xk_lr_op xk_m_pr (fun _ => (xk_lr_op xk_m_pi (fun _ => (xk_lr_op xk_m_pi (fun _ => (xk_lr_op xk_m_na (fun _ => (xk_lr_op xk_m_pr (fun _ => (xk_lr_op xk_m_na (fun _ => (xk_lr_op xk_m_pr (fun _ => (xk_lr_op xk_m_na (fun _ => (xk_lr_op xk_m_pr (fun _ => (xk_lr_op xk_m_na (fun _ => (xk_lr_op xk_m_pr (fun _ => (xk_lr_op xk_m_na (fun _ => (xk_lr_op xk_m_pr (fun _ => (xk_lr_rd (fun _ => (xk_lr_op xk_m_st (fun _ => xk_lr_ret))))))))))))))))))))))))))))))))))))))))))))))))))))))
  refine ⟨xk_hfm hm hτ hu, xk_Gm hm hτ ?_⟩
  have hm := xk_hmm hm hτ
  refine xk_putrF hX 113 xk_ty113 (Or.inr ⟨_, rfl⟩) q1350 rfl ⟨rfl, rfl, rfl⟩ dX3_init_45 h (fun σ10 hτ h => xk_Gt hτ ?_)
  have hm := xk_hme hm hτ
  have hu := xk_hue hu hτ
  refine gx_aload_n hX dX3_init_48 rfl ?_
  refine gx_bipush (v := nI 8) hX dX3_init_49 (by decide) ?_
  refine xk_newa (atype := .int) hX 0 ⟨by decide, rfl, by decide, rfl, fun _ => rfl⟩ q177 dX3_init_51 h (fun σ11 hτ h => ?_)
  have hu := xk_use (C := σ11) h (xk_lr_op xk_m_pr (fun _ => (xk_lr_op xk_m_na (fun _ => (xk_lr_op xk_m_pr (fun _ => (xk_lr_op xk_m_na (fun _ => (xk_lr_op xk_m_pr (fun _ => (xk_lr_op xk_m_na (fun _ => (xk_lr_op xk_m_pr (fun _ => (xk_lr_op xk_m_na (fun _ => (xk_lr_op xk_m_pr (fun _ => (xk_lr_op xk_m_na (fun _ => (xk_lr_op xk_m_pr (fun _ => (xk_lr_op xk_m_pi (fun _ => (xk_lr_op xk_m_pi (fun _ => (xk_lr_op xk_m_na (fun _ => (xk_lr_op xk_m_pr (fun _ => (xk_lr_op xk_m_na (fun _ => (xk_lr_op xk_m_pr (fun _ => (xk_lr_op xk_m_na (fun _ => (xk_lr_op xk_m_pr (fun _ => (xk_lr_op xk_m_na (fun _ => (xk_lr_op xk_m_pr (fun _ => (xk_lr_op xk_m_na (fun _ => (xk_lr_op xk_m_pr (fun _ => (xk_lr_rd (fun _ => (xk_lr_op xk_m_st (fun _ => xk_lr_ret))))))))))))))))))))))))))))))))))))))))))))))))))
  refine ⟨xk_hfm hm hτ hu, xk_Gm hm hτ ?_⟩
  have hm := xk_hmm hm hτ
  refine xk_putrF hX 114 xk_ty114 (Or.inr ⟨_, rfl⟩) q1351 rfl ⟨rfl, rfl, rfl⟩ dX3_init_53 h (fun σ12 hτ h => xk_Gt hτ ?_)
  have hm := xk_hme hm hτ
  have hu := xk_hue hu hτ
  refine gx_aload_n hX dX3_init_56 rfl ?_
  refine gx_sipush (v := nI 280) hX dX3_init_57 (by decide) ?_
  refine xk_newa (atype := .int) hX 0 ⟨by decide, rfl, by decide, rfl, fun _ => rfl⟩ q177 dX3_init_60 h (fun σ13 hτ h => ?_)
  have hu := xk_use (C := σ13) h (xk_lr_op xk_m_pr (fun _ => (xk_lr_op xk_m_na (fun _ => (xk_lr_op xk_m_pr (fun _ => (xk_lr_op xk_m_na (fun _ => (xk_lr_op xk_m_pr (fun _ => (xk_lr_op xk_m_na (fun _ => (xk_lr_op xk_m_pr (fun _ => (xk_lr_op xk_m_na (fun _ => (xk_lr_op xk_m_pr (fun _ => (xk_lr_op xk_m_pi (fun _ => (xk_lr_op xk_m_pi (fun _ => (xk_lr_op xk_m_na (fun _ => (xk_lr_op xk_m_pr (fun _ => (xk_lr_op xk_m_na (fun _ => (xk_lr_op xk_m_pr (fun _ => (xk_lr_op xk_m_na (fun _ => (xk_lr_op xk_m_pr (fun _ => (xk_lr_op xk_m_na (fun _ => (xk_lr_op xk_m_pr (fun _ => (xk_lr_op xk_m_na (fun _ => (xk_lr_op xk_m_pr (fun _ => (xk_lr_rd (fun _ => (xk_lr_op xk_m_st (fun _ => xk_lr_ret))))))))))))))))))))))))))))))))))))))))))))))
  refine ⟨xk_hfm hm hτ hu, xk_Gm hm hτ ?_⟩
  have hm := xk_hmm hm hτ
  refine xk_putrF hX 115 xk_ty115 (Or.inr ⟨_, rfl⟩) q1352 rfl ⟨rfl, rfl, rfl⟩ dX3_init_62 h (fun σ14 hτ h => xk_Gt hτ ?_)
  have hm := xk_hme hm hτ
  have hu := xk_hue hu hτ
  refine gx_aload_n hX dX3_init_65 rfl ?_
  refine gx_iconst (v := 5) hX dX3_init_66 (by decide) ?_
  refine xk_newa (atype := .int) hX 0 ⟨by decide, rfl, by decide, rfl, fun _ => rfl⟩ q177 dX3_init_67 h (fun σ15 hτ h => ?_)
  have hu := xk_use (C := σ15) h (xk_lr_op xk_m_pr (fun _ => (xk_lr_op xk_m_na (fun _ => (xk_lr_op xk_m_pr (fun _ => (xk_lr_op xk_m_na (fun _ => (xk_lr_op xk_m_pr (fun _ => (xk_lr_op xk_m_na (fun _ => (xk_lr_op xk_m_pr (fun _ => (xk_lr_op xk_m_pi (fun _ => (xk_lr_op xk_m_pi (fun _ => (xk_lr_op xk_m_na (fun _ => (xk_lr_op xk_m_pr (fun _ => (xk_lr_op xk_m_na (fun _ => (xk_lr_op xk_m_pr (fun _ => (xk_lr_op xk_m_na (fun _ => (xk_lr_op xk_m_pr (fun _ => (xk_lr_op xk_m_na (fun _ => (xk_lr_op xk_m_pr (fun _ => (xk_lr_op xk_m_na (fun _ => (xk_lr_op xk_m_pr (fun _ => (xk_lr_rd (fun _ => (xk_lr_op xk_m_st (fun _ => xk_lr_ret))))))))))))))))))))))))))))))))))))))))))
  refine ⟨xk_hfm hm hτ hu, xk_Gm hm hτ ?_⟩
  have hm := xk_hmm hm hτ
  refine xk_putrF hX 120 xk_ty120 (Or.inr ⟨_, rfl⟩) q1357 rfl ⟨rfl, rfl, rfl⟩ dX3_init_69 h (fun σ16 hτ h => xk_Gt hτ ?_)
  have hm := xk_hme hm hτ
  have hu := xk_hue hu hτ
  refine gx_aload_n hX dX3_init_72 rfl ?_
  refine gx_sipush (v := nI 1120) hX dX3_init_73 (by decide) ?_
  refine xk_newa (atype := .int) hX 0 ⟨by decide, rfl, by decide, rfl, fun _ => rfl⟩ q177 dX3_init_76 h (fun σ17 hτ h => ?_)
  have hu := xk_use (C := σ17) h (xk_lr_op xk_m_pr (fun _ => (xk_lr_op xk_m_na (fun _ => (xk_lr_op xk_m_pr (fun _ => (xk_lr_op xk_m_na (fun _ => (xk_lr_op xk_m_pr (fun _ => (xk_lr_op xk_m_pi (fun _ => (xk_lr_op xk_m_pi (fun _ => (xk_lr_op xk_m_na (fun _ => (xk_lr_op xk_m_pr (fun _ => (xk_lr_op xk_m_na (fun _ => (xk_lr_op xk_m_pr (fun _ => (xk_lr_op xk_m_na (fun _ => (xk_lr_op xk_m_pr (fun _ => (xk_lr_op xk_m_na (fun _ => (xk_lr_op xk_m_pr (fun _ => (xk_lr_op xk_m_na (fun _ => (xk_lr_op xk_m_pr (fun _ => (xk_lr_rd (fun _ => (xk_lr_op xk_m_st (fun _ => xk_lr_ret))))))))))))))))))))))))))))))))))))))
  refine ⟨xk_hfm hm hτ hu, xk_Gm hm hτ ?_⟩
  have hm := xk_hmm hm hτ
  refine xk_putrF hX 121 xk_ty121 (Or.inr ⟨_, rfl⟩) q1358 rfl ⟨rfl, rfl, rfl⟩ dX3_init_78 h (fun σ18 hτ h => xk_Gt hτ ?_)
  have hm := xk_hme hm hτ
  have hu := xk_hue hu hτ
  refine gx_aload_n hX dX3_init_81 rfl ?_
  refine gx_bipush (v := nI 8) hX dX3_init_82 (by decide) ?_
  refine xk_newa (atype := .int) hX 0 ⟨by decide, rfl, by decide, rfl, fun _ => rfl⟩ q177 dX3_init_84 h (fun σ19 hτ h => ?_)
  have hu := xk_use (C := σ19) h (xk_lr_op xk_m_pr (fun _ => (xk_lr_op xk_m_na (fun _ => (xk_lr_op xk_m_pr (fun _ => (xk_lr_op xk_m_pi (fun _ => (xk_lr_op xk_m_pi (fun _ => (xk_lr_op xk_m_na (fun _ => (xk_lr_op xk_m_pr (fun _ => (xk_lr_op xk_m_na (fun _ => (xk_lr_op xk_m_pr (fun _ => (xk_lr_op xk_m_na (fun _ => (xk_lr_op xk_m_pr (fun _ => (xk_lr_op xk_m_na (fun _ => (xk_lr_op xk_m_pr (fun _ => (xk_lr_op xk_m_na (fun _ => (xk_lr_op xk_m_pr (fun _ => (xk_lr_rd (fun _ => (xk_lr_op xk_m_st (fun _ => xk_lr_ret))))))))))))))))))))))))))))))))))
  refine ⟨xk_hfm hm hτ hu, xk_Gm hm hτ ?_⟩
  have hm := xk_hmm hm hτ
  refine xk_putrF hX 122 xk_ty122 (Or.inr ⟨_, rfl⟩) q1359 rfl ⟨rfl, rfl, rfl⟩ dX3_init_86 h (fun σ20 hτ h => xk_Gt hτ ?_)
  have hm := xk_hme hm hτ
  have hu := xk_hue hu hτ
  refine gx_aload_n hX dX3_init_89 rfl ?_
  refine gx_bipush (v := nI 64) hX dX3_init_90 (by decide) ?_
  refine xk_newa (atype := .boolean) hX 3 ⟨by decide, rfl, by decide, rfl, fun _ => rfl⟩ q1459 dX3_init_92 h (fun σ21 hτ h => ?_)
  have hu := xk_use (C := σ21) h (xk_lr_op xk_m_pr (fun _ => (xk_lr_op xk_m_pi (fun _ => (xk_lr_op xk_m_pi (fun _ => (xk_lr_op xk_m_na (fun _ => (xk_lr_op xk_m_pr (fun _ => (xk_lr_op xk_m_na (fun _ => (xk_lr_op xk_m_pr (fun _ => (xk_lr_op xk_m_na (fun _ => (xk_lr_op xk_m_pr (fun _ => (xk_lr_op xk_m_na (fun _ => (xk_lr_op xk_m_pr (fun _ => (xk_lr_op xk_m_na (fun _ => (xk_lr_op xk_m_pr (fun _ => (xk_lr_rd (fun _ => (xk_lr_op xk_m_st (fun _ => xk_lr_ret))))))))))))))))))))))))))))))
  refine ⟨xk_hfm hm hτ hu, xk_Gm hm hτ ?_⟩
  have hm := xk_hmm hm hτ
  refine xk_putrF hX 123 xk_ty123 (Or.inr ⟨_, rfl⟩) q1360 rfl ⟨rfl, rfl, rfl⟩ dX3_init_94 h (fun σ22 hτ h => xk_Gt hτ ?_)
  have hm := xk_hme hm hτ
  have hu := xk_hue hu hτ
  refine gx_aload_n hX dX3_init_97 rfl ?_
  refine gx_iconst (v := (-1)) hX dX3_init_98 (by decide) ?_
  refine xk_puti hX 124 xk_ty124 rfl q1361 (fun _ h => h) rfl rfl dX3_init_99 h (fun σ23 hτ h => xk_Gt hτ ?_)
  have hm := xk_hme hm hτ
  have hu := xk_hue hu hτ
  refine gx_aload_n hX dX3_init_102 rfl ?_
  refine gx_iconst (v := (-1)) hX dX3_init_103 (by decide) ?_
  refine xk_puti hX 126 xk_ty126 rfl q1363 (fun _ h => h) rfl rfl dX3_init_104 h (fun σ24 hτ h => xk_Gt hτ ?_)
  have hm := xk_hme hm hτ
  have hu := xk_hue hu hτ
  refine gx_aload_n hX dX3_init_107 rfl ?_
  refine gx_bipush (v := nI 12) hX dX3_init_108 (by decide) ?_
  refine xk_newa (atype := .int) hX 0 ⟨by decide, rfl, by decide, rfl, fun _ => rfl⟩ q177 dX3_init_110 h (fun σ25 hτ h => ?_)
  have hu := xk_use (C := σ25) h (xk_lr_op xk_m_pr (fun _ => (xk_lr_op xk_m_na (fun _ => (xk_lr_op xk_m_pr (fun _ => (xk_lr_op xk_m_na (fun _ => (xk_lr_op xk_m_pr (fun _ => (xk_lr_op xk_m_na (fun _ => (xk_lr_op xk_m_pr (fun _ => (xk_lr_op xk_m_na (fun _ => (xk_lr_op xk_m_pr (fun _ => (xk_lr_rd (fun _ => (xk_lr_op xk_m_st (fun _ => xk_lr_ret))))))))))))))))))))))
  refine ⟨xk_hfm hm hτ hu, xk_Gm hm hτ ?_⟩
  have hm := xk_hmm hm hτ
  refine xk_putrF hX 127 xk_ty127 (Or.inr ⟨_, rfl⟩) q1364 rfl ⟨rfl, rfl, rfl⟩ dX3_init_112 h (fun σ26 hτ h => xk_Gt hτ ?_)
  have hm := xk_hme hm hτ
  have hu := xk_hue hu hτ
  refine gx_aload_n hX dX3_init_115 rfl ?_
  refine gx_bipush (v := nI 6) hX dX3_init_116 (by decide) ?_
  refine xk_newa (atype := .int) hX 0 ⟨by decide, rfl, by decide, rfl, fun _ => rfl⟩ q177 dX3_init_118 h (fun σ27 hτ h => ?_)
  have hu := xk_use (C := σ27) h (xk_lr_op xk_m_pr (fun _ => (xk_lr_op xk_m_na (fun _ => (xk_lr_op xk_m_pr (fun _ => (xk_lr_op xk_m_na (fun _ => (xk_lr_op xk_m_pr (fun _ => (xk_lr_op xk_m_na (fun _ => (xk_lr_op xk_m_pr (fun _ => (xk_lr_rd (fun _ => (xk_lr_op xk_m_st (fun _ => xk_lr_ret))))))))))))))))))
  refine ⟨xk_hfm hm hτ hu, xk_Gm hm hτ ?_⟩
  have hm := xk_hmm hm hτ
  refine xk_putrF hX 131 xk_ty131 (Or.inr ⟨_, rfl⟩) q1368 rfl ⟨rfl, rfl, rfl⟩ dX3_init_120 h (fun σ28 hτ h => xk_Gt hτ ?_)
  have hm := xk_hme hm hτ
  have hu := xk_hue hu hτ
  refine gx_aload_n hX dX3_init_123 rfl ?_
  refine gx_bipush (v := nI 6) hX dX3_init_124 (by decide) ?_
  refine xk_newa (atype := .int) hX 0 ⟨by decide, rfl, by decide, rfl, fun _ => rfl⟩ q177 dX3_init_126 h (fun σ29 hτ h => ?_)
  have hu := xk_use (C := σ29) h (xk_lr_op xk_m_pr (fun _ => (xk_lr_op xk_m_na (fun _ => (xk_lr_op xk_m_pr (fun _ => (xk_lr_op xk_m_na (fun _ => (xk_lr_op xk_m_pr (fun _ => (xk_lr_rd (fun _ => (xk_lr_op xk_m_st (fun _ => xk_lr_ret))))))))))))))
  refine ⟨xk_hfm hm hτ hu, xk_Gm hm hτ ?_⟩
  have hm := xk_hmm hm hτ
  refine xk_putrF hX 132 xk_ty132 (Or.inr ⟨_, rfl⟩) q1369 rfl ⟨rfl, rfl, rfl⟩ dX3_init_128 h (fun σ30 hτ h => xk_Gt hτ ?_)
  have hm := xk_hme hm hτ
  have hu := xk_hue hu hτ
  refine gx_aload_n hX dX3_init_131 rfl ?_
  refine gx_bipush (v := nI 6) hX dX3_init_132 (by decide) ?_
  refine xk_newa (atype := .int) hX 0 ⟨by decide, rfl, by decide, rfl, fun _ => rfl⟩ q177 dX3_init_134 h (fun σ31 hτ h => ?_)
  have hu := xk_use (C := σ31) h (xk_lr_op xk_m_pr (fun _ => (xk_lr_op xk_m_na (fun _ => (xk_lr_op xk_m_pr (fun _ => (xk_lr_rd (fun _ => (xk_lr_op xk_m_st (fun _ => xk_lr_ret))))))))))
  refine ⟨xk_hfm hm hτ hu, xk_Gm hm hτ ?_⟩
  have hm := xk_hmm hm hτ
  refine xk_putrF hX 133 xk_ty133 (Or.inr ⟨_, rfl⟩) q1370 rfl ⟨rfl, rfl, rfl⟩ dX3_init_136 h (fun σ32 hτ h => xk_Gt hτ ?_)
  have hm := xk_hme hm hτ
  have hu := xk_hue hu hτ
  refine gx_aload_n hX dX3_init_139 rfl ?_
  refine gx_bipush (v := nI 20) hX dX3_init_140 (by decide) ?_
  refine xk_newa (atype := .int) hX 0 ⟨by decide, rfl, by decide, rfl, fun _ => rfl⟩ q177 dX3_init_142 h (fun σ33 hτ h => ?_)
  have hu := xk_use (C := σ33) h (xk_lr_op xk_m_pr (fun _ => (xk_lr_rd (fun _ => (xk_lr_op xk_m_st (fun _ => xk_lr_ret))))))
  refine ⟨xk_hfm hm hτ hu, xk_Gm hm hτ ?_⟩
  have hm := xk_hmm hm hτ
  refine xk_putrF hX 138 xk_ty138 (Or.inr ⟨_, rfl⟩) q1375 rfl ⟨rfl, rfl, rfl⟩ dX3_init_144 h (fun σ34 hτ h => xk_Gt hτ ?_)
  have hm := xk_hme hm hτ
  have hu := xk_hue hu hτ
  refine gx_aload_n hX dX3_init_147 rfl ?_
  refine xk_getr hX 105 q1342 (fun _ h => h) rfl dX3_init_148 h (fun v35 h => ?_)
  refine gx_iconst (v := 3) hX dX3_init_151 (by decide) ?_
  refine gx_iconst (v := 1) hX dX3_init_152 (by decide) ?_
  refine xk_iastore hX dX3_init_153 h (fun σ36 hτ h => xk_Gt hτ ?_)
  have hm := xk_hme hm hτ
  have hu := xk_hue hu hτ
  cases h
  exact gx_vret hX rfl dX3_init_154 rfl ⟨rfl, rfl⟩ (fun _ h => h)
