set_option maxRecDepth 100000
abbrev iX3_isRowLess : gx_M := (RX3, "isRowLess", cX3_isRowLess, 2, some .boolean)
theorem dsX3_isRowLess : gx_ds yX3_isRowLess 0 := by decide +kernel
def fX3_isRowLess_L2 (N : Nat) (σ : gm_S)  : Nat → Int32 → Option (Int32)
  | 0, _ => none
  | k + 1, x1 => if (gs σ 30) ≤ x1 then some (0) else (gm_rd σ 28 (x1)).bind fun v1 => (gm_rd σ 29 (x1)).bind fun v2 => if v1 = v2 then (fX3_isRowLess_L2 N σ k) ((x1) + 1) else (gm_rd σ 28 (x1)).bind fun v3 => (gm_rd σ 29 (x1)).bind fun v4 => if (v4) ≤ v3 then some (0) else some (1)
set_option maxHeartbeats 4000000 in
theorem tX3_isRowLess_L2 {w : gw_W} {X : gx_X} {N : Nat} {σ : gm_S} {r : Int32} (hA : ∀ q, gm_A w q → gx_A X q) (hX : gx_O (gw_I w (gx_A X)) X iX3_isRowLess 1 0 0 (gm_P w σ) (.returned (some (.int r))))  : ∀ (k : Nat) (x1 : Int32), fX3_isRowLess_L2 N σ k x1 = some r → gx_G X (gm_P w σ) 0 0 [some (va_rf (some (gw_mo w))), some (.int (x1))] 2 [] := by
  intro k
  induction k with
  | zero =>
    intro x1 h
    unfold fX3_isRowLess_L2 at h
    cases h
  | succ k ih =>
    intro x1 h
    unfold fX3_isRowLess_L2 at h
    refine gx_iload_n hX dX3_isRowLess_2 rfl ?_
    refine gx_aload_n hX dX3_isRowLess_3 rfl ?_
    refine gm_getI hX 30 (by decide) rfl q1371 rfl dX3_isRowLess_4 ?_
    refine gx_icmp_ge (tgt := 52) hX dX3_isRowLess_7 (by decide) h (fun h => ?_) (fun h => ?_)
    · refine gx_iconst (v := 0) hX dX3_isRowLess_52 (by decide) ?_
      cases h
      exact gx_zret hX rfl rfl dX3_isRowLess_53 rfl ⟨rfl, rfl⟩ (fun _ h => h)
    · refine gx_aload_n hX dX3_isRowLess_10 rfl ?_
      refine gm_getA hX 28 (by decide) (by decide) q1369 rfl dX3_isRowLess_11 ?_
      refine gx_iload_n hX dX3_isRowLess_14 rfl ?_
      refine gm_ld hX (by decide) dX3_isRowLess_15 h (fun v1 h => ?_)
      refine gx_aload_n hX dX3_isRowLess_16 rfl ?_
      refine gm_getA hX 29 (by decide) (by decide) q1370 rfl dX3_isRowLess_17 ?_
      refine gx_iload_n hX dX3_isRowLess_20 rfl ?_
      refine gm_ld hX (by decide) dX3_isRowLess_21 h (fun v2 h => ?_)
      refine gx_icmp_eq (tgt := 46) hX dX3_isRowLess_22 (by decide) h (fun h => ?_) (fun h => ?_)
      · refine gx_iinc (v := 1) hX dX3_isRowLess_46 rfl (by decide) gx_c1r (lv' := [some (va_rf (some (gw_mo w))), some (.int ((x1) + 1))]) rfl ?_
        refine gx_goto (tgt := 2) hX dX3_isRowLess_49 (by decide) ?_
        exact ih _ h
      · refine gx_aload_n hX dX3_isRowLess_25 rfl ?_
        refine gm_getA hX 28 (by decide) (by decide) q1369 rfl dX3_isRowLess_26 ?_
        refine gx_iload_n hX dX3_isRowLess_29 rfl ?_
        refine gm_ld hX (by decide) dX3_isRowLess_30 h (fun v3 h => ?_)
        refine gx_aload_n hX dX3_isRowLess_31 rfl ?_
        refine gm_getA hX 29 (by decide) (by decide) q1370 rfl dX3_isRowLess_32 ?_
        refine gx_iload_n hX dX3_isRowLess_35 rfl ?_
        refine gm_ld hX (by decide) dX3_isRowLess_36 h (fun v4 h => ?_)
        refine gx_icmp_ge (tgt := 44) hX dX3_isRowLess_37 (by decide) h (fun h => ?_) (fun h => ?_)
        · refine gx_iconst (v := 0) hX dX3_isRowLess_44 (by decide) ?_
          cases h
          exact gx_zret hX rfl rfl dX3_isRowLess_45 rfl ⟨rfl, rfl⟩ (fun _ h => h)
        · refine gx_iconst (v := 1) hX dX3_isRowLess_40 (by decide) ?_
          refine gx_goto (tgt := 45) hX dX3_isRowLess_41 (by decide) ?_
          cases h
          exact gx_zret hX rfl rfl dX3_isRowLess_45 rfl ⟨rfl, rfl⟩ (fun _ h => h)
def fX3_isRowLess (N : Nat) (σ : gm_S)  : Option (Int32) := fX3_isRowLess_L2 N σ N (0)
set_option maxHeartbeats 4000000 in
theorem tX3_isRowLess (w : gw_W) (A : Nat → Prop) (hA : ∀ q, gm_A w q → A q) (l : Launch) (N : Nat) (σ : gm_S)  {r : Int32} (h : fX3_isRowLess N σ = some r) : gx_T (gw_I w A) A l yX3_isRowLess iX3_isRowLess 1 [va_rf (some (gw_mo w))] (gm_P w σ) 0 0 (gm_P w σ) (.returned (some (.int r))) := by
  refine gx_T.of (gw_I.inv w A) (by decide) ⟨rfl, rfl⟩ (gx_kR gx_k0) (Nat.le_of_ble_eq_true rfl) (fun X hl hAx hX => ?_)
  subst hl
  subst hAx
  show gx_G X (gm_P w σ) 0 0 [some (va_rf (some (gw_mo w))), none] 0 []
  unfold fX3_isRowLess at h
  refine gx_iconst (v := 0) hX dX3_isRowLess_0 (by decide) ?_
  refine gx_istore_n hX dX3_isRowLess_1 (Nat.le_of_ble_eq_true rfl) gx_c1r (lv' := [some (va_rf (some (gw_mo w))), some (.int (0))]) rfl ?_
  exact tX3_isRowLess_L2 hA hX  N _ h
abbrev iX3_looksAt : gx_M := (RX3, "looksAt", cX3_looksAt, 7, none)
theorem dsX3_looksAt : gx_ds yX3_looksAt 0 := by decide +kernel
def fX3_looksAt_L211 (N : Nat)   : Nat → gm_S → Int32 → Option (gm_S)
  | 0, _, _ => none
  | k + 1, σ, x3 => if (gs σ 30) ≤ x3 then some σ else (gm_rd σ 28 (x3)).bind fun v4 => (gm_wr σ 29 (x3) (v4)).bind fun σ5 => (fX3_looksAt_L211 N k) σ5 ((x3) + 1)
set_option maxHeartbeats 4000000 in
theorem tX3_looksAt_L211 {w : gw_W} {X : gx_X} {N : Nat} {r : gm_S} (hA : ∀ q, gm_A w q → gx_A X q) (hX : gx_O (gw_I w (gx_A X)) X iX3_looksAt 3 0 0 (gm_P w r) (.returned (none)))  : ∀ (k : Nat) (σ : gm_S) (x3 : Int32), fX3_looksAt_L211 N k σ x3 = some r → gx_G X (gm_P w σ) 0 0 [some (va_rf (some (gw_mo w))), none, none, some (.int (x3)), none, none, none] 211 [] := by
  intro k
  induction k with
  | zero =>
    intro σ x3 h
    unfold fX3_looksAt_L211 at h
    cases h
  | succ k ih =>
    intro σ x3 h
    unfold fX3_looksAt_L211 at h
    refine gx_iload_n hX dX3_looksAt_211 rfl ?_
    refine gx_aload_n hX dX3_looksAt_212 rfl ?_
    refine gm_getI hX 30 (by decide) rfl q1371 rfl dX3_looksAt_213 ?_
    refine gx_icmp_ge (tgt := 237) hX dX3_looksAt_216 (by decide) h (fun h => ?_) (fun h => ?_)
    · cases h
      exact gx_vret hX rfl dX3_looksAt_237 rfl ⟨rfl, rfl⟩ (fun _ h => h)
    · refine gx_aload_n hX dX3_looksAt_219 rfl ?_
      refine gm_getA hX 29 (by decide) (by decide) q1370 rfl dX3_looksAt_220 ?_
      refine gx_iload_n hX dX3_looksAt_223 rfl ?_
      refine gx_aload_n hX dX3_looksAt_224 rfl ?_
      refine gm_getA hX 28 (by decide) (by decide) q1369 rfl dX3_looksAt_225 ?_
      refine gx_iload_n hX dX3_looksAt_228 rfl ?_
      refine gm_ld hX (by decide) dX3_looksAt_229 h (fun v4 h => ?_)
      refine gm_st hX hA (by decide) dX3_looksAt_230 h (fun σ5 h => ?_)
      refine gx_iinc (v := 1) hX dX3_looksAt_231 rfl (by decide) gx_c1n (lv' := [some (va_rf (some (gw_mo w))), none, none, some (.int ((x3) + 1)), none, none, none]) rfl ?_
      refine gx_goto (tgt := 211) hX dX3_looksAt_234 (by decide) ?_
      exact ih _ _ h
def fX3_looksAt_B199 (N : Nat)   (σ : gm_S) (x1 : Int32) : Option (gm_S) := (gm_pz σ 32 (1)).bind fun σ2 => (gm_pt σ2 31 (x1)).bind fun σ3 => fX3_looksAt_L211 N N σ3 (0)
set_option maxHeartbeats 4000000 in
theorem tX3_looksAt_B199 {w : gw_W} {X : gx_X} {N : Nat} {r : gm_S} (hA : ∀ q, gm_A w q → gx_A X q) (hX : gx_O (gw_I w (gx_A X)) X iX3_looksAt 3 0 0 (gm_P w r) (.returned (none)))  {σ : gm_S} {x1 : Int32} (h : fX3_looksAt_B199 N σ x1 = some r) : gx_G X (gm_P w σ) 0 0 [some (va_rf (some (gw_mo w))), some (.int (x1)), none, none, none, none, none] 199 [] := by
  unfold fX3_looksAt_B199 at h
  refine gx_aload_n hX dX3_looksAt_199 rfl ?_
  refine gx_iconst (v := 1) hX dX3_looksAt_200 (by decide) ?_
  refine gm_putZ hX hA (k := 32) ⟨by decide, rfl⟩ q1373 ⟨rfl, rfl⟩ rfl dX3_looksAt_201 h (fun σ2 h => ?_)
  refine gx_aload_n hX dX3_looksAt_204 rfl ?_
  refine gx_iload_n hX dX3_looksAt_205 rfl ?_
  refine gm_putI hX hA (k := 31) ⟨by decide, rfl⟩ q1372 ⟨rfl, rfl⟩ rfl dX3_looksAt_206 h (fun σ3 h => ?_)
  refine gx_iconst (v := 0) hX dX3_looksAt_209 (by decide) ?_
  refine gx_istore_n hX dX3_looksAt_210 (Nat.le_of_ble_eq_true rfl) gx_c1n (lv' := [some (va_rf (some (gw_mo w))), some (.int (x1)), none, some (.int (0)), none, none, none]) rfl ?_
  refine gx_sub hX (lv' := [some (va_rf (some (gw_mo w))), none, none, some (.int (0)), none, none, none]) ⟨Or.inr rfl, ⟨Or.inl rfl, ⟨Or.inr rfl, ⟨Or.inr rfl, ⟨Or.inr rfl, ⟨Or.inr rfl, ⟨Or.inr rfl, trivial⟩⟩⟩⟩⟩⟩⟩ ?_
  exact tX3_looksAt_L211 hA hX  N _ _ h
def fX3_looksAt_B165 (N : Nat)   (σ : gm_S) (x1 : Int32) (y0 : Int32) (y1 : Int32) : Option (gm_S) := (gm_pt σ 33 ((y1) + (y0))).bind fun σ1 => if gs σ1 32 = 0 then fX3_looksAt_B199 N σ1 (x1) else if (gs σ1 31) < x1 then fX3_looksAt_B199 N σ1 (x1) else if x1 = gs σ1 31 then (fX3_isRowLess N (σ1)).bind fun r6 => if r6 = 0 then some σ1 else fX3_looksAt_B199 N σ1 (x1) else some σ1
set_option maxHeartbeats 4000000 in
theorem tX3_looksAt_B165 {w : gw_W} {X : gx_X} {N : Nat} {r : gm_S} (hA : ∀ q, gm_A w q → gx_A X q) (hX : gx_O (gw_I w (gx_A X)) X iX3_looksAt 3 0 0 (gm_P w r) (.returned (none)))  {σ : gm_S} {x1 : Int32} {y0 : Int32} {y1 : Int32} (h : fX3_looksAt_B165 N σ x1 y0 y1 = some r) : gx_G X (gm_P w σ) 0 0 [some (va_rf (some (gw_mo w))), some (.int (x1)), none, none, none, none, none] 165 [.int (y0), .int (y1), va_rf (some (gw_mo w))] := by
  unfold fX3_looksAt_B165 at h
  refine gx_iadd hX dX3_looksAt_165 ?_
  refine gm_putI hX hA (k := 33) ⟨by decide, rfl⟩ q1374 ⟨rfl, rfl⟩ rfl dX3_looksAt_166 h (fun σ1 h => ?_)
  refine gx_aload_n hX dX3_looksAt_169 rfl ?_
  refine gm_getI hX 32 (by decide) rfl q1373 rfl dX3_looksAt_170 ?_
  refine gx_if_eq (tgt := 199) hX dX3_looksAt_173 (by decide) h (fun h => ?_) (fun h => ?_)
  · exact tX3_looksAt_B199 hA hX  h
  · refine gx_iload_n hX dX3_looksAt_176 rfl ?_
    refine gx_aload_n hX dX3_looksAt_177 rfl ?_
    refine gm_getI hX 31 (by decide) rfl q1372 rfl dX3_looksAt_178 ?_
    refine gx_icmp_gt (tgt := 199) hX dX3_looksAt_181 (by decide) h (fun h => ?_) (fun h => ?_)
    · exact tX3_looksAt_B199 hA hX  h
    · refine gx_iload_n hX dX3_looksAt_184 rfl ?_
      refine gx_aload_n hX dX3_looksAt_185 rfl ?_
      refine gm_getI hX 31 (by decide) rfl q1372 rfl dX3_looksAt_186 ?_
      refine gx_icmp_ne (tgt := 237) hX dX3_looksAt_189 (by decide) h (fun h => ?_) (fun h => ?_)
      · refine gx_aload_n hX dX3_looksAt_192 rfl ?_
        obtain ⟨r6, hr6, h⟩ := gx_bs h
        refine gx_cV (As := []) (rest := []) (b := gw_mo w) hX (tX3_isRowLess w _ hA (gx_l X) N (σ1)  hr6) (lw_V q1763 q1765 qs72 q92 q1766) ⟨rfl, dsX3_isRowLess⟩ (by decide) (by decide) (gm_rc hX) rfl (gx_w8 gx_k0 (Nat.le_of_ble_eq_true rfl)) dX3_looksAt_193 ⟨Nat.le_refl _, Nat.le_refl _⟩ rfl ?_
        refine gx_if_eq (tgt := 237) hX dX3_looksAt_196 (by decide) h (fun h => ?_) (fun h => ?_)
        · cases h
          exact gx_vret hX rfl dX3_looksAt_237 rfl ⟨rfl, rfl⟩ (fun _ h => h)
        · exact tX3_looksAt_B199 hA hX  h
      · cases h
        exact gx_vret hX rfl dX3_looksAt_237 rfl ⟨rfl, rfl⟩ (fun _ h => h)
def fX3_looksAt_B138 (N : Nat)  (K6 : gm_S → Int32 → Int32 → Int32 → Option (gm_S)) (K49 : gm_S → Int32 → Int32 → Int32 → Int32 → Int32 → Option (gm_S)) (σ : gm_S) (x1 : Int32) (x3 : Int32) (x4 : Int32) (x5 : Int32) (y0 : Int32) : Option (gm_S) := K49 σ (x1) (y0) (x3) (x4) ((x5) + 1)
set_option maxHeartbeats 4000000 in
theorem tX3_looksAt_B138 {w : gw_W} {X : gx_X} {N : Nat} {r : gm_S} (hA : ∀ q, gm_A w q → gx_A X q) (hX : gx_O (gw_I w (gx_A X)) X iX3_looksAt 3 0 0 (gm_P w r) (.returned (none))) {K6 : gm_S → Int32 → Int32 → Int32 → Option (gm_S)} {K49 : gm_S → Int32 → Int32 → Int32 → Int32 → Int32 → Option (gm_S)} (hK6 : ∀ (σ : gm_S) (x1 : Int32) (x2 : Int32) (x3 : Int32), K6 σ x1 x2 x3 = some r → gx_G X (gm_P w σ) 0 0 [some (va_rf (some (gw_mo w))), some (.int (x1)), some (.int (x2)), some (.int (x3)), none, none, none] 6 []) (hK49 : ∀ (σ : gm_S) (x1 : Int32) (x2 : Int32) (x3 : Int32) (x4 : Int32) (x5 : Int32), K49 σ x1 x2 x3 x4 x5 = some r → gx_G X (gm_P w σ) 0 0 [some (va_rf (some (gw_mo w))), some (.int (x1)), some (.int (x2)), some (.int (x3)), some (.int (x4)), some (.int (x5)), none] 49 []) {σ : gm_S} {x1 : Int32} {x3 : Int32} {x4 : Int32} {x5 : Int32} {y0 : Int32} (h : fX3_looksAt_B138 N K6 K49 σ x1 x3 x4 x5 y0 = some r) : gx_G X (gm_P w σ) 0 0 [some (va_rf (some (gw_mo w))), some (.int (x1)), none, some (.int (x3)), some (.int (x4)), some (.int (x5)), none] 138 [.int (y0)] := by
  unfold fX3_looksAt_B138 at h
  refine gx_istore_n hX dX3_looksAt_138 (Nat.le_of_ble_eq_true rfl) gx_c1i (lv' := [some (va_rf (some (gw_mo w))), some (.int (x1)), some (.int (y0)), some (.int (x3)), some (.int (x4)), some (.int (x5)), none]) rfl ?_
  refine gx_iinc (v := 1) hX dX3_looksAt_139 rfl (by decide) gx_c1i (lv' := [some (va_rf (some (gw_mo w))), some (.int (x1)), some (.int (y0)), some (.int (x3)), some (.int (x4)), some (.int ((x5) + 1)), none]) rfl ?_
  refine gx_goto (tgt := 49) hX dX3_looksAt_142 (by decide) ?_
  exact hK49 _ _ _ _ _ _ h
def fX3_looksAt_B137 (N : Nat)  (K6 : gm_S → Int32 → Int32 → Int32 → Option (gm_S)) (K49 : gm_S → Int32 → Int32 → Int32 → Int32 → Int32 → Option (gm_S)) (σ : gm_S) (x1 : Int32) (x3 : Int32) (x4 : Int32) (x5 : Int32) : Option (gm_S) := fX3_looksAt_B138 N K6 K49 σ (x1) (x3) (x4) (x5) (0)
set_option maxHeartbeats 4000000 in
theorem tX3_looksAt_B137 {w : gw_W} {X : gx_X} {N : Nat} {r : gm_S} (hA : ∀ q, gm_A w q → gx_A X q) (hX : gx_O (gw_I w (gx_A X)) X iX3_looksAt 3 0 0 (gm_P w r) (.returned (none))) {K6 : gm_S → Int32 → Int32 → Int32 → Option (gm_S)} {K49 : gm_S → Int32 → Int32 → Int32 → Int32 → Int32 → Option (gm_S)} (hK6 : ∀ (σ : gm_S) (x1 : Int32) (x2 : Int32) (x3 : Int32), K6 σ x1 x2 x3 = some r → gx_G X (gm_P w σ) 0 0 [some (va_rf (some (gw_mo w))), some (.int (x1)), some (.int (x2)), some (.int (x3)), none, none, none] 6 []) (hK49 : ∀ (σ : gm_S) (x1 : Int32) (x2 : Int32) (x3 : Int32) (x4 : Int32) (x5 : Int32), K49 σ x1 x2 x3 x4 x5 = some r → gx_G X (gm_P w σ) 0 0 [some (va_rf (some (gw_mo w))), some (.int (x1)), some (.int (x2)), some (.int (x3)), some (.int (x4)), some (.int (x5)), none] 49 []) {σ : gm_S} {x1 : Int32} {x3 : Int32} {x4 : Int32} {x5 : Int32} (h : fX3_looksAt_B137 N K6 K49 σ x1 x3 x4 x5 = some r) : gx_G X (gm_P w σ) 0 0 [some (va_rf (some (gw_mo w))), some (.int (x1)), none, some (.int (x3)), some (.int (x4)), some (.int (x5)), none] 137 [] := by
  unfold fX3_looksAt_B137 at h
  refine gx_iconst (v := 0) hX dX3_looksAt_137 (by decide) ?_
  exact tX3_looksAt_B138 hA hX hK6 hK49 h
def fX3_looksAt_B133 (N : Nat)  (K6 : gm_S → Int32 → Int32 → Int32 → Option (gm_S)) (K49 : gm_S → Int32 → Int32 → Int32 → Int32 → Int32 → Option (gm_S)) (σ : gm_S) (x1 : Int32) (x3 : Int32) (x4 : Int32) (x5 : Int32) : Option (gm_S) := fX3_looksAt_B138 N K6 K49 σ (x1) (x3) (x4) (x5) (1)
set_option maxHeartbeats 4000000 in
theorem tX3_looksAt_B133 {w : gw_W} {X : gx_X} {N : Nat} {r : gm_S} (hA : ∀ q, gm_A w q → gx_A X q) (hX : gx_O (gw_I w (gx_A X)) X iX3_looksAt 3 0 0 (gm_P w r) (.returned (none))) {K6 : gm_S → Int32 → Int32 → Int32 → Option (gm_S)} {K49 : gm_S → Int32 → Int32 → Int32 → Int32 → Int32 → Option (gm_S)} (hK6 : ∀ (σ : gm_S) (x1 : Int32) (x2 : Int32) (x3 : Int32), K6 σ x1 x2 x3 = some r → gx_G X (gm_P w σ) 0 0 [some (va_rf (some (gw_mo w))), some (.int (x1)), some (.int (x2)), some (.int (x3)), none, none, none] 6 []) (hK49 : ∀ (σ : gm_S) (x1 : Int32) (x2 : Int32) (x3 : Int32) (x4 : Int32) (x5 : Int32), K49 σ x1 x2 x3 x4 x5 = some r → gx_G X (gm_P w σ) 0 0 [some (va_rf (some (gw_mo w))), some (.int (x1)), some (.int (x2)), some (.int (x3)), some (.int (x4)), some (.int (x5)), none] 49 []) {σ : gm_S} {x1 : Int32} {x3 : Int32} {x4 : Int32} {x5 : Int32} (h : fX3_looksAt_B133 N K6 K49 σ x1 x3 x4 x5 = some r) : gx_G X (gm_P w σ) 0 0 [some (va_rf (some (gw_mo w))), some (.int (x1)), none, some (.int (x3)), some (.int (x4)), some (.int (x5)), none] 133 [] := by
  unfold fX3_looksAt_B133 at h
  refine gx_iconst (v := 1) hX dX3_looksAt_133 (by decide) ?_
  refine gx_goto (tgt := 138) hX dX3_looksAt_134 (by decide) ?_
  exact tX3_looksAt_B138 hA hX hK6 hK49 h
def fX3_looksAt_L49 (N : Nat)  (K6 : gm_S → Int32 → Int32 → Int32 → Option (gm_S)) : Nat → gm_S → Int32 → Int32 → Int32 → Int32 → Int32 → Option (gm_S)
  | 0, _, _, _, _, _, _ => none
  | k + 1, σ, x1, x2, x3, x4, x5 => if (x3) ≤ x5 then K6 σ (x1) (x2) ((x3) + 1) else (gm_rd σ 27 (x5)).bind fun v11 => (gm_rd σ 1 ((nI 130) + (v11))).bind fun v12 => if x2 = 0 then fX3_looksAt_B137 N K6 (fX3_looksAt_L49 N K6 k) σ (x1) (x3) (x4) (x5) else (gm_rd σ 28 (x5)).bind fun v13 => (fX3_fitFor (σ) (v13) (x4)).bind fun r14 => (gm_rd σ 28 (x3)).bind fun v15 => (fX3_fitFor (σ) (v15) (x4)).bind fun r16 => if (r14) ≤ r16 then fX3_looksAt_B133 N K6 (fX3_looksAt_L49 N K6 k) σ (x1) (x3) (x4) (x5) else (gm_rd σ 28 (x3)).bind fun v17 => (fX3_fitFor (σ) (v17) (v12)).bind fun r18 => (gm_rd σ 28 (x5)).bind fun v19 => (fX3_fitFor (σ) (v19) (v12)).bind fun r20 => if (r20) < r18 then fX3_looksAt_B137 N K6 (fX3_looksAt_L49 N K6 k) σ (x1) (x3) (x4) (x5) else fX3_looksAt_B133 N K6 (fX3_looksAt_L49 N K6 k) σ (x1) (x3) (x4) (x5)
set_option maxHeartbeats 4000000 in
theorem tX3_looksAt_L49 {w : gw_W} {X : gx_X} {N : Nat} {r : gm_S} (hA : ∀ q, gm_A w q → gx_A X q) (hX : gx_O (gw_I w (gx_A X)) X iX3_looksAt 3 0 0 (gm_P w r) (.returned (none))) {K6 : gm_S → Int32 → Int32 → Int32 → Option (gm_S)} (hK6 : ∀ (σ : gm_S) (x1 : Int32) (x2 : Int32) (x3 : Int32), K6 σ x1 x2 x3 = some r → gx_G X (gm_P w σ) 0 0 [some (va_rf (some (gw_mo w))), some (.int (x1)), some (.int (x2)), some (.int (x3)), none, none, none] 6 []) : ∀ (k : Nat) (σ : gm_S) (x1 : Int32) (x2 : Int32) (x3 : Int32) (x4 : Int32) (x5 : Int32), fX3_looksAt_L49 N K6 k σ x1 x2 x3 x4 x5 = some r → gx_G X (gm_P w σ) 0 0 [some (va_rf (some (gw_mo w))), some (.int (x1)), some (.int (x2)), some (.int (x3)), some (.int (x4)), some (.int (x5)), none] 49 [] := by
  intro k
  induction k with
  | zero =>
    intro σ x1 x2 x3 x4 x5 h
    unfold fX3_looksAt_L49 at h
    cases h
  | succ k ih =>
    intro σ x1 x2 x3 x4 x5 h
    unfold fX3_looksAt_L49 at h
    refine gx_iload hX dX3_looksAt_49 rfl ?_
    refine gx_iload_n hX dX3_looksAt_51 rfl ?_
    refine gx_icmp_ge (tgt := 145) hX dX3_looksAt_52 (by decide) h (fun h => ?_) (fun h => ?_)
    · refine gx_iinc (v := 1) hX dX3_looksAt_145 rfl (by decide) gx_c1i (lv' := [some (va_rf (some (gw_mo w))), some (.int (x1)), some (.int (x2)), some (.int ((x3) + 1)), some (.int (x4)), some (.int (x5)), none]) rfl ?_
      refine gx_goto (tgt := 6) hX dX3_looksAt_148 (by decide) ?_
      refine gx_sub hX (lv' := [some (va_rf (some (gw_mo w))), some (.int (x1)), some (.int (x2)), some (.int ((x3) + 1)), none, none, none]) ⟨Or.inr rfl, ⟨Or.inr rfl, ⟨Or.inr rfl, ⟨Or.inr rfl, ⟨Or.inl rfl, ⟨Or.inl rfl, ⟨Or.inr rfl, trivial⟩⟩⟩⟩⟩⟩⟩ ?_
      exact hK6 _ _ _ _ h
    · refine gx_aload_n hX dX3_looksAt_55 rfl ?_
      refine gm_getA hX 1 (by decide) (by decide) q1342 rfl dX3_looksAt_56 ?_
      refine gx_sipush (v := nI 130) hX dX3_looksAt_59 (by decide) ?_
      refine gx_aload_n hX dX3_looksAt_62 rfl ?_
      refine gm_getA hX 27 (by decide) (by decide) q1368 rfl dX3_looksAt_63 ?_
      refine gx_iload hX dX3_looksAt_66 rfl ?_
      refine gm_ld hX (by decide) dX3_looksAt_68 h (fun v11 h => ?_)
      refine gx_iadd hX dX3_looksAt_69 ?_
      refine gm_ld hX (by decide) dX3_looksAt_70 h (fun v12 h => ?_)
      refine gx_istore hX dX3_looksAt_71 (Nat.le_of_ble_eq_true rfl) gx_c1i (lv' := [some (va_rf (some (gw_mo w))), some (.int (x1)), some (.int (x2)), some (.int (x3)), some (.int (x4)), some (.int (x5)), some (.int (v12))]) rfl ?_
      refine gx_iload_n hX dX3_looksAt_73 rfl ?_
      refine gx_if_eq (tgt := 137) hX dX3_looksAt_74 (by decide) h (fun h => ?_) (fun h => ?_)
      · refine gx_sub hX (lv' := [some (va_rf (some (gw_mo w))), some (.int (x1)), none, some (.int (x3)), some (.int (x4)), some (.int (x5)), none]) ⟨Or.inr rfl, ⟨Or.inr rfl, ⟨Or.inl rfl, ⟨Or.inr rfl, ⟨Or.inr rfl, ⟨Or.inr rfl, ⟨Or.inl rfl, trivial⟩⟩⟩⟩⟩⟩⟩ ?_
        exact tX3_looksAt_B137 hA hX hK6 ih h
      · refine gx_aload_n hX dX3_looksAt_77 rfl ?_
        refine gx_aload_n hX dX3_looksAt_78 rfl ?_
        refine gm_getA hX 28 (by decide) (by decide) q1369 rfl dX3_looksAt_79 ?_
        refine gx_iload hX dX3_looksAt_82 rfl ?_
        refine gm_ld hX (by decide) dX3_looksAt_84 h (fun v13 h => ?_)
        refine gx_iload hX dX3_looksAt_85 rfl ?_
        obtain ⟨r14, hr14, h⟩ := gx_bs h
        refine gx_cV (As := [.int (v13), .int (x4)]) (rest := []) (b := gw_mo w) hX (tX3_fitFor w _ hA (gx_l X) (σ) (v13) (x4) hr14) (lw_V q1526 q1528 qs42 q92 q1529) ⟨rfl, dsX3_fitFor⟩ (by decide) (by decide) (gm_rc hX) rfl (gx_w8 gx_k0 (Nat.le_of_ble_eq_true rfl)) dX3_looksAt_87 ⟨Nat.le_refl _, Nat.le_refl _⟩ rfl ?_
        refine gx_aload_n hX dX3_looksAt_90 rfl ?_
        refine gx_aload_n hX dX3_looksAt_91 rfl ?_
        refine gm_getA hX 28 (by decide) (by decide) q1369 rfl dX3_looksAt_92 ?_
        refine gx_iload_n hX dX3_looksAt_95 rfl ?_
        refine gm_ld hX (by decide) dX3_looksAt_96 h (fun v15 h => ?_)
        refine gx_iload hX dX3_looksAt_97 rfl ?_
        obtain ⟨r16, hr16, h⟩ := gx_bs h
        refine gx_cV (As := [.int (v15), .int (x4)]) (rest := [.int (r14)]) (b := gw_mo w) hX (tX3_fitFor w _ hA (gx_l X) (σ) (v15) (x4) hr16) (lw_V q1526 q1528 qs42 q92 q1529) ⟨rfl, dsX3_fitFor⟩ (by decide) (by decide) (gm_rc hX) rfl (gx_w8 (gx_kI gx_k0) (Nat.le_of_ble_eq_true rfl)) dX3_looksAt_99 ⟨Nat.le_refl _, Nat.le_refl _⟩ rfl ?_
        refine gx_icmp_le (tgt := 133) hX dX3_looksAt_102 (by decide) h (fun h => ?_) (fun h => ?_)
        · refine gx_sub hX (lv' := [some (va_rf (some (gw_mo w))), some (.int (x1)), none, some (.int (x3)), some (.int (x4)), some (.int (x5)), none]) ⟨Or.inr rfl, ⟨Or.inr rfl, ⟨Or.inl rfl, ⟨Or.inr rfl, ⟨Or.inr rfl, ⟨Or.inr rfl, ⟨Or.inl rfl, trivial⟩⟩⟩⟩⟩⟩⟩ ?_
          exact tX3_looksAt_B133 hA hX hK6 ih h
        · refine gx_aload_n hX dX3_looksAt_105 rfl ?_
          refine gx_aload_n hX dX3_looksAt_106 rfl ?_
          refine gm_getA hX 28 (by decide) (by decide) q1369 rfl dX3_looksAt_107 ?_
          refine gx_iload_n hX dX3_looksAt_110 rfl ?_
          refine gm_ld hX (by decide) dX3_looksAt_111 h (fun v17 h => ?_)
          refine gx_iload hX dX3_looksAt_112 rfl ?_
          obtain ⟨r18, hr18, h⟩ := gx_bs h
          refine gx_cV (As := [.int (v17), .int (v12)]) (rest := []) (b := gw_mo w) hX (tX3_fitFor w _ hA (gx_l X) (σ) (v17) (v12) hr18) (lw_V q1526 q1528 qs42 q92 q1529) ⟨rfl, dsX3_fitFor⟩ (by decide) (by decide) (gm_rc hX) rfl (gx_w8 gx_k0 (Nat.le_of_ble_eq_true rfl)) dX3_looksAt_114 ⟨Nat.le_refl _, Nat.le_refl _⟩ rfl ?_
          refine gx_aload_n hX dX3_looksAt_117 rfl ?_
          refine gx_aload_n hX dX3_looksAt_118 rfl ?_
          refine gm_getA hX 28 (by decide) (by decide) q1369 rfl dX3_looksAt_119 ?_
          refine gx_iload hX dX3_looksAt_122 rfl ?_
          refine gm_ld hX (by decide) dX3_looksAt_124 h (fun v19 h => ?_)
          refine gx_iload hX dX3_looksAt_125 rfl ?_
          obtain ⟨r20, hr20, h⟩ := gx_bs h
          refine gx_cV (As := [.int (v19), .int (v12)]) (rest := [.int (r18)]) (b := gw_mo w) hX (tX3_fitFor w _ hA (gx_l X) (σ) (v19) (v12) hr20) (lw_V q1526 q1528 qs42 q92 q1529) ⟨rfl, dsX3_fitFor⟩ (by decide) (by decide) (gm_rc hX) rfl (gx_w8 (gx_kI gx_k0) (Nat.le_of_ble_eq_true rfl)) dX3_looksAt_127 ⟨Nat.le_refl _, Nat.le_refl _⟩ rfl ?_
          refine gx_icmp_gt (tgt := 137) hX dX3_looksAt_130 (by decide) h (fun h => ?_) (fun h => ?_)
          · refine gx_sub hX (lv' := [some (va_rf (some (gw_mo w))), some (.int (x1)), none, some (.int (x3)), some (.int (x4)), some (.int (x5)), none]) ⟨Or.inr rfl, ⟨Or.inr rfl, ⟨Or.inl rfl, ⟨Or.inr rfl, ⟨Or.inr rfl, ⟨Or.inr rfl, ⟨Or.inl rfl, trivial⟩⟩⟩⟩⟩⟩⟩ ?_
            exact tX3_looksAt_B137 hA hX hK6 ih h
          · refine gx_sub hX (lv' := [some (va_rf (some (gw_mo w))), some (.int (x1)), none, some (.int (x3)), some (.int (x4)), some (.int (x5)), none]) ⟨Or.inr rfl, ⟨Or.inr rfl, ⟨Or.inl rfl, ⟨Or.inr rfl, ⟨Or.inr rfl, ⟨Or.inr rfl, ⟨Or.inl rfl, trivial⟩⟩⟩⟩⟩⟩⟩ ?_
            exact tX3_looksAt_B133 hA hX hK6 ih h
def fX3_looksAt_L6 (N : Nat)   : Nat → gm_S → Int32 → Int32 → Int32 → Option (gm_S)
  | 0, _, _, _, _ => none
  | k + 1, σ, x1, x2, x3 => if (gs σ 30) ≤ x3 then if x2 = 0 then fX3_looksAt_B165 N σ (x1) (0) (gs σ 33) else fX3_looksAt_B165 N σ (x1) (1) (gs σ 33) else (gm_rd σ 27 (x3)).bind fun v7 => (gm_rd σ 1 ((nI 130) + (v7))).bind fun v8 => (gm_rd σ 28 (x3)).bind fun v9 => (fX3_fitFor (σ) (v9) (v8)).bind fun r10 => fX3_looksAt_L49 N (fX3_looksAt_L6 N k) N σ ((x1) + (r10)) (x2) (x3) (v8) (0)
set_option maxHeartbeats 4000000 in
theorem tX3_looksAt_L6 {w : gw_W} {X : gx_X} {N : Nat} {r : gm_S} (hA : ∀ q, gm_A w q → gx_A X q) (hX : gx_O (gw_I w (gx_A X)) X iX3_looksAt 3 0 0 (gm_P w r) (.returned (none)))  : ∀ (k : Nat) (σ : gm_S) (x1 : Int32) (x2 : Int32) (x3 : Int32), fX3_looksAt_L6 N k σ x1 x2 x3 = some r → gx_G X (gm_P w σ) 0 0 [some (va_rf (some (gw_mo w))), some (.int (x1)), some (.int (x2)), some (.int (x3)), none, none, none] 6 [] := by
  intro k
  induction k with
  | zero =>
    intro σ x1 x2 x3 h
    unfold fX3_looksAt_L6 at h
    cases h
  | succ k ih =>
    intro σ x1 x2 x3 h
    unfold fX3_looksAt_L6 at h
    refine gx_iload_n hX dX3_looksAt_6 rfl ?_
    refine gx_aload_n hX dX3_looksAt_7 rfl ?_
    refine gm_getI hX 30 (by decide) rfl q1371 rfl dX3_looksAt_8 ?_
    refine gx_icmp_ge (tgt := 151) hX dX3_looksAt_11 (by decide) h (fun h => ?_) (fun h => ?_)
    · refine gx_aload_n hX dX3_looksAt_151 rfl ?_
      refine gx_dup hX dX3_looksAt_152 (gx_cat _) ?_
      refine gm_getI hX 33 (by decide) rfl q1374 rfl dX3_looksAt_153 ?_
      refine gx_iload_n hX dX3_looksAt_156 rfl ?_
      refine gx_if_eq (tgt := 164) hX dX3_looksAt_157 (by decide) h (fun h => ?_) (fun h => ?_)
      · refine gx_iconst (v := 0) hX dX3_looksAt_164 (by decide) ?_
        refine gx_sub hX (lv' := [some (va_rf (some (gw_mo w))), some (.int (x1)), none, none, none, none, none]) ⟨Or.inr rfl, ⟨Or.inr rfl, ⟨Or.inl rfl, ⟨Or.inl rfl, ⟨Or.inr rfl, ⟨Or.inr rfl, ⟨Or.inr rfl, trivial⟩⟩⟩⟩⟩⟩⟩ ?_
        exact tX3_looksAt_B165 hA hX  h
      · refine gx_iconst (v := 1) hX dX3_looksAt_160 (by decide) ?_
        refine gx_goto (tgt := 165) hX dX3_looksAt_161 (by decide) ?_
        refine gx_sub hX (lv' := [some (va_rf (some (gw_mo w))), some (.int (x1)), none, none, none, none, none]) ⟨Or.inr rfl, ⟨Or.inr rfl, ⟨Or.inl rfl, ⟨Or.inl rfl, ⟨Or.inr rfl, ⟨Or.inr rfl, ⟨Or.inr rfl, trivial⟩⟩⟩⟩⟩⟩⟩ ?_
        exact tX3_looksAt_B165 hA hX  h
    · refine gx_aload_n hX dX3_looksAt_14 rfl ?_
      refine gm_getA hX 1 (by decide) (by decide) q1342 rfl dX3_looksAt_15 ?_
      refine gx_sipush (v := nI 130) hX dX3_looksAt_18 (by decide) ?_
      refine gx_aload_n hX dX3_looksAt_21 rfl ?_
      refine gm_getA hX 27 (by decide) (by decide) q1368 rfl dX3_looksAt_22 ?_
      refine gx_iload_n hX dX3_looksAt_25 rfl ?_
      refine gm_ld hX (by decide) dX3_looksAt_26 h (fun v7 h => ?_)
      refine gx_iadd hX dX3_looksAt_27 ?_
      refine gm_ld hX (by decide) dX3_looksAt_28 h (fun v8 h => ?_)
      refine gx_istore hX dX3_looksAt_29 (Nat.le_of_ble_eq_true rfl) gx_c1i (lv' := [some (va_rf (some (gw_mo w))), some (.int (x1)), some (.int (x2)), some (.int (x3)), some (.int (v8)), none, none]) rfl ?_
      refine gx_iload_n hX dX3_looksAt_31 rfl ?_
      refine gx_aload_n hX dX3_looksAt_32 rfl ?_
      refine gx_aload_n hX dX3_looksAt_33 rfl ?_
      refine gm_getA hX 28 (by decide) (by decide) q1369 rfl dX3_looksAt_34 ?_
      refine gx_iload_n hX dX3_looksAt_37 rfl ?_
      refine gm_ld hX (by decide) dX3_looksAt_38 h (fun v9 h => ?_)
      refine gx_iload hX dX3_looksAt_39 rfl ?_
      obtain ⟨r10, hr10, h⟩ := gx_bs h
      refine gx_cV (As := [.int (v9), .int (v8)]) (rest := [.int (x1)]) (b := gw_mo w) hX (tX3_fitFor w _ hA (gx_l X) (σ) (v9) (v8) hr10) (lw_V q1526 q1528 qs42 q92 q1529) ⟨rfl, dsX3_fitFor⟩ (by decide) (by decide) (gm_rc hX) rfl (gx_w8 (gx_kI gx_k0) (Nat.le_of_ble_eq_true rfl)) dX3_looksAt_41 ⟨Nat.le_refl _, Nat.le_refl _⟩ rfl ?_
      refine gx_iadd hX dX3_looksAt_44 ?_
      refine gx_istore_n hX dX3_looksAt_45 (Nat.le_of_ble_eq_true rfl) gx_c1r (lv' := [some (va_rf (some (gw_mo w))), some (.int ((x1) + (r10))), some (.int (x2)), some (.int (x3)), some (.int (v8)), none, none]) rfl ?_
      refine gx_iconst (v := 0) hX dX3_looksAt_46 (by decide) ?_
      refine gx_istore hX dX3_looksAt_47 (Nat.le_of_ble_eq_true rfl) gx_c1i (lv' := [some (va_rf (some (gw_mo w))), some (.int ((x1) + (r10))), some (.int (x2)), some (.int (x3)), some (.int (v8)), some (.int (0)), none]) rfl ?_
      exact tX3_looksAt_L49 hA hX ih N _ _ _ _ _ _ h
def fX3_looksAt (N : Nat) (σ : gm_S)  : Option (gm_S) := fX3_looksAt_L6 N N σ (0) (1) (0)
set_option maxHeartbeats 4000000 in
theorem tX3_looksAt (w : gw_W) (A : Nat → Prop) (hA : ∀ q, gm_A w q → A q) (l : Launch) (N : Nat) (σ : gm_S)  {r : gm_S} (h : fX3_looksAt N σ = some r) : gx_T (gw_I w A) A l yX3_looksAt iX3_looksAt 3 [va_rf (some (gw_mo w))] (gm_P w σ) 0 0 (gm_P w r) (.returned (none)) := by
  refine gx_T.of (gw_I.inv w A) (by decide) ⟨rfl, rfl⟩ (gx_kR gx_k0) (Nat.le_of_ble_eq_true rfl) (fun X hl hAx hX => ?_)
  subst hl
  subst hAx
  show gx_G X (gm_P w σ) 0 0 [some (va_rf (some (gw_mo w))), none, none, none, none, none, none] 0 []
  unfold fX3_looksAt at h
  refine gx_iconst (v := 0) hX dX3_looksAt_0 (by decide) ?_
  refine gx_istore_n hX dX3_looksAt_1 (Nat.le_of_ble_eq_true rfl) gx_c1r (lv' := [some (va_rf (some (gw_mo w))), some (.int (0)), none, none, none, none, none]) rfl ?_
  refine gx_iconst (v := 1) hX dX3_looksAt_2 (by decide) ?_
  refine gx_istore_n hX dX3_looksAt_3 (Nat.le_of_ble_eq_true rfl) gx_c1i (lv' := [some (va_rf (some (gw_mo w))), some (.int (0)), some (.int (1)), none, none, none, none]) rfl ?_
  refine gx_iconst (v := 0) hX dX3_looksAt_4 (by decide) ?_
  refine gx_istore_n hX dX3_looksAt_5 (Nat.le_of_ble_eq_true rfl) gx_c1i (lv' := [some (va_rf (some (gw_mo w))), some (.int (0)), some (.int (1)), some (.int (0)), none, none, none]) rfl ?_
  exact tX3_looksAt_L6 hA hX  N _ _ _ _ h
abbrev iX3_refuses : gx_M := (RX3, "refuses", cX3_refuses, 3, some .int)
theorem dsX3_refuses : gx_ds yX3_refuses 1 := by decide +kernel
def fX3_refuses_L90 (N : Nat)   : Nat → gm_S → Int32 → Option (gm_S × Int32)
  | 0, _, _ => none
  | k + 1, σ, x2 => if (gs σ 30) ≤ x2 then some (σ, 0) else (gm_rd σ 27 (x2)).bind fun v4 => (fX3_isHoused (σ) (v4)).bind fun r5 => if r5 = 0 then some (σ, (-3)) else (fX3_refuses_L90 N k) σ ((x2) + 1)
set_option maxHeartbeats 4000000 in
theorem tX3_refuses_L90 {w : gw_W} {X : gx_X} {N : Nat} {r : gm_S × Int32} (hA : ∀ q, gm_A w q → gx_A X q) (hX : gx_O (gw_I w (gx_A X)) X iX3_refuses 2 0 0 (gm_P w r.1) (.returned (some (.int r.2))))  : ∀ (k : Nat) (σ : gm_S) (x2 : Int32), fX3_refuses_L90 N k σ x2 = some r → gx_G X (gm_P w σ) 0 0 [some (va_rf (some (gw_mo w))), none, some (.int (x2))] 90 [] := by
  intro k
  induction k with
  | zero =>
    intro σ x2 h
    unfold fX3_refuses_L90 at h
    cases h
  | succ k ih =>
    intro σ x2 h
    unfold fX3_refuses_L90 at h
    refine gx_iload_n hX dX3_refuses_90 rfl ?_
    refine gx_aload_n hX dX3_refuses_91 rfl ?_
    refine gm_getI hX 30 (by decide) rfl q1371 rfl dX3_refuses_92 ?_
    refine gx_icmp_ge (tgt := 120) hX dX3_refuses_95 (by decide) h (fun h => ?_) (fun h => ?_)
    · refine gx_iconst (v := 0) hX dX3_refuses_120 (by decide) ?_
      cases h
      exact gx_iret hX rfl dX3_refuses_121 rfl ⟨rfl, rfl⟩ (fun _ h => h)
    · refine gx_aload_n hX dX3_refuses_98 rfl ?_
      refine gx_aload_n hX dX3_refuses_99 rfl ?_
      refine gm_getA hX 27 (by decide) (by decide) q1368 rfl dX3_refuses_100 ?_
      refine gx_iload_n hX dX3_refuses_103 rfl ?_
      refine gm_ld hX (by decide) dX3_refuses_104 h (fun v4 h => ?_)
      obtain ⟨r5, hr5, h⟩ := gx_bs h
      refine gx_cV (As := [.int (v4)]) (rest := []) (b := gw_mo w) hX (tX3_isHoused w _ hA (gx_l X) (σ) (v4) hr5) (lw_V q1510 q1512 qs38 q92 q1513) ⟨rfl, dsX3_isHoused⟩ (by decide) (by decide) (gm_rc hX) rfl (gx_w8 gx_k0 (Nat.le_of_ble_eq_true rfl)) dX3_refuses_105 ⟨Nat.le_refl _, Nat.le_refl _⟩ rfl ?_
      refine gx_if_ne (tgt := 114) hX dX3_refuses_108 (by decide) h (fun h => ?_) (fun h => ?_)
      · refine gx_bipush (v := (-3)) hX dX3_refuses_111 (by decide) ?_
        cases h
        exact gx_iret hX rfl dX3_refuses_113 rfl ⟨rfl, rfl⟩ (fun _ h => h)
      · refine gx_iinc (v := 1) hX dX3_refuses_114 rfl (by decide) gx_c1n (lv' := [some (va_rf (some (gw_mo w))), none, some (.int ((x2) + 1))]) rfl ?_
        refine gx_goto (tgt := 90) hX dX3_refuses_117 (by decide) ?_
        exact ih _ _ h
def fX3_refuses_B54 (N : Nat)  (K7 : gm_S → Int32 → Int32 → Option (gm_S × Int32)) (σ : gm_S) (x1 : Int32) (x2 : Int32) : Option (gm_S × Int32) := K7 σ (x1) ((x2) + 1)
set_option maxHeartbeats 4000000 in
theorem tX3_refuses_B54 {w : gw_W} {X : gx_X} {N : Nat} {r : gm_S × Int32} (hA : ∀ q, gm_A w q → gx_A X q) (hX : gx_O (gw_I w (gx_A X)) X iX3_refuses 2 0 0 (gm_P w r.1) (.returned (some (.int r.2)))) {K7 : gm_S → Int32 → Int32 → Option (gm_S × Int32)} (hK7 : ∀ (σ : gm_S) (x1 : Int32) (x2 : Int32), K7 σ x1 x2 = some r → gx_G X (gm_P w σ) 0 0 [some (va_rf (some (gw_mo w))), some (.int (x1)), some (.int (x2))] 7 []) {σ : gm_S} {x1 : Int32} {x2 : Int32} (h : fX3_refuses_B54 N K7 σ x1 x2 = some r) : gx_G X (gm_P w σ) 0 0 [some (va_rf (some (gw_mo w))), some (.int (x1)), some (.int (x2))] 54 [] := by
  unfold fX3_refuses_B54 at h
  refine gx_iinc (v := 1) hX dX3_refuses_54 rfl (by decide) gx_c1i (lv' := [some (va_rf (some (gw_mo w))), some (.int (x1)), some (.int ((x2) + 1))]) rfl ?_
  refine gx_goto (tgt := 7) hX dX3_refuses_57 (by decide) ?_
  exact hK7 _ _ _ h
def fX3_refuses_L7 (N : Nat)   : Nat → gm_S → Int32 → Int32 → Option (gm_S × Int32)
  | 0, _, _, _ => none
  | k + 1, σ, x1, x2 => if (nI 12) ≤ x2 then if gs σ 30 = 0 then some (σ, (-2)) else (gm_rd σ 1 (1)).bind fun v2 => (fX3_in  (x1) (1) (((1) <<< ((v2) &&& 31)) - (1))).bind fun r3 => if r3 = 0 then some (σ, (-2)) else fX3_refuses_L90 N N σ (0) else if ((x1) >>> ((x2) &&& 31)) &&& (1) = 1 then if gs σ 30 = nI 6 then some (σ, (-2)) else (gm_wr σ 27 (gs σ 30) (x2)).bind fun σ6 => (gm_pt σ6 30 ((gs σ6 30) + (1))).bind fun σ7 => fX3_refuses_B54 N (fX3_refuses_L7 N k) σ7 (x1) (x2) else fX3_refuses_B54 N (fX3_refuses_L7 N k) σ (x1) (x2)
set_option maxHeartbeats 4000000 in
theorem tX3_refuses_L7 {w : gw_W} {X : gx_X} {N : Nat} {r : gm_S × Int32} (hA : ∀ q, gm_A w q → gx_A X q) (hX : gx_O (gw_I w (gx_A X)) X iX3_refuses 2 0 0 (gm_P w r.1) (.returned (some (.int r.2))))  : ∀ (k : Nat) (σ : gm_S) (x1 : Int32) (x2 : Int32), fX3_refuses_L7 N k σ x1 x2 = some r → gx_G X (gm_P w σ) 0 0 [some (va_rf (some (gw_mo w))), some (.int (x1)), some (.int (x2))] 7 [] := by
  intro k
  induction k with
  | zero =>
    intro σ x1 x2 h
    unfold fX3_refuses_L7 at h
    cases h
  | succ k ih =>
    intro σ x1 x2 h
    unfold fX3_refuses_L7 at h
    refine gx_iload_n hX dX3_refuses_7 rfl ?_
    refine gx_bipush (v := nI 12) hX dX3_refuses_8 (by decide) ?_
    refine gx_icmp_ge (tgt := 60) hX dX3_refuses_10 (by decide) h (fun h => ?_) (fun h => ?_)
    · refine gx_aload_n hX dX3_refuses_60 rfl ?_
      refine gm_getI hX 30 (by decide) rfl q1371 rfl dX3_refuses_61 ?_
      refine gx_if_eq (tgt := 85) hX dX3_refuses_64 (by decide) h (fun h => ?_) (fun h => ?_)
      · refine gx_bipush (v := (-2)) hX dX3_refuses_85 (by decide) ?_
        cases h
        exact gx_iret hX rfl dX3_refuses_87 rfl ⟨rfl, rfl⟩ (fun _ h => h)
      · refine gx_iload_n hX dX3_refuses_67 rfl ?_
        refine gx_iconst (v := 1) hX dX3_refuses_68 (by decide) ?_
        refine gx_iconst (v := 1) hX dX3_refuses_69 (by decide) ?_
        refine gx_aload_n hX dX3_refuses_70 rfl ?_
        refine gm_getA hX 1 (by decide) (by decide) q1342 rfl dX3_refuses_71 ?_
        refine gx_iconst (v := 1) hX dX3_refuses_74 (by decide) ?_
        refine gm_ld hX (by decide) dX3_refuses_75 h (fun v2 h => ?_)
        refine gx_ishl hX dX3_refuses_76 ?_
        refine gx_iconst (v := 1) hX dX3_refuses_77 (by decide) ?_
        refine gx_isub hX dX3_refuses_78 ?_
        obtain ⟨r3, hr3, h⟩ := gx_bs h
        refine gx_cS (As := [.int (x1), .int (1), .int (((1) <<< ((v2) &&& 31)) - (1))]) (rest := []) hX (tX3_in w (gx_A X) (gx_l X) (gm_P w σ) (x1) (1) (((1) <<< ((v2) &&& 31)) - (1)) hr3) (lw_S q1467 q1468 q92 q1469) dsX3_in (by decide) (by decide) rfl (gx_w8 gx_k0 (Nat.le_of_ble_eq_true rfl)) dX3_refuses_79 ⟨Nat.le_refl _, Nat.le_refl _⟩ rfl ?_
        refine gx_if_ne (tgt := 88) hX dX3_refuses_82 (by decide) h (fun h => ?_) (fun h => ?_)
        · refine gx_bipush (v := (-2)) hX dX3_refuses_85 (by decide) ?_
          cases h
          exact gx_iret hX rfl dX3_refuses_87 rfl ⟨rfl, rfl⟩ (fun _ h => h)
        · refine gx_iconst (v := 0) hX dX3_refuses_88 (by decide) ?_
          refine gx_istore_n hX dX3_refuses_89 (Nat.le_of_ble_eq_true rfl) gx_c1i (lv' := [some (va_rf (some (gw_mo w))), some (.int (x1)), some (.int (0))]) rfl ?_
          refine gx_sub hX (lv' := [some (va_rf (some (gw_mo w))), none, some (.int (0))]) ⟨Or.inr rfl, ⟨Or.inl rfl, ⟨Or.inr rfl, trivial⟩⟩⟩ ?_
          exact tX3_refuses_L90 hA hX  N _ _ h
    · refine gx_iload_n hX dX3_refuses_13 rfl ?_
      refine gx_iload_n hX dX3_refuses_14 rfl ?_
      refine gx_ishr hX dX3_refuses_15 ?_
      refine gx_iconst (v := 1) hX dX3_refuses_16 (by decide) ?_
      refine gx_iand hX dX3_refuses_17 ?_
      refine gx_iconst (v := 1) hX dX3_refuses_18 (by decide) ?_
      refine gx_icmp_ne (tgt := 54) hX dX3_refuses_19 (by decide) h (fun h => ?_) (fun h => ?_)
      · refine gx_aload_n hX dX3_refuses_22 rfl ?_
        refine gm_getI hX 30 (by decide) rfl q1371 rfl dX3_refuses_23 ?_
        refine gx_bipush (v := nI 6) hX dX3_refuses_26 (by decide) ?_
        refine gx_icmp_ne (tgt := 34) hX dX3_refuses_28 (by decide) h (fun h => ?_) (fun h => ?_)
        · refine gx_bipush (v := (-2)) hX dX3_refuses_31 (by decide) ?_
          cases h
          exact gx_iret hX rfl dX3_refuses_33 rfl ⟨rfl, rfl⟩ (fun _ h => h)
        · refine gx_aload_n hX dX3_refuses_34 rfl ?_
          refine gm_getA hX 27 (by decide) (by decide) q1368 rfl dX3_refuses_35 ?_
          refine gx_aload_n hX dX3_refuses_38 rfl ?_
          refine gm_getI hX 30 (by decide) rfl q1371 rfl dX3_refuses_39 ?_
          refine gx_iload_n hX dX3_refuses_42 rfl ?_
          refine gm_st hX hA (by decide) dX3_refuses_43 h (fun σ6 h => ?_)
          refine gx_aload_n hX dX3_refuses_44 rfl ?_
          refine gx_dup hX dX3_refuses_45 (gx_cat _) ?_
          refine gm_getI hX 30 (by decide) rfl q1371 rfl dX3_refuses_46 ?_
          refine gx_iconst (v := 1) hX dX3_refuses_49 (by decide) ?_
          refine gx_iadd hX dX3_refuses_50 ?_
          refine gm_putI hX hA (k := 30) ⟨by decide, rfl⟩ q1371 ⟨rfl, rfl⟩ rfl dX3_refuses_51 h (fun σ7 h => ?_)
          exact tX3_refuses_B54 hA hX ih h
      · exact tX3_refuses_B54 hA hX ih h
def fX3_refuses (N : Nat) (σ : gm_S) (x1 : Int32) : Option (gm_S × Int32) := (gm_pt σ 30 (0)).bind fun σ1 => fX3_refuses_L7 N N σ1 (x1) (0)
set_option maxHeartbeats 4000000 in
theorem tX3_refuses (w : gw_W) (A : Nat → Prop) (hA : ∀ q, gm_A w q → A q) (l : Launch) (N : Nat) (σ : gm_S) (x1 : Int32) {r : gm_S × Int32} (h : fX3_refuses N σ x1 = some r) : gx_T (gw_I w A) A l yX3_refuses iX3_refuses 2 [va_rf (some (gw_mo w)), .int (x1)] (gm_P w σ) 0 0 (gm_P w r.1) (.returned (some (.int r.2))) := by
  refine gx_T.of (gw_I.inv w A) (by decide) ⟨rfl, rfl⟩ (gx_kR (gx_kI gx_k0)) (Nat.le_of_ble_eq_true rfl) (fun X hl hAx hX => ?_)
  subst hl
  subst hAx
  show gx_G X (gm_P w σ) 0 0 [some (va_rf (some (gw_mo w))), some (.int (x1)), none] 0 []
  unfold fX3_refuses at h
  refine gx_aload_n hX dX3_refuses_0 rfl ?_
  refine gx_iconst (v := 0) hX dX3_refuses_1 (by decide) ?_
  refine gm_putI hX hA (k := 30) ⟨by decide, rfl⟩ q1371 ⟨rfl, rfl⟩ rfl dX3_refuses_2 h (fun σ1 h => ?_)
  refine gx_iconst (v := 0) hX dX3_refuses_5 (by decide) ?_
  refine gx_istore_n hX dX3_refuses_6 (Nat.le_of_ble_eq_true rfl) gx_c1i (lv' := [some (va_rf (some (gw_mo w))), some (.int (x1)), some (.int (0))]) rfl ?_
  exact tX3_refuses_L7 hA hX  N _ _ _ h
abbrev iX3_pairs : gx_M := (RX3, "pairs", cX3_pairs, 5, some .int)
theorem dsX3_pairs : gx_ds yX3_pairs 0 := by decide +kernel
def fX3_pairs_B119 (N : Nat) (σ : gm_S) (K4 : Int32 → Int32 → Option (Int32)) (K16 : Int32 → Int32 → Int32 → Option (Int32)) (x2 : Int32) (x3 : Int32) (y0 : Int32) (y1 : Int32) : Option (Int32) := K16 ((y1) + (y0)) (x2) ((x3) + 1)
set_option maxHeartbeats 4000000 in
theorem tX3_pairs_B119 {w : gw_W} {X : gx_X} {N : Nat} {σ : gm_S} {r : Int32} (hA : ∀ q, gm_A w q → gx_A X q) (hX : gx_O (gw_I w (gx_A X)) X iX3_pairs 4 0 0 (gm_P w σ) (.returned (some (.int r)))) {K4 : Int32 → Int32 → Option (Int32)} {K16 : Int32 → Int32 → Int32 → Option (Int32)} (hK4 : ∀ (x1 : Int32) (x2 : Int32), K4 x1 x2 = some r → gx_G X (gm_P w σ) 0 0 [some (va_rf (some (gw_mo w))), some (.int (x1)), some (.int (x2)), none, none] 4 []) (hK16 : ∀ (x1 : Int32) (x2 : Int32) (x3 : Int32), K16 x1 x2 x3 = some r → gx_G X (gm_P w σ) 0 0 [some (va_rf (some (gw_mo w))), some (.int (x1)), some (.int (x2)), some (.int (x3)), none] 16 []) {x2 : Int32} {x3 : Int32} {y0 : Int32} {y1 : Int32} (h : fX3_pairs_B119 N σ K4 K16 x2 x3 y0 y1 = some r) : gx_G X (gm_P w σ) 0 0 [some (va_rf (some (gw_mo w))), none, some (.int (x2)), some (.int (x3)), none] 119 [.int (y0), .int (y1)] := by
  unfold fX3_pairs_B119 at h
  refine gx_iadd hX dX3_pairs_119 ?_
  refine gx_istore_n hX dX3_pairs_120 (Nat.le_of_ble_eq_true rfl) gx_c1r (lv' := [some (va_rf (some (gw_mo w))), some (.int ((y1) + (y0))), some (.int (x2)), some (.int (x3)), none]) rfl ?_
  refine gx_iinc (v := 1) hX dX3_pairs_121 rfl (by decide) gx_c1i (lv' := [some (va_rf (some (gw_mo w))), some (.int ((y1) + (y0))), some (.int (x2)), some (.int ((x3) + 1)), none]) rfl ?_
  refine gx_goto (tgt := 16) hX dX3_pairs_124 (by decide) ?_
  exact hK16 _ _ _ h
def fX3_pairs_B118 (N : Nat) (σ : gm_S) (K4 : Int32 → Int32 → Option (Int32)) (K16 : Int32 → Int32 → Int32 → Option (Int32)) (x2 : Int32) (x3 : Int32) (y0 : Int32) : Option (Int32) := fX3_pairs_B119 N σ K4 K16 (x2) (x3) (0) (y0)
set_option maxHeartbeats 4000000 in
theorem tX3_pairs_B118 {w : gw_W} {X : gx_X} {N : Nat} {σ : gm_S} {r : Int32} (hA : ∀ q, gm_A w q → gx_A X q) (hX : gx_O (gw_I w (gx_A X)) X iX3_pairs 4 0 0 (gm_P w σ) (.returned (some (.int r)))) {K4 : Int32 → Int32 → Option (Int32)} {K16 : Int32 → Int32 → Int32 → Option (Int32)} (hK4 : ∀ (x1 : Int32) (x2 : Int32), K4 x1 x2 = some r → gx_G X (gm_P w σ) 0 0 [some (va_rf (some (gw_mo w))), some (.int (x1)), some (.int (x2)), none, none] 4 []) (hK16 : ∀ (x1 : Int32) (x2 : Int32) (x3 : Int32), K16 x1 x2 x3 = some r → gx_G X (gm_P w σ) 0 0 [some (va_rf (some (gw_mo w))), some (.int (x1)), some (.int (x2)), some (.int (x3)), none] 16 []) {x2 : Int32} {x3 : Int32} {y0 : Int32} (h : fX3_pairs_B118 N σ K4 K16 x2 x3 y0 = some r) : gx_G X (gm_P w σ) 0 0 [some (va_rf (some (gw_mo w))), none, some (.int (x2)), some (.int (x3)), none] 118 [.int (y0)] := by
  unfold fX3_pairs_B118 at h
  refine gx_iconst (v := 0) hX dX3_pairs_118 (by decide) ?_
  exact tX3_pairs_B119 hA hX hK4 hK16 h
def fX3_pairs_B42 (N : Nat) (σ : gm_S) (K4 : Int32 → Int32 → Option (Int32)) (K16 : Int32 → Int32 → Int32 → Option (Int32)) (x1 : Int32) (x2 : Int32) (x3 : Int32) (y0 : Int32) : Option (Int32) := if y0 = 0 then fX3_pairs_B118 N σ K4 K16 (x2) (x3) (x1) else (gm_rd σ 1 ((nI 178) + (x3))).bind fun v3 => (gm_rd σ 1 ((nI 130) + (x2))).bind fun v4 => (fX3_fitFor (σ) (v3) (v4)).bind fun r5 => (fX3_own (σ) (x2)).bind fun r6 => if (r5) ≤ r6 then fX3_pairs_B118 N σ K4 K16 (x2) (x3) (x1) else (gm_rd σ 1 ((nI 178) + (x2))).bind fun v7 => (gm_rd σ 1 ((nI 130) + (x3))).bind fun v8 => (fX3_fitFor (σ) (v7) (v8)).bind fun r9 => (fX3_own (σ) (x3)).bind fun r10 => if (r9) ≤ r10 then fX3_pairs_B118 N σ K4 K16 (x2) (x3) (x1) else fX3_pairs_B119 N σ K4 K16 (x2) (x3) (1) (x1)
set_option maxHeartbeats 4000000 in
theorem tX3_pairs_B42 {w : gw_W} {X : gx_X} {N : Nat} {σ : gm_S} {r : Int32} (hA : ∀ q, gm_A w q → gx_A X q) (hX : gx_O (gw_I w (gx_A X)) X iX3_pairs 4 0 0 (gm_P w σ) (.returned (some (.int r)))) {K4 : Int32 → Int32 → Option (Int32)} {K16 : Int32 → Int32 → Int32 → Option (Int32)} (hK4 : ∀ (x1 : Int32) (x2 : Int32), K4 x1 x2 = some r → gx_G X (gm_P w σ) 0 0 [some (va_rf (some (gw_mo w))), some (.int (x1)), some (.int (x2)), none, none] 4 []) (hK16 : ∀ (x1 : Int32) (x2 : Int32) (x3 : Int32), K16 x1 x2 x3 = some r → gx_G X (gm_P w σ) 0 0 [some (va_rf (some (gw_mo w))), some (.int (x1)), some (.int (x2)), some (.int (x3)), none] 16 []) {x1 : Int32} {x2 : Int32} {x3 : Int32} {y0 : Int32} (h : fX3_pairs_B42 N σ K4 K16 x1 x2 x3 y0 = some r) : gx_G X (gm_P w σ) 0 0 [some (va_rf (some (gw_mo w))), some (.int (x1)), some (.int (x2)), some (.int (x3)), none] 42 [.int (y0)] := by
  unfold fX3_pairs_B42 at h
  refine gx_istore hX dX3_pairs_42 (Nat.le_of_ble_eq_true rfl) gx_c1i (lv' := [some (va_rf (some (gw_mo w))), some (.int (x1)), some (.int (x2)), some (.int (x3)), some (.int (y0))]) rfl ?_
  refine gx_iload_n hX dX3_pairs_44 rfl ?_
  refine gx_iload hX dX3_pairs_45 rfl ?_
  refine gx_if_eq (tgt := 118) hX dX3_pairs_47 (by decide) h (fun h => ?_) (fun h => ?_)
  · refine gx_sub hX (lv' := [some (va_rf (some (gw_mo w))), none, some (.int (x2)), some (.int (x3)), none]) ⟨Or.inr rfl, ⟨Or.inl rfl, ⟨Or.inr rfl, ⟨Or.inr rfl, ⟨Or.inl rfl, trivial⟩⟩⟩⟩⟩ ?_
    exact tX3_pairs_B118 hA hX hK4 hK16 h
  · refine gx_aload_n hX dX3_pairs_50 rfl ?_
    refine gx_aload_n hX dX3_pairs_51 rfl ?_
    refine gm_getA hX 1 (by decide) (by decide) q1342 rfl dX3_pairs_52 ?_
    refine gx_sipush (v := nI 178) hX dX3_pairs_55 (by decide) ?_
    refine gx_iload_n hX dX3_pairs_58 rfl ?_
    refine gx_iadd hX dX3_pairs_59 ?_
    refine gm_ld hX (by decide) dX3_pairs_60 h (fun v3 h => ?_)
    refine gx_aload_n hX dX3_pairs_61 rfl ?_
    refine gm_getA hX 1 (by decide) (by decide) q1342 rfl dX3_pairs_62 ?_
    refine gx_sipush (v := nI 130) hX dX3_pairs_65 (by decide) ?_
    refine gx_iload_n hX dX3_pairs_68 rfl ?_
    refine gx_iadd hX dX3_pairs_69 ?_
    refine gm_ld hX (by decide) dX3_pairs_70 h (fun v4 h => ?_)
    obtain ⟨r5, hr5, h⟩ := gx_bs h
    refine gx_cV (As := [.int (v3), .int (v4)]) (rest := [.int (x1)]) (b := gw_mo w) hX (tX3_fitFor w _ hA (gx_l X) (σ) (v3) (v4) hr5) (lw_V q1526 q1528 qs42 q92 q1529) ⟨rfl, dsX3_fitFor⟩ (by decide) (by decide) (gm_rc hX) rfl (gx_w8 (gx_kI gx_k0) (Nat.le_of_ble_eq_true rfl)) dX3_pairs_71 ⟨Nat.le_refl _, Nat.le_refl _⟩ rfl ?_
    refine gx_aload_n hX dX3_pairs_74 rfl ?_
    refine gx_iload_n hX dX3_pairs_75 rfl ?_
    obtain ⟨r6, hr6, h⟩ := gx_bs h
    refine gx_cV (As := [.int (x2)]) (rest := [.int (r5), .int (x1)]) (b := gw_mo w) hX (tX3_own w _ hA (gx_l X) (σ) (x2) hr6) (lw_V q1522 q1524 qs41 q92 q1525) ⟨rfl, dsX3_own⟩ (by decide) (by decide) (gm_rc hX) rfl (gx_w8 (gx_kI (gx_kI gx_k0)) (Nat.le_of_ble_eq_true rfl)) dX3_pairs_76 ⟨Nat.le_refl _, Nat.le_refl _⟩ rfl ?_
    refine gx_icmp_le (tgt := 118) hX dX3_pairs_79 (by decide) h (fun h => ?_) (fun h => ?_)
    · refine gx_sub hX (lv' := [some (va_rf (some (gw_mo w))), none, some (.int (x2)), some (.int (x3)), none]) ⟨Or.inr rfl, ⟨Or.inl rfl, ⟨Or.inr rfl, ⟨Or.inr rfl, ⟨Or.inl rfl, trivial⟩⟩⟩⟩⟩ ?_
      exact tX3_pairs_B118 hA hX hK4 hK16 h
    · refine gx_aload_n hX dX3_pairs_82 rfl ?_
      refine gx_aload_n hX dX3_pairs_83 rfl ?_
      refine gm_getA hX 1 (by decide) (by decide) q1342 rfl dX3_pairs_84 ?_
      refine gx_sipush (v := nI 178) hX dX3_pairs_87 (by decide) ?_
      refine gx_iload_n hX dX3_pairs_90 rfl ?_
      refine gx_iadd hX dX3_pairs_91 ?_
      refine gm_ld hX (by decide) dX3_pairs_92 h (fun v7 h => ?_)
      refine gx_aload_n hX dX3_pairs_93 rfl ?_
      refine gm_getA hX 1 (by decide) (by decide) q1342 rfl dX3_pairs_94 ?_
      refine gx_sipush (v := nI 130) hX dX3_pairs_97 (by decide) ?_
      refine gx_iload_n hX dX3_pairs_100 rfl ?_
      refine gx_iadd hX dX3_pairs_101 ?_
      refine gm_ld hX (by decide) dX3_pairs_102 h (fun v8 h => ?_)
      obtain ⟨r9, hr9, h⟩ := gx_bs h
      refine gx_cV (As := [.int (v7), .int (v8)]) (rest := [.int (x1)]) (b := gw_mo w) hX (tX3_fitFor w _ hA (gx_l X) (σ) (v7) (v8) hr9) (lw_V q1526 q1528 qs42 q92 q1529) ⟨rfl, dsX3_fitFor⟩ (by decide) (by decide) (gm_rc hX) rfl (gx_w8 (gx_kI gx_k0) (Nat.le_of_ble_eq_true rfl)) dX3_pairs_103 ⟨Nat.le_refl _, Nat.le_refl _⟩ rfl ?_
      refine gx_aload_n hX dX3_pairs_106 rfl ?_
      refine gx_iload_n hX dX3_pairs_107 rfl ?_
      obtain ⟨r10, hr10, h⟩ := gx_bs h
      refine gx_cV (As := [.int (x3)]) (rest := [.int (r9), .int (x1)]) (b := gw_mo w) hX (tX3_own w _ hA (gx_l X) (σ) (x3) hr10) (lw_V q1522 q1524 qs41 q92 q1525) ⟨rfl, dsX3_own⟩ (by decide) (by decide) (gm_rc hX) rfl (gx_w8 (gx_kI (gx_kI gx_k0)) (Nat.le_of_ble_eq_true rfl)) dX3_pairs_108 ⟨Nat.le_refl _, Nat.le_refl _⟩ rfl ?_
      refine gx_icmp_le (tgt := 118) hX dX3_pairs_111 (by decide) h (fun h => ?_) (fun h => ?_)
      · refine gx_sub hX (lv' := [some (va_rf (some (gw_mo w))), none, some (.int (x2)), some (.int (x3)), none]) ⟨Or.inr rfl, ⟨Or.inl rfl, ⟨Or.inr rfl, ⟨Or.inr rfl, ⟨Or.inl rfl, trivial⟩⟩⟩⟩⟩ ?_
        exact tX3_pairs_B118 hA hX hK4 hK16 h
      · refine gx_iconst (v := 1) hX dX3_pairs_114 (by decide) ?_
        refine gx_goto (tgt := 119) hX dX3_pairs_115 (by decide) ?_
        refine gx_sub hX (lv' := [some (va_rf (some (gw_mo w))), none, some (.int (x2)), some (.int (x3)), none]) ⟨Or.inr rfl, ⟨Or.inl rfl, ⟨Or.inr rfl, ⟨Or.inr rfl, ⟨Or.inl rfl, trivial⟩⟩⟩⟩⟩ ?_
        exact tX3_pairs_B119 hA hX hK4 hK16 h
def fX3_pairs_B41 (N : Nat) (σ : gm_S) (K4 : Int32 → Int32 → Option (Int32)) (K16 : Int32 → Int32 → Int32 → Option (Int32)) (x1 : Int32) (x2 : Int32) (x3 : Int32) : Option (Int32) := fX3_pairs_B42 N σ K4 K16 (x1) (x2) (x3) (0)
set_option maxHeartbeats 4000000 in
theorem tX3_pairs_B41 {w : gw_W} {X : gx_X} {N : Nat} {σ : gm_S} {r : Int32} (hA : ∀ q, gm_A w q → gx_A X q) (hX : gx_O (gw_I w (gx_A X)) X iX3_pairs 4 0 0 (gm_P w σ) (.returned (some (.int r)))) {K4 : Int32 → Int32 → Option (Int32)} {K16 : Int32 → Int32 → Int32 → Option (Int32)} (hK4 : ∀ (x1 : Int32) (x2 : Int32), K4 x1 x2 = some r → gx_G X (gm_P w σ) 0 0 [some (va_rf (some (gw_mo w))), some (.int (x1)), some (.int (x2)), none, none] 4 []) (hK16 : ∀ (x1 : Int32) (x2 : Int32) (x3 : Int32), K16 x1 x2 x3 = some r → gx_G X (gm_P w σ) 0 0 [some (va_rf (some (gw_mo w))), some (.int (x1)), some (.int (x2)), some (.int (x3)), none] 16 []) {x1 : Int32} {x2 : Int32} {x3 : Int32} (h : fX3_pairs_B41 N σ K4 K16 x1 x2 x3 = some r) : gx_G X (gm_P w σ) 0 0 [some (va_rf (some (gw_mo w))), some (.int (x1)), some (.int (x2)), some (.int (x3)), none] 41 [] := by
  unfold fX3_pairs_B41 at h
  refine gx_iconst (v := 0) hX dX3_pairs_41 (by decide) ?_
  exact tX3_pairs_B42 hA hX hK4 hK16 h
def fX3_pairs_L16 (N : Nat) (σ : gm_S) (K4 : Int32 → Int32 → Option (Int32)) : Nat → Int32 → Int32 → Int32 → Option (Int32)
  | 0, _, _, _ => none
  | k + 1, x1, x2, x3 => if (x2) ≤ x3 then K4 (x1) ((x2) + 1) else (fX3_isHoused (σ) (x2)).bind fun r2 => if r2 = 0 then fX3_pairs_B41 N σ K4 (fX3_pairs_L16 N σ K4 k) (x1) (x2) (x3) else (fX3_isHoused (σ) (x3)).bind fun r11 => if r11 = 0 then fX3_pairs_B41 N σ K4 (fX3_pairs_L16 N σ K4 k) (x1) (x2) (x3) else fX3_pairs_B42 N σ K4 (fX3_pairs_L16 N σ K4 k) (x1) (x2) (x3) (1)
set_option maxHeartbeats 4000000 in
theorem tX3_pairs_L16 {w : gw_W} {X : gx_X} {N : Nat} {σ : gm_S} {r : Int32} (hA : ∀ q, gm_A w q → gx_A X q) (hX : gx_O (gw_I w (gx_A X)) X iX3_pairs 4 0 0 (gm_P w σ) (.returned (some (.int r)))) {K4 : Int32 → Int32 → Option (Int32)} (hK4 : ∀ (x1 : Int32) (x2 : Int32), K4 x1 x2 = some r → gx_G X (gm_P w σ) 0 0 [some (va_rf (some (gw_mo w))), some (.int (x1)), some (.int (x2)), none, none] 4 []) : ∀ (k : Nat) (x1 : Int32) (x2 : Int32) (x3 : Int32), fX3_pairs_L16 N σ K4 k x1 x2 x3 = some r → gx_G X (gm_P w σ) 0 0 [some (va_rf (some (gw_mo w))), some (.int (x1)), some (.int (x2)), some (.int (x3)), none] 16 [] := by
  intro k
  induction k with
  | zero =>
    intro x1 x2 x3 h
    unfold fX3_pairs_L16 at h
    cases h
  | succ k ih =>
    intro x1 x2 x3 h
    unfold fX3_pairs_L16 at h
    refine gx_iload_n hX dX3_pairs_16 rfl ?_
    refine gx_iload_n hX dX3_pairs_17 rfl ?_
    refine gx_icmp_ge (tgt := 127) hX dX3_pairs_18 (by decide) h (fun h => ?_) (fun h => ?_)
    · refine gx_iinc (v := 1) hX dX3_pairs_127 rfl (by decide) gx_c1i (lv' := [some (va_rf (some (gw_mo w))), some (.int (x1)), some (.int ((x2) + 1)), some (.int (x3)), none]) rfl ?_
      refine gx_goto (tgt := 4) hX dX3_pairs_130 (by decide) ?_
      refine gx_sub hX (lv' := [some (va_rf (some (gw_mo w))), some (.int (x1)), some (.int ((x2) + 1)), none, none]) ⟨Or.inr rfl, ⟨Or.inr rfl, ⟨Or.inr rfl, ⟨Or.inl rfl, ⟨Or.inr rfl, trivial⟩⟩⟩⟩⟩ ?_
      exact hK4 _ _ h
    · refine gx_aload_n hX dX3_pairs_21 rfl ?_
      refine gx_iload_n hX dX3_pairs_22 rfl ?_
      obtain ⟨r2, hr2, h⟩ := gx_bs h
      refine gx_cV (As := [.int (x2)]) (rest := []) (b := gw_mo w) hX (tX3_isHoused w _ hA (gx_l X) (σ) (x2) hr2) (lw_V q1510 q1512 qs38 q92 q1513) ⟨rfl, dsX3_isHoused⟩ (by decide) (by decide) (gm_rc hX) rfl (gx_w8 gx_k0 (Nat.le_of_ble_eq_true rfl)) dX3_pairs_23 ⟨Nat.le_refl _, Nat.le_refl _⟩ rfl ?_
      refine gx_if_eq (tgt := 41) hX dX3_pairs_26 (by decide) h (fun h => ?_) (fun h => ?_)
      · exact tX3_pairs_B41 hA hX hK4 ih h
      · refine gx_aload_n hX dX3_pairs_29 rfl ?_
        refine gx_iload_n hX dX3_pairs_30 rfl ?_
        obtain ⟨r11, hr11, h⟩ := gx_bs h
        refine gx_cV (As := [.int (x3)]) (rest := []) (b := gw_mo w) hX (tX3_isHoused w _ hA (gx_l X) (σ) (x3) hr11) (lw_V q1510 q1512 qs38 q92 q1513) ⟨rfl, dsX3_isHoused⟩ (by decide) (by decide) (gm_rc hX) rfl (gx_w8 gx_k0 (Nat.le_of_ble_eq_true rfl)) dX3_pairs_31 ⟨Nat.le_refl _, Nat.le_refl _⟩ rfl ?_
        refine gx_if_eq (tgt := 41) hX dX3_pairs_34 (by decide) h (fun h => ?_) (fun h => ?_)
        · exact tX3_pairs_B41 hA hX hK4 ih h
        · refine gx_iconst (v := 1) hX dX3_pairs_37 (by decide) ?_
          refine gx_goto (tgt := 42) hX dX3_pairs_38 (by decide) ?_
          exact tX3_pairs_B42 hA hX hK4 ih h
def fX3_pairs_L4 (N : Nat) (σ : gm_S)  : Nat → Int32 → Int32 → Option (Int32)
  | 0, _, _ => none
  | k + 1, x1, x2 => (gm_rd σ 1 (1)).bind fun v1 => if (v1) ≤ x2 then some (x1) else fX3_pairs_L16 N σ (fX3_pairs_L4 N σ k) N (x1) (x2) (0)
set_option maxHeartbeats 4000000 in
theorem tX3_pairs_L4 {w : gw_W} {X : gx_X} {N : Nat} {σ : gm_S} {r : Int32} (hA : ∀ q, gm_A w q → gx_A X q) (hX : gx_O (gw_I w (gx_A X)) X iX3_pairs 4 0 0 (gm_P w σ) (.returned (some (.int r))))  : ∀ (k : Nat) (x1 : Int32) (x2 : Int32), fX3_pairs_L4 N σ k x1 x2 = some r → gx_G X (gm_P w σ) 0 0 [some (va_rf (some (gw_mo w))), some (.int (x1)), some (.int (x2)), none, none] 4 [] := by
  intro k
  induction k with
  | zero =>
    intro x1 x2 h
    unfold fX3_pairs_L4 at h
    cases h
  | succ k ih =>
    intro x1 x2 h
    unfold fX3_pairs_L4 at h
    refine gx_iload_n hX dX3_pairs_4 rfl ?_
    refine gx_aload_n hX dX3_pairs_5 rfl ?_
    refine gm_getA hX 1 (by decide) (by decide) q1342 rfl dX3_pairs_6 ?_
    refine gx_iconst (v := 1) hX dX3_pairs_9 (by decide) ?_
    refine gm_ld hX (by decide) dX3_pairs_10 h (fun v1 h => ?_)
    refine gx_icmp_ge (tgt := 133) hX dX3_pairs_11 (by decide) h (fun h => ?_) (fun h => ?_)
    · refine gx_iload_n hX dX3_pairs_133 rfl ?_
      cases h
      exact gx_iret hX rfl dX3_pairs_134 rfl ⟨rfl, rfl⟩ (fun _ h => h)
    · refine gx_iconst (v := 0) hX dX3_pairs_14 (by decide) ?_
      refine gx_istore_n hX dX3_pairs_15 (Nat.le_of_ble_eq_true rfl) gx_c1i (lv' := [some (va_rf (some (gw_mo w))), some (.int (x1)), some (.int (x2)), some (.int (0)), none]) rfl ?_
      exact tX3_pairs_L16 hA hX ih N _ _ _ h
def fX3_pairs (N : Nat) (σ : gm_S)  : Option (Int32) := fX3_pairs_L4 N σ N (0) (0)
set_option maxHeartbeats 4000000 in
theorem tX3_pairs (w : gw_W) (A : Nat → Prop) (hA : ∀ q, gm_A w q → A q) (l : Launch) (N : Nat) (σ : gm_S)  {r : Int32} (h : fX3_pairs N σ = some r) : gx_T (gw_I w A) A l yX3_pairs iX3_pairs 4 [va_rf (some (gw_mo w))] (gm_P w σ) 0 0 (gm_P w σ) (.returned (some (.int r))) := by
  refine gx_T.of (gw_I.inv w A) (by decide) ⟨rfl, rfl⟩ (gx_kR gx_k0) (Nat.le_of_ble_eq_true rfl) (fun X hl hAx hX => ?_)
  subst hl
  subst hAx
  show gx_G X (gm_P w σ) 0 0 [some (va_rf (some (gw_mo w))), none, none, none, none] 0 []
  unfold fX3_pairs at h
  refine gx_iconst (v := 0) hX dX3_pairs_0 (by decide) ?_
  refine gx_istore_n hX dX3_pairs_1 (Nat.le_of_ble_eq_true rfl) gx_c1r (lv' := [some (va_rf (some (gw_mo w))), some (.int (0)), none, none, none]) rfl ?_
  refine gx_iconst (v := 0) hX dX3_pairs_2 (by decide) ?_
  refine gx_istore_n hX dX3_pairs_3 (Nat.le_of_ble_eq_true rfl) gx_c1i (lv' := [some (va_rf (some (gw_mo w))), some (.int (0)), some (.int (0)), none, none]) rfl ?_
  exact tX3_pairs_L4 hA hX  N _ _ h
abbrev iX3_film : gx_M := (RX3, "film", cX3_film, 8, some .int)
theorem dsX3_film : gx_ds yX3_film 7 := by decide +kernel
def fX3_film (σ : gm_S) (x1 : Int32) (x2 : Int32) (x3 : Int32) (x4 : Int32) (x5 : Int32) (x6 : Int32) (x7 : Int32) : Option (gm_S × Int32) := (fX3_in  (x1) (0) (3)).bind fun r1 => if r1 = 0 then some (σ, (-1)) else (fX3_isThousand  (x2)).bind fun r2 => if r2 = 0 then some (σ, (-2)) else (fX3_isThousand  (x3)).bind fun r3 => if r3 = 0 then some (σ, (-2)) else (fX3_isThousand  (x4)).bind fun r4 => if r4 = 0 then some (σ, (-2)) else (fX3_isThousand  (x5)).bind fun r5 => if r5 = 0 then some (σ, (-2)) else (fX3_isThousand  (x6)).bind fun r6 => if r6 = 0 then some (σ, (-2)) else (fX3_in  (x7) ((-1)) (1)).bind fun r7 => if r7 = 0 then some (σ, (-2)) else if gs σ 6 = nI 40 then some (σ, (-4)) else (gm_wr σ 11 ((nI 7) * (gs σ 6)) (x1)).bind fun σ8 => (gm_wr σ8 11 (((nI 7) * (gs σ8 6)) + (1)) (x2)).bind fun σ9 => (gm_wr σ9 11 (((nI 7) * (gs σ9 6)) + (2)) (x3)).bind fun σ10 => (gm_wr σ10 11 (((nI 7) * (gs σ10 6)) + (3)) (x4)).bind fun σ11 => (gm_wr σ11 11 (((nI 7) * (gs σ11 6)) + (4)) (x5)).bind fun σ12 => (gm_wr σ12 11 (((nI 7) * (gs σ12 6)) + (5)) (x6)).bind fun σ13 => (gm_wr σ13 11 (((nI 7) * (gs σ13 6)) + (nI 6)) (x7)).bind fun σ14 => (gm_pt σ14 6 ((gs σ14 6) + (1))).bind fun σ15 => some (σ15, gs σ15 6)
set_option maxHeartbeats 4000000 in
theorem tX3_film (w : gw_W) (A : Nat → Prop) (hA : ∀ q, gm_A w q → A q) (l : Launch) (σ : gm_S) (x1 : Int32) (x2 : Int32) (x3 : Int32) (x4 : Int32) (x5 : Int32) (x6 : Int32) (x7 : Int32) {r : gm_S × Int32} (h : fX3_film σ x1 x2 x3 x4 x5 x6 x7 = some r) : gx_T (gw_I w A) A l yX3_film iX3_film 3 [va_rf (some (gw_mo w)), .int (x1), .int (x2), .int (x3), .int (x4), .int (x5), .int (x6), .int (x7)] (gm_P w σ) 0 0 (gm_P w r.1) (.returned (some (.int r.2))) := by
  refine gx_T.of (gw_I.inv w A) (by decide) ⟨rfl, rfl⟩ (gx_kR (gx_kI (gx_kI (gx_kI (gx_kI (gx_kI (gx_kI (gx_kI gx_k0)))))))) (Nat.le_of_ble_eq_true rfl) (fun X hl hAx hX => ?_)
  subst hl
  subst hAx
  show gx_G X (gm_P w σ) 0 0 [some (va_rf (some (gw_mo w))), some (.int (x1)), some (.int (x2)), some (.int (x3)), some (.int (x4)), some (.int (x5)), some (.int (x6)), some (.int (x7))] 0 []
  unfold fX3_film at h
  refine gx_iload_n hX dX3_film_0 rfl ?_
  refine gx_iconst (v := 0) hX dX3_film_1 (by decide) ?_
  refine gx_iconst (v := 3) hX dX3_film_2 (by decide) ?_
  obtain ⟨r1, hr1, h⟩ := gx_bs h
  refine gx_cS (As := [.int (x1), .int (0), .int (3)]) (rest := []) hX (tX3_in w (gx_A X) (gx_l X) (gm_P w σ) (x1) (0) (3) hr1) (lw_S q1467 q1468 q92 q1469) dsX3_in (by decide) (by decide) rfl (gx_w8 gx_k0 (Nat.le_of_ble_eq_true rfl)) dX3_film_3 ⟨Nat.le_refl _, Nat.le_refl _⟩ rfl ?_
  refine gx_if_ne (tgt := 11) hX dX3_film_6 (by decide) h (fun h => ?_) (fun h => ?_)
  · refine gx_iconst (v := (-1)) hX dX3_film_9 (by decide) ?_
    cases h
    exact gx_iret hX rfl dX3_film_10 rfl ⟨rfl, rfl⟩ (fun _ h => h)
  · refine gx_iload_n hX dX3_film_11 rfl ?_
    obtain ⟨r2, hr2, h⟩ := gx_bs h
    refine gx_cS (As := [.int (x2)]) (rest := []) hX (tX3_isThousand w (gx_A X) (gx_l X) (gm_P w σ) (x2) hr2) (lw_S q1656 q1657 q92 q1658) dsX3_isThousand (by decide) (by decide) rfl (gx_w8 gx_k0 (Nat.le_of_ble_eq_true rfl)) dX3_film_12 ⟨Nat.le_refl _, Nat.le_refl _⟩ rfl ?_
    refine gx_if_eq (tgt := 59) hX dX3_film_15 (by decide) h (fun h => ?_) (fun h => ?_)
    · refine gx_bipush (v := (-2)) hX dX3_film_59 (by decide) ?_
      cases h
      exact gx_iret hX rfl dX3_film_61 rfl ⟨rfl, rfl⟩ (fun _ h => h)
    · refine gx_iload_n hX dX3_film_18 rfl ?_
      obtain ⟨r3, hr3, h⟩ := gx_bs h
      refine gx_cS (As := [.int (x3)]) (rest := []) hX (tX3_isThousand w (gx_A X) (gx_l X) (gm_P w σ) (x3) hr3) (lw_S q1656 q1657 q92 q1658) dsX3_isThousand (by decide) (by decide) rfl (gx_w8 gx_k0 (Nat.le_of_ble_eq_true rfl)) dX3_film_19 ⟨Nat.le_refl _, Nat.le_refl _⟩ rfl ?_
      refine gx_if_eq (tgt := 59) hX dX3_film_22 (by decide) h (fun h => ?_) (fun h => ?_)
      · refine gx_bipush (v := (-2)) hX dX3_film_59 (by decide) ?_
        cases h
        exact gx_iret hX rfl dX3_film_61 rfl ⟨rfl, rfl⟩ (fun _ h => h)
      · refine gx_iload hX dX3_film_25 rfl ?_
        obtain ⟨r4, hr4, h⟩ := gx_bs h
        refine gx_cS (As := [.int (x4)]) (rest := []) hX (tX3_isThousand w (gx_A X) (gx_l X) (gm_P w σ) (x4) hr4) (lw_S q1656 q1657 q92 q1658) dsX3_isThousand (by decide) (by decide) rfl (gx_w8 gx_k0 (Nat.le_of_ble_eq_true rfl)) dX3_film_27 ⟨Nat.le_refl _, Nat.le_refl _⟩ rfl ?_
        refine gx_if_eq (tgt := 59) hX dX3_film_30 (by decide) h (fun h => ?_) (fun h => ?_)
        · refine gx_bipush (v := (-2)) hX dX3_film_59 (by decide) ?_
          cases h
          exact gx_iret hX rfl dX3_film_61 rfl ⟨rfl, rfl⟩ (fun _ h => h)
        · refine gx_iload hX dX3_film_33 rfl ?_
          obtain ⟨r5, hr5, h⟩ := gx_bs h
          refine gx_cS (As := [.int (x5)]) (rest := []) hX (tX3_isThousand w (gx_A X) (gx_l X) (gm_P w σ) (x5) hr5) (lw_S q1656 q1657 q92 q1658) dsX3_isThousand (by decide) (by decide) rfl (gx_w8 gx_k0 (Nat.le_of_ble_eq_true rfl)) dX3_film_35 ⟨Nat.le_refl _, Nat.le_refl _⟩ rfl ?_
          refine gx_if_eq (tgt := 59) hX dX3_film_38 (by decide) h (fun h => ?_) (fun h => ?_)
          · refine gx_bipush (v := (-2)) hX dX3_film_59 (by decide) ?_
            cases h
            exact gx_iret hX rfl dX3_film_61 rfl ⟨rfl, rfl⟩ (fun _ h => h)
          · refine gx_iload hX dX3_film_41 rfl ?_
            obtain ⟨r6, hr6, h⟩ := gx_bs h
            refine gx_cS (As := [.int (x6)]) (rest := []) hX (tX3_isThousand w (gx_A X) (gx_l X) (gm_P w σ) (x6) hr6) (lw_S q1656 q1657 q92 q1658) dsX3_isThousand (by decide) (by decide) rfl (gx_w8 gx_k0 (Nat.le_of_ble_eq_true rfl)) dX3_film_43 ⟨Nat.le_refl _, Nat.le_refl _⟩ rfl ?_
            refine gx_if_eq (tgt := 59) hX dX3_film_46 (by decide) h (fun h => ?_) (fun h => ?_)
            · refine gx_bipush (v := (-2)) hX dX3_film_59 (by decide) ?_
              cases h
              exact gx_iret hX rfl dX3_film_61 rfl ⟨rfl, rfl⟩ (fun _ h => h)
            · refine gx_iload hX dX3_film_49 rfl ?_
              refine gx_iconst (v := (-1)) hX dX3_film_51 (by decide) ?_
              refine gx_iconst (v := 1) hX dX3_film_52 (by decide) ?_
              obtain ⟨r7, hr7, h⟩ := gx_bs h
              refine gx_cS (As := [.int (x7), .int ((-1)), .int (1)]) (rest := []) hX (tX3_in w (gx_A X) (gx_l X) (gm_P w σ) (x7) ((-1)) (1) hr7) (lw_S q1467 q1468 q92 q1469) dsX3_in (by decide) (by decide) rfl (gx_w8 gx_k0 (Nat.le_of_ble_eq_true rfl)) dX3_film_53 ⟨Nat.le_refl _, Nat.le_refl _⟩ rfl ?_
              refine gx_if_ne (tgt := 62) hX dX3_film_56 (by decide) h (fun h => ?_) (fun h => ?_)
              · refine gx_bipush (v := (-2)) hX dX3_film_59 (by decide) ?_
                cases h
                exact gx_iret hX rfl dX3_film_61 rfl ⟨rfl, rfl⟩ (fun _ h => h)
              · refine gx_aload_n hX dX3_film_62 rfl ?_
                refine gm_getI hX 6 (by decide) rfl q1347 rfl dX3_film_63 ?_
                refine gx_bipush (v := nI 40) hX dX3_film_66 (by decide) ?_
                refine gx_icmp_ne (tgt := 74) hX dX3_film_68 (by decide) h (fun h => ?_) (fun h => ?_)
                · refine gx_bipush (v := (-4)) hX dX3_film_71 (by decide) ?_
                  cases h
                  exact gx_iret hX rfl dX3_film_73 rfl ⟨rfl, rfl⟩ (fun _ h => h)
                · refine gx_aload_n hX dX3_film_74 rfl ?_
                  refine gm_getA hX 11 (by decide) (by decide) q1352 rfl dX3_film_75 ?_
                  refine gx_bipush (v := nI 7) hX dX3_film_78 (by decide) ?_
                  refine gx_aload_n hX dX3_film_80 rfl ?_
                  refine gm_getI hX 6 (by decide) rfl q1347 rfl dX3_film_81 ?_
                  refine gx_imul hX dX3_film_84 ?_
                  refine gx_iload_n hX dX3_film_85 rfl ?_
                  refine gm_st hX hA (by decide) dX3_film_86 h (fun σ8 h => ?_)
                  refine gx_aload_n hX dX3_film_87 rfl ?_
                  refine gm_getA hX 11 (by decide) (by decide) q1352 rfl dX3_film_88 ?_
                  refine gx_bipush (v := nI 7) hX dX3_film_91 (by decide) ?_
                  refine gx_aload_n hX dX3_film_93 rfl ?_
                  refine gm_getI hX 6 (by decide) rfl q1347 rfl dX3_film_94 ?_
                  refine gx_imul hX dX3_film_97 ?_
                  refine gx_iconst (v := 1) hX dX3_film_98 (by decide) ?_
                  refine gx_iadd hX dX3_film_99 ?_
                  refine gx_iload_n hX dX3_film_100 rfl ?_
                  refine gm_st hX hA (by decide) dX3_film_101 h (fun σ9 h => ?_)
                  refine gx_aload_n hX dX3_film_102 rfl ?_
                  refine gm_getA hX 11 (by decide) (by decide) q1352 rfl dX3_film_103 ?_
                  refine gx_bipush (v := nI 7) hX dX3_film_106 (by decide) ?_
                  refine gx_aload_n hX dX3_film_108 rfl ?_
                  refine gm_getI hX 6 (by decide) rfl q1347 rfl dX3_film_109 ?_
                  refine gx_imul hX dX3_film_112 ?_
                  refine gx_iconst (v := 2) hX dX3_film_113 (by decide) ?_
                  refine gx_iadd hX dX3_film_114 ?_
                  refine gx_iload_n hX dX3_film_115 rfl ?_
                  refine gm_st hX hA (by decide) dX3_film_116 h (fun σ10 h => ?_)
                  refine gx_aload_n hX dX3_film_117 rfl ?_
                  refine gm_getA hX 11 (by decide) (by decide) q1352 rfl dX3_film_118 ?_
                  refine gx_bipush (v := nI 7) hX dX3_film_121 (by decide) ?_
                  refine gx_aload_n hX dX3_film_123 rfl ?_
                  refine gm_getI hX 6 (by decide) rfl q1347 rfl dX3_film_124 ?_
                  refine gx_imul hX dX3_film_127 ?_
                  refine gx_iconst (v := 3) hX dX3_film_128 (by decide) ?_
                  refine gx_iadd hX dX3_film_129 ?_
                  refine gx_iload hX dX3_film_130 rfl ?_
                  refine gm_st hX hA (by decide) dX3_film_132 h (fun σ11 h => ?_)
                  refine gx_aload_n hX dX3_film_133 rfl ?_
                  refine gm_getA hX 11 (by decide) (by decide) q1352 rfl dX3_film_134 ?_
                  refine gx_bipush (v := nI 7) hX dX3_film_137 (by decide) ?_
                  refine gx_aload_n hX dX3_film_139 rfl ?_
                  refine gm_getI hX 6 (by decide) rfl q1347 rfl dX3_film_140 ?_
                  refine gx_imul hX dX3_film_143 ?_
                  refine gx_iconst (v := 4) hX dX3_film_144 (by decide) ?_
                  refine gx_iadd hX dX3_film_145 ?_
                  refine gx_iload hX dX3_film_146 rfl ?_
                  refine gm_st hX hA (by decide) dX3_film_148 h (fun σ12 h => ?_)
                  refine gx_aload_n hX dX3_film_149 rfl ?_
                  refine gm_getA hX 11 (by decide) (by decide) q1352 rfl dX3_film_150 ?_
                  refine gx_bipush (v := nI 7) hX dX3_film_153 (by decide) ?_
                  refine gx_aload_n hX dX3_film_155 rfl ?_
                  refine gm_getI hX 6 (by decide) rfl q1347 rfl dX3_film_156 ?_
                  refine gx_imul hX dX3_film_159 ?_
                  refine gx_iconst (v := 5) hX dX3_film_160 (by decide) ?_
                  refine gx_iadd hX dX3_film_161 ?_
                  refine gx_iload hX dX3_film_162 rfl ?_
                  refine gm_st hX hA (by decide) dX3_film_164 h (fun σ13 h => ?_)
                  refine gx_aload_n hX dX3_film_165 rfl ?_
                  refine gm_getA hX 11 (by decide) (by decide) q1352 rfl dX3_film_166 ?_
                  refine gx_bipush (v := nI 7) hX dX3_film_169 (by decide) ?_
                  refine gx_aload_n hX dX3_film_171 rfl ?_
                  refine gm_getI hX 6 (by decide) rfl q1347 rfl dX3_film_172 ?_
                  refine gx_imul hX dX3_film_175 ?_
                  refine gx_bipush (v := nI 6) hX dX3_film_176 (by decide) ?_
                  refine gx_iadd hX dX3_film_178 ?_
                  refine gx_iload hX dX3_film_179 rfl ?_
                  refine gm_st hX hA (by decide) dX3_film_181 h (fun σ14 h => ?_)
                  refine gx_aload_n hX dX3_film_182 rfl ?_
                  refine gx_dup hX dX3_film_183 (gx_cat _) ?_
                  refine gm_getI hX 6 (by decide) rfl q1347 rfl dX3_film_184 ?_
                  refine gx_iconst (v := 1) hX dX3_film_187 (by decide) ?_
                  refine gx_iadd hX dX3_film_188 ?_
                  refine gm_putI hX hA (k := 6) ⟨by decide, rfl⟩ q1347 ⟨rfl, rfl⟩ rfl dX3_film_189 h (fun σ15 h => ?_)
                  refine gx_aload_n hX dX3_film_192 rfl ?_
                  refine gm_getI hX 6 (by decide) rfl q1347 rfl dX3_film_193 ?_
                  cases h
                  exact gx_iret hX rfl dX3_film_196 rfl ⟨rfl, rfl⟩ (fun _ h => h)
abbrev iX3_agreeing : gx_M := (RX3, "agreeing", cX3_agreeing, 7, some .int)
theorem dsX3_agreeing : gx_ds yX3_agreeing 2 := by decide +kernel
def fX3_agreeing_B143 (N : Nat)  (K5 : gm_S → Int32 → Int32 → Int32 → Int32 → Option (gm_S × Int32)) (σ : gm_S) (x1 : Int32) (x2 : Int32) (x3 : Int32) (x4 : Int32) : Option (gm_S × Int32) := K5 σ (x1) (x2) (x3) ((x4) + 7)
set_option maxHeartbeats 4000000 in
theorem tX3_agreeing_B143 {w : gw_W} {X : gx_X} {N : Nat} {r : gm_S × Int32} (hA : ∀ q, gm_A w q → gx_A X q) (hX : gx_O (gw_I w (gx_A X)) X iX3_agreeing 4 0 0 (gm_P w r.1) (.returned (some (.int r.2)))) {K5 : gm_S → Int32 → Int32 → Int32 → Int32 → Option (gm_S × Int32)} (hK5 : ∀ (σ : gm_S) (x1 : Int32) (x2 : Int32) (x3 : Int32) (x4 : Int32), K5 σ x1 x2 x3 x4 = some r → gx_G X (gm_P w σ) 0 0 [some (va_rf (some (gw_mo w))), some (.int (x1)), some (.int (x2)), some (.int (x3)), some (.int (x4)), none, none] 5 []) {σ : gm_S} {x1 : Int32} {x2 : Int32} {x3 : Int32} {x4 : Int32} (h : fX3_agreeing_B143 N K5 σ x1 x2 x3 x4 = some r) : gx_G X (gm_P w σ) 0 0 [some (va_rf (some (gw_mo w))), some (.int (x1)), some (.int (x2)), some (.int (x3)), some (.int (x4)), none, none] 143 [] := by
  unfold fX3_agreeing_B143 at h
  refine gx_iinc (v := 7) hX dX3_agreeing_143 rfl (by decide) gx_c1i (lv' := [some (va_rf (some (gw_mo w))), some (.int (x1)), some (.int (x2)), some (.int (x3)), some (.int ((x4) + 7)), none, none]) rfl ?_
  refine gx_goto (tgt := 5) hX dX3_agreeing_146 (by decide) ?_
  exact hK5 _ _ _ _ _ h
def fX3_agreeing_B141 (N : Nat)  (K5 : gm_S → Int32 → Int32 → Int32 → Int32 → Option (gm_S × Int32)) (σ : gm_S) (x1 : Int32) (x2 : Int32) (x4 : Int32) (y0 : Int32) (y1 : Int32) : Option (gm_S × Int32) := fX3_agreeing_B143 N K5 σ (x1) (x2) ((y1) + (y0)) (x4)
set_option maxHeartbeats 4000000 in
theorem tX3_agreeing_B141 {w : gw_W} {X : gx_X} {N : Nat} {r : gm_S × Int32} (hA : ∀ q, gm_A w q → gx_A X q) (hX : gx_O (gw_I w (gx_A X)) X iX3_agreeing 4 0 0 (gm_P w r.1) (.returned (some (.int r.2)))) {K5 : gm_S → Int32 → Int32 → Int32 → Int32 → Option (gm_S × Int32)} (hK5 : ∀ (σ : gm_S) (x1 : Int32) (x2 : Int32) (x3 : Int32) (x4 : Int32), K5 σ x1 x2 x3 x4 = some r → gx_G X (gm_P w σ) 0 0 [some (va_rf (some (gw_mo w))), some (.int (x1)), some (.int (x2)), some (.int (x3)), some (.int (x4)), none, none] 5 []) {σ : gm_S} {x1 : Int32} {x2 : Int32} {x4 : Int32} {y0 : Int32} {y1 : Int32} (h : fX3_agreeing_B141 N K5 σ x1 x2 x4 y0 y1 = some r) : gx_G X (gm_P w σ) 0 0 [some (va_rf (some (gw_mo w))), some (.int (x1)), some (.int (x2)), none, some (.int (x4)), none, none] 141 [.int (y0), .int (y1)] := by
  unfold fX3_agreeing_B141 at h
  refine gx_iadd hX dX3_agreeing_141 ?_
  refine gx_istore_n hX dX3_agreeing_142 (Nat.le_of_ble_eq_true rfl) gx_c1i (lv' := [some (va_rf (some (gw_mo w))), some (.int (x1)), some (.int (x2)), some (.int ((y1) + (y0))), some (.int (x4)), none, none]) rfl ?_
  exact tX3_agreeing_B143 hA hX hK5 h
def fX3_agreeing_B133 (N : Nat)  (K5 : gm_S → Int32 → Int32 → Int32 → Int32 → Option (gm_S × Int32)) (σ : gm_S) (x1 : Int32) (x2 : Int32) (x4 : Int32) (y0 : Int32) (y1 : Int32) (y2 : Int32) : Option (gm_S × Int32) := if y1 = y0 then fX3_agreeing_B141 N K5 σ (x1) (x2) (x4) (1) (y2) else fX3_agreeing_B141 N K5 σ (x1) (x2) (x4) (0) (y2)
set_option maxHeartbeats 4000000 in
theorem tX3_agreeing_B133 {w : gw_W} {X : gx_X} {N : Nat} {r : gm_S × Int32} (hA : ∀ q, gm_A w q → gx_A X q) (hX : gx_O (gw_I w (gx_A X)) X iX3_agreeing 4 0 0 (gm_P w r.1) (.returned (some (.int r.2)))) {K5 : gm_S → Int32 → Int32 → Int32 → Int32 → Option (gm_S × Int32)} (hK5 : ∀ (σ : gm_S) (x1 : Int32) (x2 : Int32) (x3 : Int32) (x4 : Int32), K5 σ x1 x2 x3 x4 = some r → gx_G X (gm_P w σ) 0 0 [some (va_rf (some (gw_mo w))), some (.int (x1)), some (.int (x2)), some (.int (x3)), some (.int (x4)), none, none] 5 []) {σ : gm_S} {x1 : Int32} {x2 : Int32} {x4 : Int32} {y0 : Int32} {y1 : Int32} {y2 : Int32} (h : fX3_agreeing_B133 N K5 σ x1 x2 x4 y0 y1 y2 = some r) : gx_G X (gm_P w σ) 0 0 [some (va_rf (some (gw_mo w))), some (.int (x1)), some (.int (x2)), none, some (.int (x4)), none, none] 133 [.int (y0), .int (y1), .int (y2)] := by
  unfold fX3_agreeing_B133 at h
  refine gx_icmp_ne (tgt := 140) hX dX3_agreeing_133 (by decide) h (fun h => ?_) (fun h => ?_)
  · refine gx_iconst (v := 1) hX dX3_agreeing_136 (by decide) ?_
    refine gx_goto (tgt := 141) hX dX3_agreeing_137 (by decide) ?_
    exact tX3_agreeing_B141 hA hX hK5 h
  · refine gx_iconst (v := 0) hX dX3_agreeing_140 (by decide) ?_
    exact tX3_agreeing_B141 hA hX hK5 h
def fX3_agreeing_B119 (N : Nat)  (K5 : gm_S → Int32 → Int32 → Int32 → Int32 → Option (gm_S × Int32)) (σ : gm_S) (x1 : Int32) (x2 : Int32) (x3 : Int32) (x4 : Int32) (y0 : Int32) : Option (gm_S × Int32) := if x2 = 0 then fX3_agreeing_B133 N K5 σ (x1) (x2) (x4) (1) (y0) (x3) else fX3_agreeing_B133 N K5 σ (x1) (x2) (x4) (0) (y0) (x3)
set_option maxHeartbeats 4000000 in
theorem tX3_agreeing_B119 {w : gw_W} {X : gx_X} {N : Nat} {r : gm_S × Int32} (hA : ∀ q, gm_A w q → gx_A X q) (hX : gx_O (gw_I w (gx_A X)) X iX3_agreeing 4 0 0 (gm_P w r.1) (.returned (some (.int r.2)))) {K5 : gm_S → Int32 → Int32 → Int32 → Int32 → Option (gm_S × Int32)} (hK5 : ∀ (σ : gm_S) (x1 : Int32) (x2 : Int32) (x3 : Int32) (x4 : Int32), K5 σ x1 x2 x3 x4 = some r → gx_G X (gm_P w σ) 0 0 [some (va_rf (some (gw_mo w))), some (.int (x1)), some (.int (x2)), some (.int (x3)), some (.int (x4)), none, none] 5 []) {σ : gm_S} {x1 : Int32} {x2 : Int32} {x3 : Int32} {x4 : Int32} {y0 : Int32} (h : fX3_agreeing_B119 N K5 σ x1 x2 x3 x4 y0 = some r) : gx_G X (gm_P w σ) 0 0 [some (va_rf (some (gw_mo w))), some (.int (x1)), some (.int (x2)), some (.int (x3)), some (.int (x4)), none, none] 119 [.int (y0)] := by
  unfold fX3_agreeing_B119 at h
  refine gx_istore hX dX3_agreeing_119 (Nat.le_of_ble_eq_true rfl) gx_c1n (lv' := [some (va_rf (some (gw_mo w))), some (.int (x1)), some (.int (x2)), some (.int (x3)), some (.int (x4)), none, some (.int (y0))]) rfl ?_
  refine gx_iload_n hX dX3_agreeing_121 rfl ?_
  refine gx_iload hX dX3_agreeing_122 rfl ?_
  refine gx_iload_n hX dX3_agreeing_124 rfl ?_
  refine gx_if_ne (tgt := 132) hX dX3_agreeing_125 (by decide) h (fun h => ?_) (fun h => ?_)
  · refine gx_iconst (v := 1) hX dX3_agreeing_128 (by decide) ?_
    refine gx_goto (tgt := 133) hX dX3_agreeing_129 (by decide) ?_
    refine gx_sub hX (lv' := [some (va_rf (some (gw_mo w))), some (.int (x1)), some (.int (x2)), none, some (.int (x4)), none, none]) ⟨Or.inr rfl, ⟨Or.inr rfl, ⟨Or.inr rfl, ⟨Or.inl rfl, ⟨Or.inr rfl, ⟨Or.inr rfl, ⟨Or.inl rfl, trivial⟩⟩⟩⟩⟩⟩⟩ ?_
    exact tX3_agreeing_B133 hA hX hK5 h
  · refine gx_iconst (v := 0) hX dX3_agreeing_132 (by decide) ?_
    refine gx_sub hX (lv' := [some (va_rf (some (gw_mo w))), some (.int (x1)), some (.int (x2)), none, some (.int (x4)), none, none]) ⟨Or.inr rfl, ⟨Or.inr rfl, ⟨Or.inr rfl, ⟨Or.inl rfl, ⟨Or.inr rfl, ⟨Or.inr rfl, ⟨Or.inl rfl, trivial⟩⟩⟩⟩⟩⟩⟩ ?_
    exact tX3_agreeing_B133 hA hX hK5 h
def fX3_agreeing_B111 (N : Nat)  (K5 : gm_S → Int32 → Int32 → Int32 → Int32 → Option (gm_S × Int32)) (σ : gm_S) (x1 : Int32) (x2 : Int32) (x3 : Int32) (x4 : Int32) (y0 : Int32) (y1 : Int32) : Option (gm_S × Int32) := if y1 = y0 then fX3_agreeing_B119 N K5 σ (x1) (x2) (x3) (x4) (1) else fX3_agreeing_B119 N K5 σ (x1) (x2) (x3) (x4) (0)
set_option maxHeartbeats 4000000 in
theorem tX3_agreeing_B111 {w : gw_W} {X : gx_X} {N : Nat} {r : gm_S × Int32} (hA : ∀ q, gm_A w q → gx_A X q) (hX : gx_O (gw_I w (gx_A X)) X iX3_agreeing 4 0 0 (gm_P w r.1) (.returned (some (.int r.2)))) {K5 : gm_S → Int32 → Int32 → Int32 → Int32 → Option (gm_S × Int32)} (hK5 : ∀ (σ : gm_S) (x1 : Int32) (x2 : Int32) (x3 : Int32) (x4 : Int32), K5 σ x1 x2 x3 x4 = some r → gx_G X (gm_P w σ) 0 0 [some (va_rf (some (gw_mo w))), some (.int (x1)), some (.int (x2)), some (.int (x3)), some (.int (x4)), none, none] 5 []) {σ : gm_S} {x1 : Int32} {x2 : Int32} {x3 : Int32} {x4 : Int32} {y0 : Int32} {y1 : Int32} (h : fX3_agreeing_B111 N K5 σ x1 x2 x3 x4 y0 y1 = some r) : gx_G X (gm_P w σ) 0 0 [some (va_rf (some (gw_mo w))), some (.int (x1)), some (.int (x2)), some (.int (x3)), some (.int (x4)), none, none] 111 [.int (y0), .int (y1)] := by
  unfold fX3_agreeing_B111 at h
  refine gx_icmp_ne (tgt := 118) hX dX3_agreeing_111 (by decide) h (fun h => ?_) (fun h => ?_)
  · refine gx_iconst (v := 1) hX dX3_agreeing_114 (by decide) ?_
    refine gx_goto (tgt := 119) hX dX3_agreeing_115 (by decide) ?_
    exact tX3_agreeing_B119 hA hX hK5 h
  · refine gx_iconst (v := 0) hX dX3_agreeing_118 (by decide) ?_
    exact tX3_agreeing_B119 hA hX hK5 h
def fX3_agreeing_L5 (N : Nat)   : Nat → gm_S → Int32 → Int32 → Int32 → Int32 → Option (gm_S × Int32)
  | 0, _, _, _, _, _ => none
  | k + 1, σ, x1, x2, x3, x4 => if ((nI 7) * (gs σ 6)) ≤ x4 then some (σ, x3) else (gm_rd σ 11 ((x4) + (nI 6))).bind fun v1 => if v1 = (-1) then fX3_agreeing_B143 N (fX3_agreeing_L5 N k) σ (x1) (x2) (x3) (x4) else (gm_rd σ 11 (x4)).bind fun v2 => (gm_rd σ 11 ((x4) + (1))).bind fun v3 => (gm_rd σ 11 ((x4) + (2))).bind fun v4 => (gm_rd σ 11 ((x4) + (3))).bind fun v5 => (gm_rd σ 11 ((x4) + (4))).bind fun v6 => (gm_rd σ 11 ((x4) + (5))).bind fun v7 => (fX3_holdsFor N (σ) (x1) (v2) (v3) (v4) (v5) (v6) (v7)).bind fun r8 => (gm_rd r8.1 11 ((x4) + (nI 6))).bind fun v9 => if v9 = 1 then fX3_agreeing_B111 N (fX3_agreeing_L5 N k) r8.1 (x1) (x2) (x3) (x4) (1) (r8.2) else fX3_agreeing_B111 N (fX3_agreeing_L5 N k) r8.1 (x1) (x2) (x3) (x4) (0) (r8.2)
set_option maxHeartbeats 4000000 in
theorem tX3_agreeing_L5 {w : gw_W} {X : gx_X} {N : Nat} {r : gm_S × Int32} (hA : ∀ q, gm_A w q → gx_A X q) (hX : gx_O (gw_I w (gx_A X)) X iX3_agreeing 4 0 0 (gm_P w r.1) (.returned (some (.int r.2))))  : ∀ (k : Nat) (σ : gm_S) (x1 : Int32) (x2 : Int32) (x3 : Int32) (x4 : Int32), fX3_agreeing_L5 N k σ x1 x2 x3 x4 = some r → gx_G X (gm_P w σ) 0 0 [some (va_rf (some (gw_mo w))), some (.int (x1)), some (.int (x2)), some (.int (x3)), some (.int (x4)), none, none] 5 [] := by
  intro k
  induction k with
  | zero =>
    intro σ x1 x2 x3 x4 h
    unfold fX3_agreeing_L5 at h
    cases h
  | succ k ih =>
    intro σ x1 x2 x3 x4 h
    unfold fX3_agreeing_L5 at h
    refine gx_iload hX dX3_agreeing_5 rfl ?_
    refine gx_bipush (v := nI 7) hX dX3_agreeing_7 (by decide) ?_
    refine gx_aload_n hX dX3_agreeing_9 rfl ?_
    refine gm_getI hX 6 (by decide) rfl q1347 rfl dX3_agreeing_10 ?_
    refine gx_imul hX dX3_agreeing_13 ?_
    refine gx_icmp_ge (tgt := 149) hX dX3_agreeing_14 (by decide) h (fun h => ?_) (fun h => ?_)
    · refine gx_iload_n hX dX3_agreeing_149 rfl ?_
      cases h
      exact gx_iret hX rfl dX3_agreeing_150 rfl ⟨rfl, rfl⟩ (fun _ h => h)
    · refine gx_aload_n hX dX3_agreeing_17 rfl ?_
      refine gm_getA hX 11 (by decide) (by decide) q1352 rfl dX3_agreeing_18 ?_
      refine gx_iload hX dX3_agreeing_21 rfl ?_
      refine gx_bipush (v := nI 6) hX dX3_agreeing_23 (by decide) ?_
      refine gx_iadd hX dX3_agreeing_25 ?_
      refine gm_ld hX (by decide) dX3_agreeing_26 h (fun v1 h => ?_)
      refine gx_iconst (v := (-1)) hX dX3_agreeing_27 (by decide) ?_
      refine gx_icmp_eq (tgt := 143) hX dX3_agreeing_28 (by decide) h (fun h => ?_) (fun h => ?_)
      · exact tX3_agreeing_B143 hA hX ih h
      · refine gx_aload_n hX dX3_agreeing_31 rfl ?_
        refine gx_iload_n hX dX3_agreeing_32 rfl ?_
        refine gx_aload_n hX dX3_agreeing_33 rfl ?_
        refine gm_getA hX 11 (by decide) (by decide) q1352 rfl dX3_agreeing_34 ?_
        refine gx_iload hX dX3_agreeing_37 rfl ?_
        refine gm_ld hX (by decide) dX3_agreeing_39 h (fun v2 h => ?_)
        refine gx_aload_n hX dX3_agreeing_40 rfl ?_
        refine gm_getA hX 11 (by decide) (by decide) q1352 rfl dX3_agreeing_41 ?_
        refine gx_iload hX dX3_agreeing_44 rfl ?_
        refine gx_iconst (v := 1) hX dX3_agreeing_46 (by decide) ?_
        refine gx_iadd hX dX3_agreeing_47 ?_
        refine gm_ld hX (by decide) dX3_agreeing_48 h (fun v3 h => ?_)
        refine gx_aload_n hX dX3_agreeing_49 rfl ?_
        refine gm_getA hX 11 (by decide) (by decide) q1352 rfl dX3_agreeing_50 ?_
        refine gx_iload hX dX3_agreeing_53 rfl ?_
        refine gx_iconst (v := 2) hX dX3_agreeing_55 (by decide) ?_
        refine gx_iadd hX dX3_agreeing_56 ?_
        refine gm_ld hX (by decide) dX3_agreeing_57 h (fun v4 h => ?_)
        refine gx_aload_n hX dX3_agreeing_58 rfl ?_
        refine gm_getA hX 11 (by decide) (by decide) q1352 rfl dX3_agreeing_59 ?_
        refine gx_iload hX dX3_agreeing_62 rfl ?_
        refine gx_iconst (v := 3) hX dX3_agreeing_64 (by decide) ?_
        refine gx_iadd hX dX3_agreeing_65 ?_
        refine gm_ld hX (by decide) dX3_agreeing_66 h (fun v5 h => ?_)
        refine gx_aload_n hX dX3_agreeing_67 rfl ?_
        refine gm_getA hX 11 (by decide) (by decide) q1352 rfl dX3_agreeing_68 ?_
        refine gx_iload hX dX3_agreeing_71 rfl ?_
        refine gx_iconst (v := 4) hX dX3_agreeing_73 (by decide) ?_
        refine gx_iadd hX dX3_agreeing_74 ?_
        refine gm_ld hX (by decide) dX3_agreeing_75 h (fun v6 h => ?_)
        refine gx_aload_n hX dX3_agreeing_76 rfl ?_
        refine gm_getA hX 11 (by decide) (by decide) q1352 rfl dX3_agreeing_77 ?_
        refine gx_iload hX dX3_agreeing_80 rfl ?_
        refine gx_iconst (v := 5) hX dX3_agreeing_82 (by decide) ?_
        refine gx_iadd hX dX3_agreeing_83 ?_
        refine gm_ld hX (by decide) dX3_agreeing_84 h (fun v7 h => ?_)
        obtain ⟨r8, hr8, h⟩ := gx_bs h
        refine gx_cV (As := [.int (x1), .int (v2), .int (v3), .int (v4), .int (v5), .int (v6), .int (v7)]) (rest := []) (b := gw_mo w) hX (tX3_holdsFor w _ hA (gx_l X) N (σ) (x1) (v2) (v3) (v4) (v5) (v6) (v7) hr8) (lw_V q1659 q1661 qs55 q92 q1662) ⟨rfl, dsX3_holdsFor⟩ (by decide) (by decide) (gm_rc hX) rfl (gx_w8 gx_k0 (Nat.le_of_ble_eq_true rfl)) dX3_agreeing_85 ⟨Nat.le_refl _, Nat.le_refl _⟩ rfl ?_
        refine gx_istore hX dX3_agreeing_88 (Nat.le_of_ble_eq_true rfl) gx_c1i (lv' := [some (va_rf (some (gw_mo w))), some (.int (x1)), some (.int (x2)), some (.int (x3)), some (.int (x4)), some (.int (r8.2)), none]) rfl ?_
        refine gx_iload hX dX3_agreeing_90 rfl ?_
        refine gx_aload_n hX dX3_agreeing_92 rfl ?_
        refine gm_getA hX 11 (by decide) (by decide) q1352 rfl dX3_agreeing_93 ?_
        refine gx_iload hX dX3_agreeing_96 rfl ?_
        refine gx_bipush (v := nI 6) hX dX3_agreeing_98 (by decide) ?_
        refine gx_iadd hX dX3_agreeing_100 ?_
        refine gm_ld hX (by decide) dX3_agreeing_101 h (fun v9 h => ?_)
        refine gx_iconst (v := 1) hX dX3_agreeing_102 (by decide) ?_
        refine gx_icmp_ne (tgt := 110) hX dX3_agreeing_103 (by decide) h (fun h => ?_) (fun h => ?_)
        · refine gx_iconst (v := 1) hX dX3_agreeing_106 (by decide) ?_
          refine gx_goto (tgt := 111) hX dX3_agreeing_107 (by decide) ?_
          refine gx_sub hX (lv' := [some (va_rf (some (gw_mo w))), some (.int (x1)), some (.int (x2)), some (.int (x3)), some (.int (x4)), none, none]) ⟨Or.inr rfl, ⟨Or.inr rfl, ⟨Or.inr rfl, ⟨Or.inr rfl, ⟨Or.inr rfl, ⟨Or.inl rfl, ⟨Or.inr rfl, trivial⟩⟩⟩⟩⟩⟩⟩ ?_
          exact tX3_agreeing_B111 hA hX ih h
        · refine gx_iconst (v := 0) hX dX3_agreeing_110 (by decide) ?_
          refine gx_sub hX (lv' := [some (va_rf (some (gw_mo w))), some (.int (x1)), some (.int (x2)), some (.int (x3)), some (.int (x4)), none, none]) ⟨Or.inr rfl, ⟨Or.inr rfl, ⟨Or.inr rfl, ⟨Or.inr rfl, ⟨Or.inr rfl, ⟨Or.inl rfl, ⟨Or.inr rfl, trivial⟩⟩⟩⟩⟩⟩⟩ ?_
          exact tX3_agreeing_B111 hA hX ih h
def fX3_agreeing (N : Nat) (σ : gm_S) (x1 : Int32) (x2 : Int32) : Option (gm_S × Int32) := fX3_agreeing_L5 N N σ (x1) (x2) (0) (0)
set_option maxHeartbeats 4000000 in
theorem tX3_agreeing (w : gw_W) (A : Nat → Prop) (hA : ∀ q, gm_A w q → A q) (l : Launch) (N : Nat) (σ : gm_S) (x1 : Int32) (x2 : Int32) {r : gm_S × Int32} (h : fX3_agreeing N σ x1 x2 = some r) : gx_T (gw_I w A) A l yX3_agreeing iX3_agreeing 4 [va_rf (some (gw_mo w)), .int (x1), .int (x2)] (gm_P w σ) 0 0 (gm_P w r.1) (.returned (some (.int r.2))) := by
  refine gx_T.of (gw_I.inv w A) (by decide) ⟨rfl, rfl⟩ (gx_kR (gx_kI (gx_kI gx_k0))) (Nat.le_of_ble_eq_true rfl) (fun X hl hAx hX => ?_)
  subst hl
  subst hAx
  show gx_G X (gm_P w σ) 0 0 [some (va_rf (some (gw_mo w))), some (.int (x1)), some (.int (x2)), none, none, none, none] 0 []
  unfold fX3_agreeing at h
  refine gx_iconst (v := 0) hX dX3_agreeing_0 (by decide) ?_
  refine gx_istore_n hX dX3_agreeing_1 (Nat.le_of_ble_eq_true rfl) gx_c1i (lv' := [some (va_rf (some (gw_mo w))), some (.int (x1)), some (.int (x2)), some (.int (0)), none, none, none]) rfl ?_
  refine gx_iconst (v := 0) hX dX3_agreeing_2 (by decide) ?_
  refine gx_istore hX dX3_agreeing_3 (Nat.le_of_ble_eq_true rfl) gx_c1i (lv' := [some (va_rf (some (gw_mo w))), some (.int (x1)), some (.int (x2)), some (.int (0)), some (.int (0)), none, none]) rfl ?_
  exact tX3_agreeing_L5 hA hX  N _ _ _ _ _ h
abbrev iX3_reads : gx_M := (RX3, "reads", cX3_reads, 3, some .int)
theorem dsX3_reads : gx_ds yX3_reads 2 := by decide +kernel
def fX3_reads (N : Nat) (σ : gm_S) (x1 : Int32) (x2 : Int32) : Option (gm_S × Int32) := (fX3_isHabit (σ) (x1)).bind fun r1 => if r1 = 0 then some (σ, (-1)) else (fX3_in  (x2) (0) (1)).bind fun r2 => if r2 = 0 then some (σ, (-1)) else (fX3_agreeing N (σ) (x1) (x2)).bind fun r3 => some (r3.1, r3.2)
set_option maxHeartbeats 4000000 in
theorem tX3_reads (w : gw_W) (A : Nat → Prop) (hA : ∀ q, gm_A w q → A q) (l : Launch) (N : Nat) (σ : gm_S) (x1 : Int32) (x2 : Int32) {r : gm_S × Int32} (h : fX3_reads N σ x1 x2 = some r) : gx_T (gw_I w A) A l yX3_reads iX3_reads 5 [va_rf (some (gw_mo w)), .int (x1), .int (x2)] (gm_P w σ) 0 0 (gm_P w r.1) (.returned (some (.int r.2))) := by
  refine gx_T.of (gw_I.inv w A) (by decide) ⟨rfl, rfl⟩ (gx_kR (gx_kI (gx_kI gx_k0))) (Nat.le_of_ble_eq_true rfl) (fun X hl hAx hX => ?_)
  subst hl
  subst hAx
  show gx_G X (gm_P w σ) 0 0 [some (va_rf (some (gw_mo w))), some (.int (x1)), some (.int (x2))] 0 []
  unfold fX3_reads at h
  refine gx_aload_n hX dX3_reads_0 rfl ?_
  refine gx_iload_n hX dX3_reads_1 rfl ?_
  obtain ⟨r1, hr1, h⟩ := gx_bs h
  refine gx_cV (As := [.int (x1)]) (rest := []) (b := gw_mo w) hX (tX3_isHabit w _ hA (gx_l X) (σ) (x1) hr1) (lw_V q1490 q1492 qs36 q92 q1493) ⟨rfl, dsX3_isHabit⟩ (by decide) (by decide) (gm_rc hX) rfl (gx_w8 gx_k0 (Nat.le_of_ble_eq_true rfl)) dX3_reads_2 ⟨Nat.le_refl _, Nat.le_refl _⟩ rfl ?_
  refine gx_if_eq (tgt := 26) hX dX3_reads_5 (by decide) h (fun h => ?_) (fun h => ?_)
  · refine gx_iconst (v := (-1)) hX dX3_reads_26 (by decide) ?_
    cases h
    exact gx_iret hX rfl dX3_reads_27 rfl ⟨rfl, rfl⟩ (fun _ h => h)
  · refine gx_iload_n hX dX3_reads_8 rfl ?_
    refine gx_iconst (v := 0) hX dX3_reads_9 (by decide) ?_
    refine gx_iconst (v := 1) hX dX3_reads_10 (by decide) ?_
    obtain ⟨r2, hr2, h⟩ := gx_bs h
    refine gx_cS (As := [.int (x2), .int (0), .int (1)]) (rest := []) hX (tX3_in w (gx_A X) (gx_l X) (gm_P w σ) (x2) (0) (1) hr2) (lw_S q1467 q1468 q92 q1469) dsX3_in (by decide) (by decide) rfl (gx_w8 gx_k0 (Nat.le_of_ble_eq_true rfl)) dX3_reads_11 ⟨Nat.le_refl _, Nat.le_refl _⟩ rfl ?_
    refine gx_if_eq (tgt := 26) hX dX3_reads_14 (by decide) h (fun h => ?_) (fun h => ?_)
    · refine gx_iconst (v := (-1)) hX dX3_reads_26 (by decide) ?_
      cases h
      exact gx_iret hX rfl dX3_reads_27 rfl ⟨rfl, rfl⟩ (fun _ h => h)
    · refine gx_aload_n hX dX3_reads_17 rfl ?_
      refine gx_iload_n hX dX3_reads_18 rfl ?_
      refine gx_iload_n hX dX3_reads_19 rfl ?_
      obtain ⟨r3, hr3, h⟩ := gx_bs h
      refine gx_cV (As := [.int (x1), .int (x2)]) (rest := []) (b := gw_mo w) hX (tX3_agreeing w _ hA (gx_l X) N (σ) (x1) (x2) hr3) (lw_V q1783 q1785 qs73 q92 q1786) ⟨rfl, dsX3_agreeing⟩ (by decide) (by decide) (gm_rc hX) rfl (gx_w8 gx_k0 (Nat.le_of_ble_eq_true rfl)) dX3_reads_20 ⟨Nat.le_refl _, Nat.le_refl _⟩ rfl ?_
      refine gx_goto (tgt := 27) hX dX3_reads_23 (by decide) ?_
      cases h
      exact gx_iret hX rfl dX3_reads_27 rfl ⟨rfl, rfl⟩ (fun _ h => h)
abbrev iX3_sure : gx_M := (RX3, "sure", cX3_sure, 3, some .int)
theorem dsX3_sure : gx_ds yX3_sure 0 := by decide +kernel
def fX3_sure_B29 (N : Nat)  (K4 : gm_S → Int32 → Int32 → Option (gm_S × Int32)) (σ : gm_S) (x2 : Int32) (y0 : Int32) (y1 : Int32) : Option (gm_S × Int32) := K4 σ ((y1) ||| (y0)) ((x2) + 1)
set_option maxHeartbeats 4000000 in
theorem tX3_sure_B29 {w : gw_W} {X : gx_X} {N : Nat} {r : gm_S × Int32} (hA : ∀ q, gm_A w q → gx_A X q) (hX : gx_O (gw_I w (gx_A X)) X iX3_sure 5 0 0 (gm_P w r.1) (.returned (some (.int r.2)))) {K4 : gm_S → Int32 → Int32 → Option (gm_S × Int32)} (hK4 : ∀ (σ : gm_S) (x1 : Int32) (x2 : Int32), K4 σ x1 x2 = some r → gx_G X (gm_P w σ) 0 0 [some (va_rf (some (gw_mo w))), some (.int (x1)), some (.int (x2))] 4 []) {σ : gm_S} {x2 : Int32} {y0 : Int32} {y1 : Int32} (h : fX3_sure_B29 N K4 σ x2 y0 y1 = some r) : gx_G X (gm_P w σ) 0 0 [some (va_rf (some (gw_mo w))), none, some (.int (x2))] 29 [.int (y0), .int (y1)] := by
  unfold fX3_sure_B29 at h
  refine gx_ior hX dX3_sure_29 ?_
  refine gx_istore_n hX dX3_sure_30 (Nat.le_of_ble_eq_true rfl) gx_c1r (lv' := [some (va_rf (some (gw_mo w))), some (.int ((y1) ||| (y0))), some (.int (x2))]) rfl ?_
  refine gx_iinc (v := 1) hX dX3_sure_31 rfl (by decide) gx_c1i (lv' := [some (va_rf (some (gw_mo w))), some (.int ((y1) ||| (y0))), some (.int ((x2) + 1))]) rfl ?_
  refine gx_goto (tgt := 4) hX dX3_sure_34 (by decide) ?_
  exact hK4 _ _ _ h
def fX3_sure_L4 (N : Nat)   : Nat → gm_S → Int32 → Int32 → Option (gm_S × Int32)
  | 0, _, _, _ => none
  | k + 1, σ, x1, x2 => if (gs σ 5) ≤ x2 then some (σ, x1) else (fX3_agreeing N (σ) (x2) (1)).bind fun r1 => if r1.2 = 0 then fX3_sure_B29 N (fX3_sure_L4 N k) r1.1 (x2) ((1) <<< ((x2) &&& 31)) (x1) else fX3_sure_B29 N (fX3_sure_L4 N k) r1.1 (x2) (0) (x1)
set_option maxHeartbeats 4000000 in
theorem tX3_sure_L4 {w : gw_W} {X : gx_X} {N : Nat} {r : gm_S × Int32} (hA : ∀ q, gm_A w q → gx_A X q) (hX : gx_O (gw_I w (gx_A X)) X iX3_sure 5 0 0 (gm_P w r.1) (.returned (some (.int r.2))))  : ∀ (k : Nat) (σ : gm_S) (x1 : Int32) (x2 : Int32), fX3_sure_L4 N k σ x1 x2 = some r → gx_G X (gm_P w σ) 0 0 [some (va_rf (some (gw_mo w))), some (.int (x1)), some (.int (x2))] 4 [] := by
  intro k
  induction k with
  | zero =>
    intro σ x1 x2 h
    unfold fX3_sure_L4 at h
    cases h
  | succ k ih =>
    intro σ x1 x2 h
    unfold fX3_sure_L4 at h
    refine gx_iload_n hX dX3_sure_4 rfl ?_
    refine gx_aload_n hX dX3_sure_5 rfl ?_
    refine gm_getI hX 5 (by decide) rfl q1346 rfl dX3_sure_6 ?_
    refine gx_icmp_ge (tgt := 37) hX dX3_sure_9 (by decide) h (fun h => ?_) (fun h => ?_)
    · refine gx_iload_n hX dX3_sure_37 rfl ?_
      cases h
      exact gx_iret hX rfl dX3_sure_38 rfl ⟨rfl, rfl⟩ (fun _ h => h)
    · refine gx_iload_n hX dX3_sure_12 rfl ?_
      refine gx_aload_n hX dX3_sure_13 rfl ?_
      refine gx_iload_n hX dX3_sure_14 rfl ?_
      refine gx_iconst (v := 1) hX dX3_sure_15 (by decide) ?_
      obtain ⟨r1, hr1, h⟩ := gx_bs h
      refine gx_cV (As := [.int (x2), .int (1)]) (rest := [.int (x1)]) (b := gw_mo w) hX (tX3_agreeing w _ hA (gx_l X) N (σ) (x2) (1) hr1) (lw_V q1783 q1785 qs73 q92 q1786) ⟨rfl, dsX3_agreeing⟩ (by decide) (by decide) (gm_rc hX) rfl (gx_w8 (gx_kI gx_k0) (Nat.le_of_ble_eq_true rfl)) dX3_sure_16 ⟨Nat.le_refl _, Nat.le_refl _⟩ rfl ?_
      refine gx_if_ne (tgt := 28) hX dX3_sure_19 (by decide) h (fun h => ?_) (fun h => ?_)
      · refine gx_iconst (v := 1) hX dX3_sure_22 (by decide) ?_
        refine gx_iload_n hX dX3_sure_23 rfl ?_
        refine gx_ishl hX dX3_sure_24 ?_
        refine gx_goto (tgt := 29) hX dX3_sure_25 (by decide) ?_
        refine gx_sub hX (lv' := [some (va_rf (some (gw_mo w))), none, some (.int (x2))]) ⟨Or.inr rfl, ⟨Or.inl rfl, ⟨Or.inr rfl, trivial⟩⟩⟩ ?_
        exact tX3_sure_B29 hA hX ih h
      · refine gx_iconst (v := 0) hX dX3_sure_28 (by decide) ?_
        refine gx_sub hX (lv' := [some (va_rf (some (gw_mo w))), none, some (.int (x2))]) ⟨Or.inr rfl, ⟨Or.inl rfl, ⟨Or.inr rfl, trivial⟩⟩⟩ ?_
        exact tX3_sure_B29 hA hX ih h
def fX3_sure (N : Nat) (σ : gm_S)  : Option (gm_S × Int32) := fX3_sure_L4 N N σ (0) (0)
set_option maxHeartbeats 4000000 in
theorem tX3_sure (w : gw_W) (A : Nat → Prop) (hA : ∀ q, gm_A w q → A q) (l : Launch) (N : Nat) (σ : gm_S)  {r : gm_S × Int32} (h : fX3_sure N σ = some r) : gx_T (gw_I w A) A l yX3_sure iX3_sure 5 [va_rf (some (gw_mo w))] (gm_P w σ) 0 0 (gm_P w r.1) (.returned (some (.int r.2))) := by
  refine gx_T.of (gw_I.inv w A) (by decide) ⟨rfl, rfl⟩ (gx_kR gx_k0) (Nat.le_of_ble_eq_true rfl) (fun X hl hAx hX => ?_)
  subst hl
  subst hAx
  show gx_G X (gm_P w σ) 0 0 [some (va_rf (some (gw_mo w))), none, none] 0 []
  unfold fX3_sure at h
  refine gx_iconst (v := 0) hX dX3_sure_0 (by decide) ?_
  refine gx_istore_n hX dX3_sure_1 (Nat.le_of_ble_eq_true rfl) gx_c1r (lv' := [some (va_rf (some (gw_mo w))), some (.int (0)), none]) rfl ?_
  refine gx_iconst (v := 0) hX dX3_sure_2 (by decide) ?_
  refine gx_istore_n hX dX3_sure_3 (Nat.le_of_ble_eq_true rfl) gx_c1i (lv' := [some (va_rf (some (gw_mo w))), some (.int (0)), some (.int (0))]) rfl ?_
  exact tX3_sure_L4 hA hX  N _ _ _ h
abbrev iX3_numberOf : gx_M := (RX3, "numberOf", cX3_numberOf, 5, some .int)
theorem dsX3_numberOf : gx_ds yX3_numberOf 2 := by decide +kernel
def fX3_numberOf_B55 (N : Nat) (σ : gm_S) (K9 : Int32 → Int32 → Int32 → Int32 → Option (Int32)) (x1 : Int32) (x2 : Int32) (x3 : Int32) (x4 : Int32) : Option (Int32) := K9 (x1) (x2) (x3) ((x4) + 1)
set_option maxHeartbeats 4000000 in
theorem tX3_numberOf_B55 {w : gw_W} {X : gx_X} {N : Nat} {σ : gm_S} {r : Int32} (hA : ∀ q, gm_A w q → gx_A X q) (hX : gx_O (gw_I w (gx_A X)) X iX3_numberOf 1 0 0 (gm_P w σ) (.returned (some (.int r)))) {K9 : Int32 → Int32 → Int32 → Int32 → Option (Int32)} (hK9 : ∀ (x1 : Int32) (x2 : Int32) (x3 : Int32) (x4 : Int32), K9 x1 x2 x3 x4 = some r → gx_G X (gm_P w σ) 0 0 [some (va_rf (some (gw_mo w))), some (.int (x1)), some (.int (x2)), some (.int (x3)), some (.int (x4))] 9 []) {x1 : Int32} {x2 : Int32} {x3 : Int32} {x4 : Int32} (h : fX3_numberOf_B55 N σ K9 x1 x2 x3 x4 = some r) : gx_G X (gm_P w σ) 0 0 [some (va_rf (some (gw_mo w))), some (.int (x1)), some (.int (x2)), some (.int (x3)), some (.int (x4))] 55 [] := by
  unfold fX3_numberOf_B55 at h
  refine gx_iinc (v := 1) hX dX3_numberOf_55 rfl (by decide) gx_c1i (lv' := [some (va_rf (some (gw_mo w))), some (.int (x1)), some (.int (x2)), some (.int (x3)), some (.int ((x4) + 1))]) rfl ?_
  refine gx_goto (tgt := 9) hX dX3_numberOf_58 (by decide) ?_
  exact hK9 _ _ _ _ h
def fX3_numberOf_L9 (N : Nat) (σ : gm_S)  : Nat → Int32 → Int32 → Int32 → Int32 → Option (Int32)
  | 0, _, _, _, _ => none
  | k + 1, x1, x2, x3, x4 => (gm_rd σ 18 (x1)).bind fun v1 => if (((nI 140) * (x1)) + (v1)) ≤ x4 then some ((-1)) else (gm_rd σ 17 (x4)).bind fun v2 => if (v2) < 0 then fX3_numberOf_B55 N σ (fX3_numberOf_L9 N σ k) (x1) (x2) (x3) (x4) else if x3 = x2 then (gm_rd σ 17 (x4)).bind fun v3 => (gx_dv (v3) (nI 32)).bind fun v4 => some (v4) else fX3_numberOf_B55 N σ (fX3_numberOf_L9 N σ k) (x1) (x2) ((x3) + 1) (x4)
set_option maxHeartbeats 4000000 in
theorem tX3_numberOf_L9 {w : gw_W} {X : gx_X} {N : Nat} {σ : gm_S} {r : Int32} (hA : ∀ q, gm_A w q → gx_A X q) (hX : gx_O (gw_I w (gx_A X)) X iX3_numberOf 1 0 0 (gm_P w σ) (.returned (some (.int r))))  : ∀ (k : Nat) (x1 : Int32) (x2 : Int32) (x3 : Int32) (x4 : Int32), fX3_numberOf_L9 N σ k x1 x2 x3 x4 = some r → gx_G X (gm_P w σ) 0 0 [some (va_rf (some (gw_mo w))), some (.int (x1)), some (.int (x2)), some (.int (x3)), some (.int (x4))] 9 [] := by
  intro k
  induction k with
  | zero =>
    intro x1 x2 x3 x4 h
    unfold fX3_numberOf_L9 at h
    cases h
  | succ k ih =>
    intro x1 x2 x3 x4 h
    unfold fX3_numberOf_L9 at h
    refine gx_iload hX dX3_numberOf_9 rfl ?_
    refine gx_sipush (v := nI 140) hX dX3_numberOf_11 (by decide) ?_
    refine gx_iload_n hX dX3_numberOf_14 rfl ?_
    refine gx_imul hX dX3_numberOf_15 ?_
    refine gx_aload_n hX dX3_numberOf_16 rfl ?_
    refine gm_getA hX 18 (by decide) (by decide) q1359 rfl dX3_numberOf_17 ?_
    refine gx_iload_n hX dX3_numberOf_20 rfl ?_
    refine gm_ld hX (by decide) dX3_numberOf_21 h (fun v1 h => ?_)
    refine gx_iadd hX dX3_numberOf_22 ?_
    refine gx_icmp_ge (tgt := 61) hX dX3_numberOf_23 (by decide) h (fun h => ?_) (fun h => ?_)
    · refine gx_iconst (v := (-1)) hX dX3_numberOf_61 (by decide) ?_
      cases h
      exact gx_iret hX rfl dX3_numberOf_62 rfl ⟨rfl, rfl⟩ (fun _ h => h)
    · refine gx_aload_n hX dX3_numberOf_26 rfl ?_
      refine gm_getA hX 17 (by decide) (by decide) q1358 rfl dX3_numberOf_27 ?_
      refine gx_iload hX dX3_numberOf_30 rfl ?_
      refine gm_ld hX (by decide) dX3_numberOf_32 h (fun v2 h => ?_)
      refine gx_if_lt (tgt := 55) hX dX3_numberOf_33 (by decide) h (fun h => ?_) (fun h => ?_)
      · exact tX3_numberOf_B55 hA hX ih h
      · refine gx_iload_n hX dX3_numberOf_36 rfl ?_
        refine gx_iload_n hX dX3_numberOf_37 rfl ?_
        refine gx_icmp_ne (tgt := 52) hX dX3_numberOf_38 (by decide) h (fun h => ?_) (fun h => ?_)
        · refine gx_aload_n hX dX3_numberOf_41 rfl ?_
          refine gm_getA hX 17 (by decide) (by decide) q1358 rfl dX3_numberOf_42 ?_
          refine gx_iload hX dX3_numberOf_45 rfl ?_
          refine gm_ld hX (by decide) dX3_numberOf_47 h (fun v3 h => ?_)
          refine gx_bipush (v := nI 32) hX dX3_numberOf_48 (by decide) ?_
          refine gx_idivP hX dX3_numberOf_50 h (fun v4 h => ?_)
          cases h
          exact gx_iret hX rfl dX3_numberOf_51 rfl ⟨rfl, rfl⟩ (fun _ h => h)
        · refine gx_iinc (v := 1) hX dX3_numberOf_52 rfl (by decide) gx_c1i (lv' := [some (va_rf (some (gw_mo w))), some (.int (x1)), some (.int (x2)), some (.int ((x3) + 1)), some (.int (x4))]) rfl ?_
          exact tX3_numberOf_B55 hA hX ih h
def fX3_numberOf (N : Nat) (σ : gm_S) (x1 : Int32) (x2 : Int32) : Option (Int32) := fX3_numberOf_L9 N σ N (x1) (x2) (0) ((nI 140) * (x1))
set_option maxHeartbeats 4000000 in
theorem tX3_numberOf (w : gw_W) (A : Nat → Prop) (hA : ∀ q, gm_A w q → A q) (l : Launch) (N : Nat) (σ : gm_S) (x1 : Int32) (x2 : Int32) {r : Int32} (h : fX3_numberOf N σ x1 x2 = some r) : gx_T (gw_I w A) A l yX3_numberOf iX3_numberOf 1 [va_rf (some (gw_mo w)), .int (x1), .int (x2)] (gm_P w σ) 0 0 (gm_P w σ) (.returned (some (.int r))) := by
  refine gx_T.of (gw_I.inv w A) (by decide) ⟨rfl, rfl⟩ (gx_kR (gx_kI (gx_kI gx_k0))) (Nat.le_of_ble_eq_true rfl) (fun X hl hAx hX => ?_)
  subst hl
  subst hAx
  show gx_G X (gm_P w σ) 0 0 [some (va_rf (some (gw_mo w))), some (.int (x1)), some (.int (x2)), none, none] 0 []
  unfold fX3_numberOf at h
  refine gx_iconst (v := 0) hX dX3_numberOf_0 (by decide) ?_
  refine gx_istore_n hX dX3_numberOf_1 (Nat.le_of_ble_eq_true rfl) gx_c1i (lv' := [some (va_rf (some (gw_mo w))), some (.int (x1)), some (.int (x2)), some (.int (0)), none]) rfl ?_
  refine gx_sipush (v := nI 140) hX dX3_numberOf_2 (by decide) ?_
  refine gx_iload_n hX dX3_numberOf_5 rfl ?_
  refine gx_imul hX dX3_numberOf_6 ?_
  refine gx_istore hX dX3_numberOf_7 (Nat.le_of_ble_eq_true rfl) gx_c1i (lv' := [some (va_rf (some (gw_mo w))), some (.int (x1)), some (.int (x2)), some (.int (0)), some (.int ((nI 140) * (x1)))]) rfl ?_
  exact tX3_numberOf_L9 hA hX  N _ _ _ _ h
abbrev iX3_pointsBehind : gx_M := (RX3, "pointsBehind", cX3_pointsBehind, 7, some .int)
theorem dsX3_pointsBehind : gx_ds yX3_pointsBehind 4 := by decide +kernel
def fX3_pointsBehind_L80 (N : Nat)   : Nat → gm_S → Int32 → Int32 → Option (gm_S × Int32)
  | 0, _, _, _ => none
  | k + 1, σ, x5, x6 => if (nI 240) ≤ x6 then some (σ, x5) else (gm_rd σ 3 (x6)).bind fun v6 => (gm_wr σ 1 (x6) (v6)).bind fun σ7 => (fX3_pointsBehind_L80 N k) σ7 (x5) ((x6) + 1)
set_option maxHeartbeats 4000000 in
theorem tX3_pointsBehind_L80 {w : gw_W} {X : gx_X} {N : Nat} {r : gm_S × Int32} (hA : ∀ q, gm_A w q → gx_A X q) (hX : gx_O (gw_I w (gx_A X)) X iX3_pointsBehind 8 0 0 (gm_P w r.1) (.returned (some (.int r.2))))  : ∀ (k : Nat) (σ : gm_S) (x5 : Int32) (x6 : Int32), fX3_pointsBehind_L80 N k σ x5 x6 = some r → gx_G X (gm_P w σ) 0 0 [some (va_rf (some (gw_mo w))), none, none, none, none, some (.int (x5)), some (.int (x6))] 80 [] := by
  intro k
  induction k with
  | zero =>
    intro σ x5 x6 h
    unfold fX3_pointsBehind_L80 at h
    cases h
  | succ k ih =>
    intro σ x5 x6 h
    unfold fX3_pointsBehind_L80 at h
    refine gx_iload hX dX3_pointsBehind_80 rfl ?_
    refine gx_sipush (v := nI 240) hX dX3_pointsBehind_82 (by decide) ?_
    refine gx_icmp_ge (tgt := 108) hX dX3_pointsBehind_85 (by decide) h (fun h => ?_) (fun h => ?_)
    · refine gx_iload hX dX3_pointsBehind_108 rfl ?_
      cases h
      exact gx_iret hX rfl dX3_pointsBehind_110 rfl ⟨rfl, rfl⟩ (fun _ h => h)
    · refine gx_aload_n hX dX3_pointsBehind_88 rfl ?_
      refine gm_getA hX 1 (by decide) (by decide) q1342 rfl dX3_pointsBehind_89 ?_
      refine gx_iload hX dX3_pointsBehind_92 rfl ?_
      refine gx_aload_n hX dX3_pointsBehind_94 rfl ?_
      refine gm_getA hX 3 (by decide) (by decide) q1344 rfl dX3_pointsBehind_95 ?_
      refine gx_iload hX dX3_pointsBehind_98 rfl ?_
      refine gm_ld hX (by decide) dX3_pointsBehind_100 h (fun v6 h => ?_)
      refine gm_st hX hA (by decide) dX3_pointsBehind_101 h (fun σ7 h => ?_)
      refine gx_iinc (v := 1) hX dX3_pointsBehind_102 rfl (by decide) gx_c1i (lv' := [some (va_rf (some (gw_mo w))), none, none, none, none, some (.int (x5)), some (.int ((x6) + 1))]) rfl ?_
      refine gx_goto (tgt := 80) hX dX3_pointsBehind_105 (by decide) ?_
      exact ih _ _ _ h
def fX3_pointsBehind_L49 (N : Nat)   : Nat → gm_S → Int32 → Int32 → Option (gm_S × Int32)
  | 0, _, _, _ => none
  | k + 1, σ, x4, x5 => if (x4) ≤ x5 then (gm_pt σ 22 ((-1))).bind fun σ4 => (fX3_points N (σ4)).bind fun r5 => fX3_pointsBehind_L80 N N σ4 (r5) (0) else (fX3_ticks N (σ)).bind fun r8 => (fX3_pointsBehind_L49 N k) r8 (x4) ((x5) + 1)
set_option maxHeartbeats 4000000 in
theorem tX3_pointsBehind_L49 {w : gw_W} {X : gx_X} {N : Nat} {r : gm_S × Int32} (hA : ∀ q, gm_A w q → gx_A X q) (hX : gx_O (gw_I w (gx_A X)) X iX3_pointsBehind 8 0 0 (gm_P w r.1) (.returned (some (.int r.2))))  : ∀ (k : Nat) (σ : gm_S) (x4 : Int32) (x5 : Int32), fX3_pointsBehind_L49 N k σ x4 x5 = some r → gx_G X (gm_P w σ) 0 0 [some (va_rf (some (gw_mo w))), none, none, none, some (.int (x4)), some (.int (x5)), none] 49 [] := by
  intro k
  induction k with
  | zero =>
    intro σ x4 x5 h
    unfold fX3_pointsBehind_L49 at h
    cases h
  | succ k ih =>
    intro σ x4 x5 h
    unfold fX3_pointsBehind_L49 at h
    refine gx_iload hX dX3_pointsBehind_49 rfl ?_
    refine gx_iload hX dX3_pointsBehind_51 rfl ?_
    refine gx_icmp_ge (tgt := 66) hX dX3_pointsBehind_53 (by decide) h (fun h => ?_) (fun h => ?_)
    · refine gx_aload_n hX dX3_pointsBehind_66 rfl ?_
      refine gx_iconst (v := (-1)) hX dX3_pointsBehind_67 (by decide) ?_
      refine gm_putI hX hA (k := 22) ⟨by decide, rfl⟩ q1363 ⟨rfl, rfl⟩ rfl dX3_pointsBehind_68 h (fun σ4 h => ?_)
      refine gx_aload_n hX dX3_pointsBehind_71 rfl ?_
      obtain ⟨r5, hr5, h⟩ := gx_bs h
      refine gx_cV (As := []) (rest := []) (b := gw_mo w) hX (tX3_points w _ hA (gx_l X) N (σ4)  hr5) (lw_V q1799 q1720 q1721 q92 q1722) ⟨rfl, dsX3_points⟩ (by decide) (by decide) (gm_rc hX) rfl (gx_w8 gx_k0 (Nat.le_of_ble_eq_true rfl)) dX3_pointsBehind_72 ⟨Nat.le_refl _, Nat.le_refl _⟩ rfl ?_
      refine gx_istore hX dX3_pointsBehind_75 (Nat.le_of_ble_eq_true rfl) gx_c1i (lv' := [some (va_rf (some (gw_mo w))), none, none, none, some (.int (x4)), some (.int (r5)), none]) rfl ?_
      refine gx_iconst (v := 0) hX dX3_pointsBehind_77 (by decide) ?_
      refine gx_istore hX dX3_pointsBehind_78 (Nat.le_of_ble_eq_true rfl) gx_c1i (lv' := [some (va_rf (some (gw_mo w))), none, none, none, some (.int (x4)), some (.int (r5)), some (.int (0))]) rfl ?_
      refine gx_sub hX (lv' := [some (va_rf (some (gw_mo w))), none, none, none, none, some (.int (r5)), some (.int (0))]) ⟨Or.inr rfl, ⟨Or.inr rfl, ⟨Or.inr rfl, ⟨Or.inr rfl, ⟨Or.inl rfl, ⟨Or.inr rfl, ⟨Or.inr rfl, trivial⟩⟩⟩⟩⟩⟩⟩ ?_
      exact tX3_pointsBehind_L80 hA hX  N _ _ _ h
    · refine gx_aload_n hX dX3_pointsBehind_56 rfl ?_
      obtain ⟨r8, hr8, h⟩ := gx_bs h
      refine gx_cV (As := []) (rest := []) (b := gw_mo w) hX (tX3_ticks w _ hA (gx_l X) N (σ)  hr8) (lw_V q1679 q1681 qs58 q92 q1682) ⟨rfl, dsX3_ticks⟩ (by decide) (by decide) (gm_rc hX) rfl (gx_w8 gx_k0 (Nat.le_of_ble_eq_true rfl)) dX3_pointsBehind_57 ⟨Nat.le_refl _, Nat.le_refl _⟩ rfl ?_
      refine gx_iinc (v := 1) hX dX3_pointsBehind_60 rfl (by decide) gx_c1i (lv' := [some (va_rf (some (gw_mo w))), none, none, none, some (.int (x4)), some (.int ((x5) + 1)), none]) rfl ?_
      refine gx_goto (tgt := 49) hX dX3_pointsBehind_63 (by decide) ?_
      exact ih _ _ _ h
def fX3_pointsBehind_L3 (N : Nat)   : Nat → gm_S → Int32 → Int32 → Int32 → Int32 → Int32 → Option (gm_S × Int32)
  | 0, _, _, _, _, _, _ => none
  | k + 1, σ, x1, x2, x3, x4, x5 => if (nI 240) ≤ x5 then (gm_pt σ 22 (x1)).bind fun σ1 => (gm_pt σ1 20 (x2)).bind fun σ2 => (gm_pt σ2 21 (x3)).bind fun σ3 => fX3_pointsBehind_L49 N N σ3 (x4) (0) else (gm_rd σ 1 (x5)).bind fun v9 => (gm_wr σ 3 (x5) (v9)).bind fun σ10 => (fX3_pointsBehind_L3 N k) σ10 (x1) (x2) (x3) (x4) ((x5) + 1)
set_option maxHeartbeats 4000000 in
theorem tX3_pointsBehind_L3 {w : gw_W} {X : gx_X} {N : Nat} {r : gm_S × Int32} (hA : ∀ q, gm_A w q → gx_A X q) (hX : gx_O (gw_I w (gx_A X)) X iX3_pointsBehind 8 0 0 (gm_P w r.1) (.returned (some (.int r.2))))  : ∀ (k : Nat) (σ : gm_S) (x1 : Int32) (x2 : Int32) (x3 : Int32) (x4 : Int32) (x5 : Int32), fX3_pointsBehind_L3 N k σ x1 x2 x3 x4 x5 = some r → gx_G X (gm_P w σ) 0 0 [some (va_rf (some (gw_mo w))), some (.int (x1)), some (.int (x2)), some (.int (x3)), some (.int (x4)), some (.int (x5)), none] 3 [] := by
  intro k
  induction k with
  | zero =>
    intro σ x1 x2 x3 x4 x5 h
    unfold fX3_pointsBehind_L3 at h
    cases h
  | succ k ih =>
    intro σ x1 x2 x3 x4 x5 h
    unfold fX3_pointsBehind_L3 at h
    refine gx_iload hX dX3_pointsBehind_3 rfl ?_
    refine gx_sipush (v := nI 240) hX dX3_pointsBehind_5 (by decide) ?_
    refine gx_icmp_ge (tgt := 31) hX dX3_pointsBehind_8 (by decide) h (fun h => ?_) (fun h => ?_)
    · refine gx_aload_n hX dX3_pointsBehind_31 rfl ?_
      refine gx_iload_n hX dX3_pointsBehind_32 rfl ?_
      refine gm_putI hX hA (k := 22) ⟨by decide, rfl⟩ q1363 ⟨rfl, rfl⟩ rfl dX3_pointsBehind_33 h (fun σ1 h => ?_)
      refine gx_aload_n hX dX3_pointsBehind_36 rfl ?_
      refine gx_iload_n hX dX3_pointsBehind_37 rfl ?_
      refine gm_putI hX hA (k := 20) ⟨by decide, rfl⟩ q1361 ⟨rfl, rfl⟩ rfl dX3_pointsBehind_38 h (fun σ2 h => ?_)
      refine gx_aload_n hX dX3_pointsBehind_41 rfl ?_
      refine gx_iload_n hX dX3_pointsBehind_42 rfl ?_
      refine gm_putI hX hA (k := 21) ⟨by decide, rfl⟩ q1362 ⟨rfl, rfl⟩ rfl dX3_pointsBehind_43 h (fun σ3 h => ?_)
      refine gx_iconst (v := 0) hX dX3_pointsBehind_46 (by decide) ?_
      refine gx_istore hX dX3_pointsBehind_47 (Nat.le_of_ble_eq_true rfl) gx_c1i (lv' := [some (va_rf (some (gw_mo w))), some (.int (x1)), some (.int (x2)), some (.int (x3)), some (.int (x4)), some (.int (0)), none]) rfl ?_
      refine gx_sub hX (lv' := [some (va_rf (some (gw_mo w))), none, none, none, some (.int (x4)), some (.int (0)), none]) ⟨Or.inr rfl, ⟨Or.inl rfl, ⟨Or.inl rfl, ⟨Or.inl rfl, ⟨Or.inr rfl, ⟨Or.inr rfl, ⟨Or.inr rfl, trivial⟩⟩⟩⟩⟩⟩⟩ ?_
      exact tX3_pointsBehind_L49 hA hX  N _ _ _ h
    · refine gx_aload_n hX dX3_pointsBehind_11 rfl ?_
      refine gm_getA hX 3 (by decide) (by decide) q1344 rfl dX3_pointsBehind_12 ?_
      refine gx_iload hX dX3_pointsBehind_15 rfl ?_
      refine gx_aload_n hX dX3_pointsBehind_17 rfl ?_
      refine gm_getA hX 1 (by decide) (by decide) q1342 rfl dX3_pointsBehind_18 ?_
      refine gx_iload hX dX3_pointsBehind_21 rfl ?_
      refine gm_ld hX (by decide) dX3_pointsBehind_23 h (fun v9 h => ?_)
      refine gm_st hX hA (by decide) dX3_pointsBehind_24 h (fun σ10 h => ?_)
      refine gx_iinc (v := 1) hX dX3_pointsBehind_25 rfl (by decide) gx_c1i (lv' := [some (va_rf (some (gw_mo w))), some (.int (x1)), some (.int (x2)), some (.int (x3)), some (.int (x4)), some (.int ((x5) + 1)), none]) rfl ?_
      refine gx_goto (tgt := 3) hX dX3_pointsBehind_28 (by decide) ?_
      exact ih _ _ _ _ _ _ h
def fX3_pointsBehind (N : Nat) (σ : gm_S) (x1 : Int32) (x2 : Int32) (x3 : Int32) (x4 : Int32) : Option (gm_S × Int32) := fX3_pointsBehind_L3 N N σ (x1) (x2) (x3) (x4) (0)
set_option maxHeartbeats 4000000 in
theorem tX3_pointsBehind (w : gw_W) (A : Nat → Prop) (hA : ∀ q, gm_A w q → A q) (l : Launch) (N : Nat) (σ : gm_S) (x1 : Int32) (x2 : Int32) (x3 : Int32) (x4 : Int32) {r : gm_S × Int32} (h : fX3_pointsBehind N σ x1 x2 x3 x4 = some r) : gx_T (gw_I w A) A l yX3_pointsBehind iX3_pointsBehind 8 [va_rf (some (gw_mo w)), .int (x1), .int (x2), .int (x3), .int (x4)] (gm_P w σ) 0 0 (gm_P w r.1) (.returned (some (.int r.2))) := by
  refine gx_T.of (gw_I.inv w A) (by decide) ⟨rfl, rfl⟩ (gx_kR (gx_kI (gx_kI (gx_kI (gx_kI gx_k0))))) (Nat.le_of_ble_eq_true rfl) (fun X hl hAx hX => ?_)
  subst hl
  subst hAx
  show gx_G X (gm_P w σ) 0 0 [some (va_rf (some (gw_mo w))), some (.int (x1)), some (.int (x2)), some (.int (x3)), some (.int (x4)), none, none] 0 []
  unfold fX3_pointsBehind at h
  refine gx_iconst (v := 0) hX dX3_pointsBehind_0 (by decide) ?_
  refine gx_istore hX dX3_pointsBehind_1 (Nat.le_of_ble_eq_true rfl) gx_c1i (lv' := [some (va_rf (some (gw_mo w))), some (.int (x1)), some (.int (x2)), some (.int (x3)), some (.int (x4)), some (.int (0)), none]) rfl ?_
  exact tX3_pointsBehind_L3 hA hX  N _ _ _ _ _ _ h
