set_option maxRecDepth 100000
abbrev iX3_housedTick : gx_M := (RX3, "housedTick", cX3_housedTick, 6, none)
theorem dsX3_housedTick : gx_ds yX3_housedTick 1 := by decide +kernel
def fX3_housedTick_B215 (N : Nat)   (σ : gm_S) (x1 : Int32) (x2 : Int32) (x3 : Int32) : Option (gm_S) := if x2 = (-1) then some σ else (fX3_asks N (σ) (x1) (3) (x3) (0) (0)).bind fun r7 => if r7.2 = 0 then some r7.1 else (gm_wr r7.1 1 ((nI 226) + (x1)) (1)).bind fun σ8 => some σ8
set_option maxHeartbeats 4000000 in
theorem tX3_housedTick_B215 {w : gw_W} {X : gx_X} {N : Nat} {r : gm_S} (hA : ∀ q, gm_A w q → gx_A X q) (hX : gx_O (gw_I w (gx_A X)) X iX3_housedTick 6 0 0 (gm_P w r) (.returned (none)))  {σ : gm_S} {x1 : Int32} {x2 : Int32} {x3 : Int32} (h : fX3_housedTick_B215 N σ x1 x2 x3 = some r) : gx_G X (gm_P w σ) 0 0 [some (va_rf (some (gw_mo w))), some (.int (x1)), some (.int (x2)), some (.int (x3)), none, none] 215 [] := by
  unfold fX3_housedTick_B215 at h
  refine gx_iload_n hX dX3_housedTick_215 rfl ?_
  refine gx_iconst (v := (-1)) hX dX3_housedTick_216 (by decide) ?_
  refine gx_icmp_eq (tgt := 243) hX dX3_housedTick_217 (by decide) h (fun h => ?_) (fun h => ?_)
  · cases h
    exact gx_vret hX rfl dX3_housedTick_243 rfl ⟨rfl, rfl⟩ (fun _ h => h)
  · refine gx_aload_n hX dX3_housedTick_220 rfl ?_
    refine gx_iload_n hX dX3_housedTick_221 rfl ?_
    refine gx_iconst (v := 3) hX dX3_housedTick_222 (by decide) ?_
    refine gx_iload_n hX dX3_housedTick_223 rfl ?_
    refine gx_iconst (v := 0) hX dX3_housedTick_224 (by decide) ?_
    refine gx_iconst (v := 0) hX dX3_housedTick_225 (by decide) ?_
    obtain ⟨r7, hr7, h⟩ := gx_bs h
    refine gx_cV (As := [.int (x1), .int (3), .int (x3), .int (0), .int (0)]) (rest := []) (b := gw_mo w) hX (tX3_asks w _ hA (gx_l X) N (σ) (x1) (3) (x3) (0) (0) hr7) (lw_V q1699 q1701 qs63 q92 q1702) ⟨rfl, dsX3_asks⟩ (by decide) (by decide) (gm_rc hX) rfl (gx_w8 gx_k0 (Nat.le_of_ble_eq_true rfl)) dX3_housedTick_226 ⟨Nat.le_refl _, Nat.le_refl _⟩ rfl ?_
    refine gx_if_eq (tgt := 243) hX dX3_housedTick_229 (by decide) h (fun h => ?_) (fun h => ?_)
    · cases h
      exact gx_vret hX rfl dX3_housedTick_243 rfl ⟨rfl, rfl⟩ (fun _ h => h)
    · refine gx_aload_n hX dX3_housedTick_232 rfl ?_
      refine gm_getA hX 1 (by decide) (by decide) q1342 rfl dX3_housedTick_233 ?_
      refine gx_sipush (v := nI 226) hX dX3_housedTick_236 (by decide) ?_
      refine gx_iload_n hX dX3_housedTick_239 rfl ?_
      refine gx_iadd hX dX3_housedTick_240 ?_
      refine gx_iconst (v := 1) hX dX3_housedTick_241 (by decide) ?_
      refine gm_st hX hA (by decide) dX3_housedTick_242 h (fun σ8 h => ?_)
      cases h
      exact gx_vret hX rfl dX3_housedTick_243 rfl ⟨rfl, rfl⟩ (fun _ h => h)
def fX3_housedTick_B150 (N : Nat)   (σ : gm_S) (x1 : Int32) (x2 : Int32) (x3 : Int32) (x4 : Int32) (y0 : Int32) : Option (gm_S) := if x4 = (-1) then fX3_housedTick_B215 N σ (x1) (x2) (x3) else (gm_rd σ 1 ((nI 178) + (x4))).bind fun v9 => (gm_rd σ 1 ((nI 130) + (x1))).bind fun v10 => (fX3_fitFor (σ) (v9) (v10)).bind fun r11 => (gm_rd σ 1 ((nI 130) + (x4))).bind fun v12 => (fX3_asks N (σ) (x1) (1) (r11) (v12) (y0)).bind fun r13 => if r13.2 = 0 then fX3_housedTick_B215 N r13.1 (x1) (x2) (x3) else (fX3_knocks N (r13.1) (x1) (x4)).bind fun r14 => some r14
set_option maxHeartbeats 4000000 in
theorem tX3_housedTick_B150 {w : gw_W} {X : gx_X} {N : Nat} {r : gm_S} (hA : ∀ q, gm_A w q → gx_A X q) (hX : gx_O (gw_I w (gx_A X)) X iX3_housedTick 6 0 0 (gm_P w r) (.returned (none)))  {σ : gm_S} {x1 : Int32} {x2 : Int32} {x3 : Int32} {x4 : Int32} {y0 : Int32} (h : fX3_housedTick_B150 N σ x1 x2 x3 x4 y0 = some r) : gx_G X (gm_P w σ) 0 0 [some (va_rf (some (gw_mo w))), some (.int (x1)), some (.int (x2)), some (.int (x3)), some (.int (x4)), none] 150 [.int (y0)] := by
  unfold fX3_housedTick_B150 at h
  refine gx_istore hX dX3_housedTick_150 (Nat.le_of_ble_eq_true rfl) gx_c1i (lv' := [some (va_rf (some (gw_mo w))), some (.int (x1)), some (.int (x2)), some (.int (x3)), some (.int (x4)), some (.int (y0))]) rfl ?_
  refine gx_iload hX dX3_housedTick_152 rfl ?_
  refine gx_iconst (v := (-1)) hX dX3_housedTick_154 (by decide) ?_
  refine gx_icmp_eq (tgt := 215) hX dX3_housedTick_155 (by decide) h (fun h => ?_) (fun h => ?_)
  · refine gx_sub hX (lv' := [some (va_rf (some (gw_mo w))), some (.int (x1)), some (.int (x2)), some (.int (x3)), none, none]) ⟨Or.inr rfl, ⟨Or.inr rfl, ⟨Or.inr rfl, ⟨Or.inr rfl, ⟨Or.inl rfl, ⟨Or.inl rfl, trivial⟩⟩⟩⟩⟩⟩ ?_
    exact tX3_housedTick_B215 hA hX  h
  · refine gx_aload_n hX dX3_housedTick_158 rfl ?_
    refine gx_iload_n hX dX3_housedTick_159 rfl ?_
    refine gx_iconst (v := 1) hX dX3_housedTick_160 (by decide) ?_
    refine gx_aload_n hX dX3_housedTick_161 rfl ?_
    refine gx_aload_n hX dX3_housedTick_162 rfl ?_
    refine gm_getA hX 1 (by decide) (by decide) q1342 rfl dX3_housedTick_163 ?_
    refine gx_sipush (v := nI 178) hX dX3_housedTick_166 (by decide) ?_
    refine gx_iload hX dX3_housedTick_169 rfl ?_
    refine gx_iadd hX dX3_housedTick_171 ?_
    refine gm_ld hX (by decide) dX3_housedTick_172 h (fun v9 h => ?_)
    refine gx_aload_n hX dX3_housedTick_173 rfl ?_
    refine gm_getA hX 1 (by decide) (by decide) q1342 rfl dX3_housedTick_174 ?_
    refine gx_sipush (v := nI 130) hX dX3_housedTick_177 (by decide) ?_
    refine gx_iload_n hX dX3_housedTick_180 rfl ?_
    refine gx_iadd hX dX3_housedTick_181 ?_
    refine gm_ld hX (by decide) dX3_housedTick_182 h (fun v10 h => ?_)
    obtain ⟨r11, hr11, h⟩ := gx_bs h
    refine gx_cV (As := [.int (v9), .int (v10)]) (rest := [.int (1), .int (x1), va_rf (some (gw_mo w))]) (b := gw_mo w) hX (tX3_fitFor w _ hA (gx_l X) (σ) (v9) (v10) hr11) (lw_V q1526 q1528 qs42 q92 q1529) ⟨rfl, dsX3_fitFor⟩ (by decide) (by decide) (gm_rc hX) rfl (gx_w8 (gx_kI (gx_kI (gx_kR gx_k0))) (Nat.le_of_ble_eq_true rfl)) dX3_housedTick_183 ⟨Nat.le_refl _, Nat.le_refl _⟩ rfl ?_
    refine gx_aload_n hX dX3_housedTick_186 rfl ?_
    refine gm_getA hX 1 (by decide) (by decide) q1342 rfl dX3_housedTick_187 ?_
    refine gx_sipush (v := nI 130) hX dX3_housedTick_190 (by decide) ?_
    refine gx_iload hX dX3_housedTick_193 rfl ?_
    refine gx_iadd hX dX3_housedTick_195 ?_
    refine gm_ld hX (by decide) dX3_housedTick_196 h (fun v12 h => ?_)
    refine gx_iload hX dX3_housedTick_197 rfl ?_
    obtain ⟨r13, hr13, h⟩ := gx_bs h
    refine gx_cV (As := [.int (x1), .int (1), .int (r11), .int (v12), .int (y0)]) (rest := []) (b := gw_mo w) hX (tX3_asks w _ hA (gx_l X) N (σ) (x1) (1) (r11) (v12) (y0) hr13) (lw_V q1699 q1701 qs63 q92 q1702) ⟨rfl, dsX3_asks⟩ (by decide) (by decide) (gm_rc hX) rfl (gx_w8 gx_k0 (Nat.le_of_ble_eq_true rfl)) dX3_housedTick_199 ⟨Nat.le_refl _, Nat.le_refl _⟩ rfl ?_
    refine gx_if_eq (tgt := 215) hX dX3_housedTick_202 (by decide) h (fun h => ?_) (fun h => ?_)
    · refine gx_sub hX (lv' := [some (va_rf (some (gw_mo w))), some (.int (x1)), some (.int (x2)), some (.int (x3)), none, none]) ⟨Or.inr rfl, ⟨Or.inr rfl, ⟨Or.inr rfl, ⟨Or.inr rfl, ⟨Or.inl rfl, ⟨Or.inl rfl, trivial⟩⟩⟩⟩⟩⟩ ?_
      exact tX3_housedTick_B215 hA hX  h
    · refine gx_aload_n hX dX3_housedTick_205 rfl ?_
      refine gx_iload_n hX dX3_housedTick_206 rfl ?_
      refine gx_iload hX dX3_housedTick_207 rfl ?_
      obtain ⟨r14, hr14, h⟩ := gx_bs h
      refine gx_cV (As := [.int (x1), .int (x4)]) (rest := []) (b := gw_mo w) hX (tX3_knocks w _ hA (gx_l X) N (r13.1) (x1) (x4) hr14) (lw_V q1707 q1709 qs65 q92 q1710) ⟨rfl, dsX3_knocks⟩ (by decide) (by decide) (gm_rc hX) rfl (gx_w8 gx_k0 (Nat.le_of_ble_eq_true rfl)) dX3_housedTick_209 ⟨Nat.le_refl _, Nat.le_refl _⟩ rfl ?_
      refine gx_goto (tgt := 243) hX dX3_housedTick_212 (by decide) ?_
      cases h
      exact gx_vret hX rfl dX3_housedTick_243 rfl ⟨rfl, rfl⟩ (fun _ h => h)
def fX3_housedTick_B149 (N : Nat)   (σ : gm_S) (x1 : Int32) (x2 : Int32) (x3 : Int32) (x4 : Int32) : Option (gm_S) := fX3_housedTick_B150 N σ (x1) (x2) (x3) (x4) (0)
set_option maxHeartbeats 4000000 in
theorem tX3_housedTick_B149 {w : gw_W} {X : gx_X} {N : Nat} {r : gm_S} (hA : ∀ q, gm_A w q → gx_A X q) (hX : gx_O (gw_I w (gx_A X)) X iX3_housedTick 6 0 0 (gm_P w r) (.returned (none)))  {σ : gm_S} {x1 : Int32} {x2 : Int32} {x3 : Int32} {x4 : Int32} (h : fX3_housedTick_B149 N σ x1 x2 x3 x4 = some r) : gx_G X (gm_P w σ) 0 0 [some (va_rf (some (gw_mo w))), some (.int (x1)), some (.int (x2)), some (.int (x3)), some (.int (x4)), none] 149 [] := by
  unfold fX3_housedTick_B149 at h
  refine gx_iconst (v := 0) hX dX3_housedTick_149 (by decide) ?_
  exact tX3_housedTick_B150 hA hX  h
def fX3_housedTick_B108 (N : Nat)   (σ : gm_S) (x1 : Int32) (x2 : Int32) (x3 : Int32) : Option (gm_S) := (fX3_otherOf N (σ) (x1)).bind fun r6 => if r6 = (-1) then fX3_housedTick_B149 N σ (x1) (x2) (x3) (r6) else (gm_rd σ 1 ((nI 214) + (x1))).bind fun v15 => if v15 = r6 then (gm_rd σ 1 ((nI 202) + (x1))).bind fun v16 => fX3_housedTick_B150 N σ (x1) (x2) (x3) (r6) (v16) else fX3_housedTick_B149 N σ (x1) (x2) (x3) (r6)
set_option maxHeartbeats 4000000 in
theorem tX3_housedTick_B108 {w : gw_W} {X : gx_X} {N : Nat} {r : gm_S} (hA : ∀ q, gm_A w q → gx_A X q) (hX : gx_O (gw_I w (gx_A X)) X iX3_housedTick 6 0 0 (gm_P w r) (.returned (none)))  {σ : gm_S} {x1 : Int32} {x2 : Int32} {x3 : Int32} (h : fX3_housedTick_B108 N σ x1 x2 x3 = some r) : gx_G X (gm_P w σ) 0 0 [some (va_rf (some (gw_mo w))), some (.int (x1)), some (.int (x2)), some (.int (x3)), none, none] 108 [] := by
  unfold fX3_housedTick_B108 at h
  refine gx_aload_n hX dX3_housedTick_108 rfl ?_
  refine gx_iload_n hX dX3_housedTick_109 rfl ?_
  obtain ⟨r6, hr6, h⟩ := gx_bs h
  refine gx_cV (As := [.int (x1)]) (rest := []) (b := gw_mo w) hX (tX3_otherOf w _ hA (gx_l X) N (σ) (x1) hr6) (lw_V q1703 q1705 qs64 q92 q1706) ⟨rfl, dsX3_otherOf⟩ (by decide) (by decide) (gm_rc hX) rfl (gx_w8 gx_k0 (Nat.le_of_ble_eq_true rfl)) dX3_housedTick_110 ⟨Nat.le_refl _, Nat.le_refl _⟩ rfl ?_
  refine gx_istore hX dX3_housedTick_113 (Nat.le_of_ble_eq_true rfl) gx_c1i (lv' := [some (va_rf (some (gw_mo w))), some (.int (x1)), some (.int (x2)), some (.int (x3)), some (.int (r6)), none]) rfl ?_
  refine gx_iload hX dX3_housedTick_115 rfl ?_
  refine gx_iconst (v := (-1)) hX dX3_housedTick_117 (by decide) ?_
  refine gx_icmp_eq (tgt := 149) hX dX3_housedTick_118 (by decide) h (fun h => ?_) (fun h => ?_)
  · exact tX3_housedTick_B149 hA hX  h
  · refine gx_aload_n hX dX3_housedTick_121 rfl ?_
    refine gm_getA hX 1 (by decide) (by decide) q1342 rfl dX3_housedTick_122 ?_
    refine gx_sipush (v := nI 214) hX dX3_housedTick_125 (by decide) ?_
    refine gx_iload_n hX dX3_housedTick_128 rfl ?_
    refine gx_iadd hX dX3_housedTick_129 ?_
    refine gm_ld hX (by decide) dX3_housedTick_130 h (fun v15 h => ?_)
    refine gx_iload hX dX3_housedTick_131 rfl ?_
    refine gx_icmp_ne (tgt := 149) hX dX3_housedTick_133 (by decide) h (fun h => ?_) (fun h => ?_)
    · refine gx_aload_n hX dX3_housedTick_136 rfl ?_
      refine gm_getA hX 1 (by decide) (by decide) q1342 rfl dX3_housedTick_137 ?_
      refine gx_sipush (v := nI 202) hX dX3_housedTick_140 (by decide) ?_
      refine gx_iload_n hX dX3_housedTick_143 rfl ?_
      refine gx_iadd hX dX3_housedTick_144 ?_
      refine gm_ld hX (by decide) dX3_housedTick_145 h (fun v16 h => ?_)
      refine gx_goto (tgt := 150) hX dX3_housedTick_146 (by decide) ?_
      exact tX3_housedTick_B150 hA hX  h
    · exact tX3_housedTick_B149 hA hX  h
def fX3_housedTick_B49 (N : Nat)   (σ : gm_S) (x1 : Int32) (x2 : Int32) (y0 : Int32) : Option (gm_S) := if x2 = (-1) then fX3_housedTick_B108 N σ (x1) (x2) (y0) else (fX3_own (σ) (x1)).bind fun r17 => if (y0) ≤ r17 then fX3_housedTick_B108 N σ (x1) (x2) (y0) else (fX3_asks N (σ) (x1) (0) (y0) (0) (0)).bind fun r18 => if r18.2 = 0 then fX3_housedTick_B108 N r18.1 (x1) (x2) (y0) else (gm_rd r18.1 1 ((nI 178) + (x1))).bind fun v19 => (fX3_lies (r18.1) (v19)).bind fun r20 => (gm_wr r20 1 ((nI 166) + (x1)) (1)).bind fun σ21 => (fX3_keeps (σ21) (x1) (x2)).bind fun r22 => some r22
set_option maxHeartbeats 4000000 in
theorem tX3_housedTick_B49 {w : gw_W} {X : gx_X} {N : Nat} {r : gm_S} (hA : ∀ q, gm_A w q → gx_A X q) (hX : gx_O (gw_I w (gx_A X)) X iX3_housedTick 6 0 0 (gm_P w r) (.returned (none)))  {σ : gm_S} {x1 : Int32} {x2 : Int32} {y0 : Int32} (h : fX3_housedTick_B49 N σ x1 x2 y0 = some r) : gx_G X (gm_P w σ) 0 0 [some (va_rf (some (gw_mo w))), some (.int (x1)), some (.int (x2)), none, none, none] 49 [.int (y0)] := by
  unfold fX3_housedTick_B49 at h
  refine gx_istore_n hX dX3_housedTick_49 (Nat.le_of_ble_eq_true rfl) gx_c1i (lv' := [some (va_rf (some (gw_mo w))), some (.int (x1)), some (.int (x2)), some (.int (y0)), none, none]) rfl ?_
  refine gx_iload_n hX dX3_housedTick_50 rfl ?_
  refine gx_iconst (v := (-1)) hX dX3_housedTick_51 (by decide) ?_
  refine gx_icmp_eq (tgt := 108) hX dX3_housedTick_52 (by decide) h (fun h => ?_) (fun h => ?_)
  · exact tX3_housedTick_B108 hA hX  h
  · refine gx_iload_n hX dX3_housedTick_55 rfl ?_
    refine gx_aload_n hX dX3_housedTick_56 rfl ?_
    refine gx_iload_n hX dX3_housedTick_57 rfl ?_
    obtain ⟨r17, hr17, h⟩ := gx_bs h
    refine gx_cV (As := [.int (x1)]) (rest := [.int (y0)]) (b := gw_mo w) hX (tX3_own w _ hA (gx_l X) (σ) (x1) hr17) (lw_V q1522 q1524 qs41 q92 q1525) ⟨rfl, dsX3_own⟩ (by decide) (by decide) (gm_rc hX) rfl (gx_w8 (gx_kI gx_k0) (Nat.le_of_ble_eq_true rfl)) dX3_housedTick_58 ⟨Nat.le_refl _, Nat.le_refl _⟩ rfl ?_
    refine gx_icmp_le (tgt := 108) hX dX3_housedTick_61 (by decide) h (fun h => ?_) (fun h => ?_)
    · exact tX3_housedTick_B108 hA hX  h
    · refine gx_aload_n hX dX3_housedTick_64 rfl ?_
      refine gx_iload_n hX dX3_housedTick_65 rfl ?_
      refine gx_iconst (v := 0) hX dX3_housedTick_66 (by decide) ?_
      refine gx_iload_n hX dX3_housedTick_67 rfl ?_
      refine gx_iconst (v := 0) hX dX3_housedTick_68 (by decide) ?_
      refine gx_iconst (v := 0) hX dX3_housedTick_69 (by decide) ?_
      obtain ⟨r18, hr18, h⟩ := gx_bs h
      refine gx_cV (As := [.int (x1), .int (0), .int (y0), .int (0), .int (0)]) (rest := []) (b := gw_mo w) hX (tX3_asks w _ hA (gx_l X) N (σ) (x1) (0) (y0) (0) (0) hr18) (lw_V q1699 q1701 qs63 q92 q1702) ⟨rfl, dsX3_asks⟩ (by decide) (by decide) (gm_rc hX) rfl (gx_w8 gx_k0 (Nat.le_of_ble_eq_true rfl)) dX3_housedTick_70 ⟨Nat.le_refl _, Nat.le_refl _⟩ rfl ?_
      refine gx_if_eq (tgt := 108) hX dX3_housedTick_73 (by decide) h (fun h => ?_) (fun h => ?_)
      · exact tX3_housedTick_B108 hA hX  h
      · refine gx_aload_n hX dX3_housedTick_76 rfl ?_
        refine gx_aload_n hX dX3_housedTick_77 rfl ?_
        refine gm_getA hX 1 (by decide) (by decide) q1342 rfl dX3_housedTick_78 ?_
        refine gx_sipush (v := nI 178) hX dX3_housedTick_81 (by decide) ?_
        refine gx_iload_n hX dX3_housedTick_84 rfl ?_
        refine gx_iadd hX dX3_housedTick_85 ?_
        refine gm_ld hX (by decide) dX3_housedTick_86 h (fun v19 h => ?_)
        obtain ⟨r20, hr20, h⟩ := gx_bs h
        refine gx_cV (As := [.int (v19)]) (rest := []) (b := gw_mo w) hX (tX3_lies w _ hA (gx_l X) (r18.1) (v19) hr20) (lw_V q1545 q1547 qs43 q92 q1548) ⟨rfl, dsX3_lies⟩ (by decide) (by decide) (gm_rc hX) rfl (gx_w8 gx_k0 (Nat.le_of_ble_eq_true rfl)) dX3_housedTick_87 ⟨Nat.le_refl _, Nat.le_refl _⟩ rfl ?_
        refine gx_aload_n hX dX3_housedTick_90 rfl ?_
        refine gm_getA hX 1 (by decide) (by decide) q1342 rfl dX3_housedTick_91 ?_
        refine gx_sipush (v := nI 166) hX dX3_housedTick_94 (by decide) ?_
        refine gx_iload_n hX dX3_housedTick_97 rfl ?_
        refine gx_iadd hX dX3_housedTick_98 ?_
        refine gx_iconst (v := 1) hX dX3_housedTick_99 (by decide) ?_
        refine gm_st hX hA (by decide) dX3_housedTick_100 h (fun σ21 h => ?_)
        refine gx_aload_n hX dX3_housedTick_101 rfl ?_
        refine gx_iload_n hX dX3_housedTick_102 rfl ?_
        refine gx_iload_n hX dX3_housedTick_103 rfl ?_
        obtain ⟨r22, hr22, h⟩ := gx_bs h
        refine gx_cV (As := [.int (x1), .int (x2)]) (rest := []) (b := gw_mo w) hX (tX3_keeps w _ hA (gx_l X) (σ21) (x1) (x2) hr22) (lw_V q1691 q1693 qs61 q92 q1694) ⟨rfl, dsX3_keeps⟩ (by decide) (by decide) (gm_rc hX) rfl (gx_w8 gx_k0 (Nat.le_of_ble_eq_true rfl)) dX3_housedTick_104 ⟨Nat.le_refl _, Nat.le_refl _⟩ rfl ?_
        cases h
        exact gx_vret hX rfl dX3_housedTick_107 rfl ⟨rfl, rfl⟩ (fun _ h => h)
def fX3_housedTick (N : Nat) (σ : gm_S) (x1 : Int32) : Option (gm_S) := (gm_rd σ 1 ((nI 142) + (x1))).bind fun v1 => (gm_rd σ 1 ((nI 130) + (x1))).bind fun v2 => (fX3_lying N (σ) (v1) (v2)).bind fun r3 => if r3 = (-1) then fX3_housedTick_B49 N σ (x1) (r3) (0) else (gm_rd σ 1 ((nI 130) + (x1))).bind fun v4 => (fX3_fitFor (σ) (r3) (v4)).bind fun r5 => fX3_housedTick_B49 N σ (x1) (r3) (r5)
set_option maxHeartbeats 4000000 in
theorem tX3_housedTick (w : gw_W) (A : Nat → Prop) (hA : ∀ q, gm_A w q → A q) (l : Launch) (N : Nat) (σ : gm_S) (x1 : Int32) {r : gm_S} (h : fX3_housedTick N σ x1 = some r) : gx_T (gw_I w A) A l yX3_housedTick iX3_housedTick 6 [va_rf (some (gw_mo w)), .int (x1)] (gm_P w σ) 0 0 (gm_P w r) (.returned (none)) := by
  refine gx_T.of (gw_I.inv w A) (by decide) ⟨rfl, rfl⟩ (gx_kR (gx_kI gx_k0)) (Nat.le_of_ble_eq_true rfl) (fun X hl hAx hX => ?_)
  subst hl
  subst hAx
  show gx_G X (gm_P w σ) 0 0 [some (va_rf (some (gw_mo w))), some (.int (x1)), none, none, none, none] 0 []
  unfold fX3_housedTick at h
  refine gx_aload_n hX dX3_housedTick_0 rfl ?_
  refine gx_aload_n hX dX3_housedTick_1 rfl ?_
  refine gm_getA hX 1 (by decide) (by decide) q1342 rfl dX3_housedTick_2 ?_
  refine gx_sipush (v := nI 142) hX dX3_housedTick_5 (by decide) ?_
  refine gx_iload_n hX dX3_housedTick_8 rfl ?_
  refine gx_iadd hX dX3_housedTick_9 ?_
  refine gm_ld hX (by decide) dX3_housedTick_10 h (fun v1 h => ?_)
  refine gx_aload_n hX dX3_housedTick_11 rfl ?_
  refine gm_getA hX 1 (by decide) (by decide) q1342 rfl dX3_housedTick_12 ?_
  refine gx_sipush (v := nI 130) hX dX3_housedTick_15 (by decide) ?_
  refine gx_iload_n hX dX3_housedTick_18 rfl ?_
  refine gx_iadd hX dX3_housedTick_19 ?_
  refine gm_ld hX (by decide) dX3_housedTick_20 h (fun v2 h => ?_)
  obtain ⟨r3, hr3, h⟩ := gx_bs h
  refine gx_cV (As := [.int (v1), .int (v2)]) (rest := []) (b := gw_mo w) hX (tX3_lying w _ hA (gx_l X) N (σ) (v1) (v2) hr3) (lw_V q1687 q1689 qs60 q92 q1690) ⟨rfl, dsX3_lying⟩ (by decide) (by decide) (gm_rc hX) rfl (gx_w8 gx_k0 (Nat.le_of_ble_eq_true rfl)) dX3_housedTick_21 ⟨Nat.le_refl _, Nat.le_refl _⟩ rfl ?_
  refine gx_istore_n hX dX3_housedTick_24 (Nat.le_of_ble_eq_true rfl) gx_c1i (lv' := [some (va_rf (some (gw_mo w))), some (.int (x1)), some (.int (r3)), none, none, none]) rfl ?_
  refine gx_iload_n hX dX3_housedTick_25 rfl ?_
  refine gx_iconst (v := (-1)) hX dX3_housedTick_26 (by decide) ?_
  refine gx_icmp_ne (tgt := 34) hX dX3_housedTick_27 (by decide) h (fun h => ?_) (fun h => ?_)
  · refine gx_iconst (v := 0) hX dX3_housedTick_30 (by decide) ?_
    refine gx_goto (tgt := 49) hX dX3_housedTick_31 (by decide) ?_
    exact tX3_housedTick_B49 hA hX  h
  · refine gx_aload_n hX dX3_housedTick_34 rfl ?_
    refine gx_iload_n hX dX3_housedTick_35 rfl ?_
    refine gx_aload_n hX dX3_housedTick_36 rfl ?_
    refine gm_getA hX 1 (by decide) (by decide) q1342 rfl dX3_housedTick_37 ?_
    refine gx_sipush (v := nI 130) hX dX3_housedTick_40 (by decide) ?_
    refine gx_iload_n hX dX3_housedTick_43 rfl ?_
    refine gx_iadd hX dX3_housedTick_44 ?_
    refine gm_ld hX (by decide) dX3_housedTick_45 h (fun v4 h => ?_)
    obtain ⟨r5, hr5, h⟩ := gx_bs h
    refine gx_cV (As := [.int (r3), .int (v4)]) (rest := []) (b := gw_mo w) hX (tX3_fitFor w _ hA (gx_l X) (σ) (r3) (v4) hr5) (lw_V q1526 q1528 qs42 q92 q1529) ⟨rfl, dsX3_fitFor⟩ (by decide) (by decide) (gm_rc hX) rfl (gx_w8 gx_k0 (Nat.le_of_ble_eq_true rfl)) dX3_housedTick_46 ⟨Nat.le_refl _, Nat.le_refl _⟩ rfl ?_
    exact tX3_housedTick_B49 hA hX  h
abbrev iX3_ticks : gx_M := (RX3, "ticks", cX3_ticks, 3, none)
theorem dsX3_ticks : gx_ds yX3_ticks 0 := by decide +kernel
def fX3_ticks_B195 (N : Nat)  (K99 : gm_S → Int32 → Option (gm_S)) (σ : gm_S) (x1 : Int32) (y0 : Int32) (y1 : Int32) (y2 : Int32) : Option (gm_S) := (gm_wr σ 1 (y2) ((y1) + (y0))).bind fun σ9 => K99 σ9 ((x1) + 1)
set_option maxHeartbeats 4000000 in
theorem tX3_ticks_B195 {w : gw_W} {X : gx_X} {N : Nat} {r : gm_S} (hA : ∀ q, gm_A w q → gx_A X q) (hX : gx_O (gw_I w (gx_A X)) X iX3_ticks 7 0 0 (gm_P w r) (.returned (none))) {K99 : gm_S → Int32 → Option (gm_S)} (hK99 : ∀ (σ : gm_S) (x1 : Int32), K99 σ x1 = some r → gx_G X (gm_P w σ) 0 0 [some (va_rf (some (gw_mo w))), some (.int (x1)), none] 99 []) {σ : gm_S} {x1 : Int32} {y0 : Int32} {y1 : Int32} {y2 : Int32} (h : fX3_ticks_B195 N K99 σ x1 y0 y1 y2 = some r) : gx_G X (gm_P w σ) 0 0 [some (va_rf (some (gw_mo w))), some (.int (x1)), none] 195 [.int (y0), .int (y1), .int (y2), va_rf (some (gm_a w 1))] := by
  unfold fX3_ticks_B195 at h
  refine gx_iadd hX dX3_ticks_195 ?_
  refine gm_st hX hA (by decide) dX3_ticks_196 h (fun σ9 h => ?_)
  refine gx_iinc (v := 1) hX dX3_ticks_197 rfl (by decide) gx_c1r (lv' := [some (va_rf (some (gw_mo w))), some (.int ((x1) + 1)), none]) rfl ?_
  refine gx_goto (tgt := 99) hX dX3_ticks_200 (by decide) ?_
  exact hK99 _ _ h
def fX3_ticks_B194 (N : Nat)  (K99 : gm_S → Int32 → Option (gm_S)) (σ : gm_S) (x1 : Int32) (y0 : Int32) (y1 : Int32) : Option (gm_S) := fX3_ticks_B195 N K99 σ (x1) (0) (y0) (y1)
set_option maxHeartbeats 4000000 in
theorem tX3_ticks_B194 {w : gw_W} {X : gx_X} {N : Nat} {r : gm_S} (hA : ∀ q, gm_A w q → gx_A X q) (hX : gx_O (gw_I w (gx_A X)) X iX3_ticks 7 0 0 (gm_P w r) (.returned (none))) {K99 : gm_S → Int32 → Option (gm_S)} (hK99 : ∀ (σ : gm_S) (x1 : Int32), K99 σ x1 = some r → gx_G X (gm_P w σ) 0 0 [some (va_rf (some (gw_mo w))), some (.int (x1)), none] 99 []) {σ : gm_S} {x1 : Int32} {y0 : Int32} {y1 : Int32} (h : fX3_ticks_B194 N K99 σ x1 y0 y1 = some r) : gx_G X (gm_P w σ) 0 0 [some (va_rf (some (gw_mo w))), some (.int (x1)), none] 194 [.int (y0), .int (y1), va_rf (some (gm_a w 1))] := by
  unfold fX3_ticks_B194 at h
  refine gx_iconst (v := 0) hX dX3_ticks_194 (by decide) ?_
  exact tX3_ticks_B195 hA hX hK99 h
def fX3_ticks_B159 (N : Nat)  (K99 : gm_S → Int32 → Option (gm_S)) (σ : gm_S) (x1 : Int32) (y0 : Int32) : Option (gm_S) := (gm_rd σ 1 ((nI 130) + (x1))).bind fun v8 => if y0 = 0 then fX3_ticks_B194 N K99 σ (x1) (v8) ((nI 130) + (x1)) else (gm_rd σ 1 ((nI 130) + (x1))).bind fun v10 => if (nI 40) ≤ v10 then fX3_ticks_B194 N K99 σ (x1) (v8) ((nI 130) + (x1)) else fX3_ticks_B195 N K99 σ (x1) (1) (v8) ((nI 130) + (x1))
set_option maxHeartbeats 4000000 in
theorem tX3_ticks_B159 {w : gw_W} {X : gx_X} {N : Nat} {r : gm_S} (hA : ∀ q, gm_A w q → gx_A X q) (hX : gx_O (gw_I w (gx_A X)) X iX3_ticks 7 0 0 (gm_P w r) (.returned (none))) {K99 : gm_S → Int32 → Option (gm_S)} (hK99 : ∀ (σ : gm_S) (x1 : Int32), K99 σ x1 = some r → gx_G X (gm_P w σ) 0 0 [some (va_rf (some (gw_mo w))), some (.int (x1)), none] 99 []) {σ : gm_S} {x1 : Int32} {y0 : Int32} (h : fX3_ticks_B159 N K99 σ x1 y0 = some r) : gx_G X (gm_P w σ) 0 0 [some (va_rf (some (gw_mo w))), some (.int (x1)), none] 159 [.int (y0)] := by
  unfold fX3_ticks_B159 at h
  refine gx_istore_n hX dX3_ticks_159 (Nat.le_of_ble_eq_true rfl) gx_c1i (lv' := [some (va_rf (some (gw_mo w))), some (.int (x1)), some (.int (y0))]) rfl ?_
  refine gx_aload_n hX dX3_ticks_160 rfl ?_
  refine gm_getA hX 1 (by decide) (by decide) q1342 rfl dX3_ticks_161 ?_
  refine gx_sipush (v := nI 130) hX dX3_ticks_164 (by decide) ?_
  refine gx_iload_n hX dX3_ticks_167 rfl ?_
  refine gx_iadd hX dX3_ticks_168 ?_
  refine gx_dup2 hX dX3_ticks_169 rfl (gx_cat _) ?_
  refine gm_ld hX (by decide) dX3_ticks_170 h (fun v8 h => ?_)
  refine gx_iload_n hX dX3_ticks_171 rfl ?_
  refine gx_if_eq (tgt := 194) hX dX3_ticks_172 (by decide) h (fun h => ?_) (fun h => ?_)
  · refine gx_sub hX (lv' := [some (va_rf (some (gw_mo w))), some (.int (x1)), none]) ⟨Or.inr rfl, ⟨Or.inr rfl, ⟨Or.inl rfl, trivial⟩⟩⟩ ?_
    exact tX3_ticks_B194 hA hX hK99 h
  · refine gx_aload_n hX dX3_ticks_175 rfl ?_
    refine gm_getA hX 1 (by decide) (by decide) q1342 rfl dX3_ticks_176 ?_
    refine gx_sipush (v := nI 130) hX dX3_ticks_179 (by decide) ?_
    refine gx_iload_n hX dX3_ticks_182 rfl ?_
    refine gx_iadd hX dX3_ticks_183 ?_
    refine gm_ld hX (by decide) dX3_ticks_184 h (fun v10 h => ?_)
    refine gx_bipush (v := nI 40) hX dX3_ticks_185 (by decide) ?_
    refine gx_icmp_ge (tgt := 194) hX dX3_ticks_187 (by decide) h (fun h => ?_) (fun h => ?_)
    · refine gx_sub hX (lv' := [some (va_rf (some (gw_mo w))), some (.int (x1)), none]) ⟨Or.inr rfl, ⟨Or.inr rfl, ⟨Or.inl rfl, trivial⟩⟩⟩ ?_
      exact tX3_ticks_B194 hA hX hK99 h
    · refine gx_iconst (v := 1) hX dX3_ticks_190 (by decide) ?_
      refine gx_goto (tgt := 195) hX dX3_ticks_191 (by decide) ?_
      refine gx_sub hX (lv' := [some (va_rf (some (gw_mo w))), some (.int (x1)), none]) ⟨Or.inr rfl, ⟨Or.inr rfl, ⟨Or.inl rfl, trivial⟩⟩⟩ ?_
      exact tX3_ticks_B195 hA hX hK99 h
def fX3_ticks_B158 (N : Nat)  (K99 : gm_S → Int32 → Option (gm_S)) (σ : gm_S) (x1 : Int32) : Option (gm_S) := fX3_ticks_B159 N K99 σ (x1) (0)
set_option maxHeartbeats 4000000 in
theorem tX3_ticks_B158 {w : gw_W} {X : gx_X} {N : Nat} {r : gm_S} (hA : ∀ q, gm_A w q → gx_A X q) (hX : gx_O (gw_I w (gx_A X)) X iX3_ticks 7 0 0 (gm_P w r) (.returned (none))) {K99 : gm_S → Int32 → Option (gm_S)} (hK99 : ∀ (σ : gm_S) (x1 : Int32), K99 σ x1 = some r → gx_G X (gm_P w σ) 0 0 [some (va_rf (some (gw_mo w))), some (.int (x1)), none] 99 []) {σ : gm_S} {x1 : Int32} (h : fX3_ticks_B158 N K99 σ x1 = some r) : gx_G X (gm_P w σ) 0 0 [some (va_rf (some (gw_mo w))), some (.int (x1)), none] 158 [] := by
  unfold fX3_ticks_B158 at h
  refine gx_iconst (v := 0) hX dX3_ticks_158 (by decide) ?_
  exact tX3_ticks_B159 hA hX hK99 h
def fX3_ticks_L99 (N : Nat)   : Nat → gm_S → Int32 → Option (gm_S)
  | 0, _, _ => none
  | k + 1, σ, x1 => (gm_rd σ 1 (1)).bind fun v4 => if (v4) ≤ x1 then (gm_rd σ 1 (2)).bind fun v5 => (gm_wr σ 1 (2) ((v5) + (1))).bind fun σ6 => some σ6 else (gm_rd σ 1 (4)).bind fun v7 => if (v7) ≤ 0 then fX3_ticks_B158 N (fX3_ticks_L99 N k) σ (x1) else (gm_rd σ 1 (2)).bind fun v11 => (gm_rd σ 1 (4)).bind fun v12 => (gx_rm ((v11) + (1)) (v12)).bind fun v13 => if v13 = 0 then (fX3_isHoused (σ) (x1)).bind fun r14 => if r14 = 0 then fX3_ticks_B158 N (fX3_ticks_L99 N k) σ (x1) else (fX3_own (σ) (x1)).bind fun r15 => if (r15) < nI 10 then fX3_ticks_B158 N (fX3_ticks_L99 N k) σ (x1) else fX3_ticks_B159 N (fX3_ticks_L99 N k) σ (x1) (1) else fX3_ticks_B158 N (fX3_ticks_L99 N k) σ (x1)
set_option maxHeartbeats 4000000 in
theorem tX3_ticks_L99 {w : gw_W} {X : gx_X} {N : Nat} {r : gm_S} (hA : ∀ q, gm_A w q → gx_A X q) (hX : gx_O (gw_I w (gx_A X)) X iX3_ticks 7 0 0 (gm_P w r) (.returned (none)))  : ∀ (k : Nat) (σ : gm_S) (x1 : Int32), fX3_ticks_L99 N k σ x1 = some r → gx_G X (gm_P w σ) 0 0 [some (va_rf (some (gw_mo w))), some (.int (x1)), none] 99 [] := by
  intro k
  induction k with
  | zero =>
    intro σ x1 h
    unfold fX3_ticks_L99 at h
    cases h
  | succ k ih =>
    intro σ x1 h
    unfold fX3_ticks_L99 at h
    refine gx_iload_n hX dX3_ticks_99 rfl ?_
    refine gx_aload_n hX dX3_ticks_100 rfl ?_
    refine gm_getA hX 1 (by decide) (by decide) q1342 rfl dX3_ticks_101 ?_
    refine gx_iconst (v := 1) hX dX3_ticks_104 (by decide) ?_
    refine gm_ld hX (by decide) dX3_ticks_105 h (fun v4 h => ?_)
    refine gx_icmp_ge (tgt := 203) hX dX3_ticks_106 (by decide) h (fun h => ?_) (fun h => ?_)
    · refine gx_aload_n hX dX3_ticks_203 rfl ?_
      refine gm_getA hX 1 (by decide) (by decide) q1342 rfl dX3_ticks_204 ?_
      refine gx_iconst (v := 2) hX dX3_ticks_207 (by decide) ?_
      refine gx_dup2 hX dX3_ticks_208 rfl (gx_cat _) ?_
      refine gm_ld hX (by decide) dX3_ticks_209 h (fun v5 h => ?_)
      refine gx_iconst (v := 1) hX dX3_ticks_210 (by decide) ?_
      refine gx_iadd hX dX3_ticks_211 ?_
      refine gm_st hX hA (by decide) dX3_ticks_212 h (fun σ6 h => ?_)
      cases h
      exact gx_vret hX rfl dX3_ticks_213 rfl ⟨rfl, rfl⟩ (fun _ h => h)
    · refine gx_aload_n hX dX3_ticks_109 rfl ?_
      refine gm_getA hX 1 (by decide) (by decide) q1342 rfl dX3_ticks_110 ?_
      refine gx_iconst (v := 4) hX dX3_ticks_113 (by decide) ?_
      refine gm_ld hX (by decide) dX3_ticks_114 h (fun v7 h => ?_)
      refine gx_if_le (tgt := 158) hX dX3_ticks_115 (by decide) h (fun h => ?_) (fun h => ?_)
      · exact tX3_ticks_B158 hA hX ih h
      · refine gx_aload_n hX dX3_ticks_118 rfl ?_
        refine gm_getA hX 1 (by decide) (by decide) q1342 rfl dX3_ticks_119 ?_
        refine gx_iconst (v := 2) hX dX3_ticks_122 (by decide) ?_
        refine gm_ld hX (by decide) dX3_ticks_123 h (fun v11 h => ?_)
        refine gx_iconst (v := 1) hX dX3_ticks_124 (by decide) ?_
        refine gx_iadd hX dX3_ticks_125 ?_
        refine gx_aload_n hX dX3_ticks_126 rfl ?_
        refine gm_getA hX 1 (by decide) (by decide) q1342 rfl dX3_ticks_127 ?_
        refine gx_iconst (v := 4) hX dX3_ticks_130 (by decide) ?_
        refine gm_ld hX (by decide) dX3_ticks_131 h (fun v12 h => ?_)
        refine gx_iremP hX dX3_ticks_132 h (fun v13 h => ?_)
        refine gx_if_ne (tgt := 158) hX dX3_ticks_133 (by decide) h (fun h => ?_) (fun h => ?_)
        · refine gx_aload_n hX dX3_ticks_136 rfl ?_
          refine gx_iload_n hX dX3_ticks_137 rfl ?_
          obtain ⟨r14, hr14, h⟩ := gx_bs h
          refine gx_cV (As := [.int (x1)]) (rest := []) (b := gw_mo w) hX (tX3_isHoused w _ hA (gx_l X) (σ) (x1) hr14) (lw_V q1510 q1512 qs38 q92 q1513) ⟨rfl, dsX3_isHoused⟩ (by decide) (by decide) (gm_rc hX) rfl (gx_w8 gx_k0 (Nat.le_of_ble_eq_true rfl)) dX3_ticks_138 ⟨Nat.le_refl _, Nat.le_refl _⟩ rfl ?_
          refine gx_if_eq (tgt := 158) hX dX3_ticks_141 (by decide) h (fun h => ?_) (fun h => ?_)
          · exact tX3_ticks_B158 hA hX ih h
          · refine gx_aload_n hX dX3_ticks_144 rfl ?_
            refine gx_iload_n hX dX3_ticks_145 rfl ?_
            obtain ⟨r15, hr15, h⟩ := gx_bs h
            refine gx_cV (As := [.int (x1)]) (rest := []) (b := gw_mo w) hX (tX3_own w _ hA (gx_l X) (σ) (x1) hr15) (lw_V q1522 q1524 qs41 q92 q1525) ⟨rfl, dsX3_own⟩ (by decide) (by decide) (gm_rc hX) rfl (gx_w8 gx_k0 (Nat.le_of_ble_eq_true rfl)) dX3_ticks_146 ⟨Nat.le_refl _, Nat.le_refl _⟩ rfl ?_
            refine gx_bipush (v := nI 10) hX dX3_ticks_149 (by decide) ?_
            refine gx_icmp_lt (tgt := 158) hX dX3_ticks_151 (by decide) h (fun h => ?_) (fun h => ?_)
            · exact tX3_ticks_B158 hA hX ih h
            · refine gx_iconst (v := 1) hX dX3_ticks_154 (by decide) ?_
              refine gx_goto (tgt := 159) hX dX3_ticks_155 (by decide) ?_
              exact tX3_ticks_B159 hA hX ih h
        · exact tX3_ticks_B158 hA hX ih h
def fX3_ticks_B91 (N : Nat)  (K68 : gm_S → Int32 → Option (gm_S)) (σ : gm_S) (x1 : Int32) : Option (gm_S) := K68 σ ((x1) + 1)
set_option maxHeartbeats 4000000 in
theorem tX3_ticks_B91 {w : gw_W} {X : gx_X} {N : Nat} {r : gm_S} (hA : ∀ q, gm_A w q → gx_A X q) (hX : gx_O (gw_I w (gx_A X)) X iX3_ticks 7 0 0 (gm_P w r) (.returned (none))) {K68 : gm_S → Int32 → Option (gm_S)} (hK68 : ∀ (σ : gm_S) (x1 : Int32), K68 σ x1 = some r → gx_G X (gm_P w σ) 0 0 [some (va_rf (some (gw_mo w))), some (.int (x1)), none] 68 []) {σ : gm_S} {x1 : Int32} (h : fX3_ticks_B91 N K68 σ x1 = some r) : gx_G X (gm_P w σ) 0 0 [some (va_rf (some (gw_mo w))), some (.int (x1)), none] 91 [] := by
  unfold fX3_ticks_B91 at h
  refine gx_iinc (v := 1) hX dX3_ticks_91 rfl (by decide) gx_c1r (lv' := [some (va_rf (some (gw_mo w))), some (.int ((x1) + 1)), none]) rfl ?_
  refine gx_goto (tgt := 68) hX dX3_ticks_94 (by decide) ?_
  exact hK68 _ _ h
def fX3_ticks_L68 (N : Nat)   : Nat → gm_S → Int32 → Option (gm_S)
  | 0, _, _ => none
  | k + 1, σ, x1 => (gm_rd σ 1 (1)).bind fun v3 => if (v3) ≤ x1 then fX3_ticks_L99 N N σ (0) else (fX3_isHoused (σ) (x1)).bind fun r16 => if r16 = 0 then fX3_ticks_B91 N (fX3_ticks_L68 N k) σ (x1) else (fX3_housedTick N (σ) (x1)).bind fun r17 => fX3_ticks_B91 N (fX3_ticks_L68 N k) r17 (x1)
set_option maxHeartbeats 4000000 in
theorem tX3_ticks_L68 {w : gw_W} {X : gx_X} {N : Nat} {r : gm_S} (hA : ∀ q, gm_A w q → gx_A X q) (hX : gx_O (gw_I w (gx_A X)) X iX3_ticks 7 0 0 (gm_P w r) (.returned (none)))  : ∀ (k : Nat) (σ : gm_S) (x1 : Int32), fX3_ticks_L68 N k σ x1 = some r → gx_G X (gm_P w σ) 0 0 [some (va_rf (some (gw_mo w))), some (.int (x1)), none] 68 [] := by
  intro k
  induction k with
  | zero =>
    intro σ x1 h
    unfold fX3_ticks_L68 at h
    cases h
  | succ k ih =>
    intro σ x1 h
    unfold fX3_ticks_L68 at h
    refine gx_iload_n hX dX3_ticks_68 rfl ?_
    refine gx_aload_n hX dX3_ticks_69 rfl ?_
    refine gm_getA hX 1 (by decide) (by decide) q1342 rfl dX3_ticks_70 ?_
    refine gx_iconst (v := 1) hX dX3_ticks_73 (by decide) ?_
    refine gm_ld hX (by decide) dX3_ticks_74 h (fun v3 h => ?_)
    refine gx_icmp_ge (tgt := 97) hX dX3_ticks_75 (by decide) h (fun h => ?_) (fun h => ?_)
    · refine gx_iconst (v := 0) hX dX3_ticks_97 (by decide) ?_
      refine gx_istore_n hX dX3_ticks_98 (Nat.le_of_ble_eq_true rfl) gx_c1r (lv' := [some (va_rf (some (gw_mo w))), some (.int (0)), none]) rfl ?_
      exact tX3_ticks_L99 hA hX  N _ _ h
    · refine gx_aload_n hX dX3_ticks_78 rfl ?_
      refine gx_iload_n hX dX3_ticks_79 rfl ?_
      obtain ⟨r16, hr16, h⟩ := gx_bs h
      refine gx_cV (As := [.int (x1)]) (rest := []) (b := gw_mo w) hX (tX3_isHoused w _ hA (gx_l X) (σ) (x1) hr16) (lw_V q1510 q1512 qs38 q92 q1513) ⟨rfl, dsX3_isHoused⟩ (by decide) (by decide) (gm_rc hX) rfl (gx_w8 gx_k0 (Nat.le_of_ble_eq_true rfl)) dX3_ticks_80 ⟨Nat.le_refl _, Nat.le_refl _⟩ rfl ?_
      refine gx_if_eq (tgt := 91) hX dX3_ticks_83 (by decide) h (fun h => ?_) (fun h => ?_)
      · exact tX3_ticks_B91 hA hX ih h
      · refine gx_aload_n hX dX3_ticks_86 rfl ?_
        refine gx_iload_n hX dX3_ticks_87 rfl ?_
        obtain ⟨r17, hr17, h⟩ := gx_bs h
        refine gx_cV (As := [.int (x1)]) (rest := []) (b := gw_mo w) hX (tX3_housedTick w _ hA (gx_l X) N (σ) (x1) hr17) (lw_V q1695 q1697 qs62 q92 q1698) ⟨rfl, dsX3_housedTick⟩ (by decide) (by decide) (gm_rc hX) rfl (gx_w8 gx_k0 (Nat.le_of_ble_eq_true rfl)) dX3_ticks_88 ⟨Nat.le_refl _, Nat.le_refl _⟩ rfl ?_
        exact tX3_ticks_B91 hA hX ih h
def fX3_ticks_B60 (N : Nat)  (K31 : gm_S → Int32 → Option (gm_S)) (σ : gm_S) (x1 : Int32) : Option (gm_S) := K31 σ ((x1) + 1)
set_option maxHeartbeats 4000000 in
theorem tX3_ticks_B60 {w : gw_W} {X : gx_X} {N : Nat} {r : gm_S} (hA : ∀ q, gm_A w q → gx_A X q) (hX : gx_O (gw_I w (gx_A X)) X iX3_ticks 7 0 0 (gm_P w r) (.returned (none))) {K31 : gm_S → Int32 → Option (gm_S)} (hK31 : ∀ (σ : gm_S) (x1 : Int32), K31 σ x1 = some r → gx_G X (gm_P w σ) 0 0 [some (va_rf (some (gw_mo w))), some (.int (x1)), none] 31 []) {σ : gm_S} {x1 : Int32} (h : fX3_ticks_B60 N K31 σ x1 = some r) : gx_G X (gm_P w σ) 0 0 [some (va_rf (some (gw_mo w))), some (.int (x1)), none] 60 [] := by
  unfold fX3_ticks_B60 at h
  refine gx_iinc (v := 1) hX dX3_ticks_60 rfl (by decide) gx_c1r (lv' := [some (va_rf (some (gw_mo w))), some (.int ((x1) + 1)), none]) rfl ?_
  refine gx_goto (tgt := 31) hX dX3_ticks_63 (by decide) ?_
  exact hK31 _ _ h
def fX3_ticks_L31 (N : Nat)   : Nat → gm_S → Int32 → Option (gm_S)
  | 0, _, _ => none
  | k + 1, σ, x1 => (gm_rd σ 1 (1)).bind fun v2 => if (v2) ≤ x1 then fX3_ticks_L68 N N σ (0) else (gm_rd σ 1 ((nI 166) + (x1))).bind fun v18 => if v18 = 1 then (fX3_bareTick N (σ) (x1)).bind fun r19 => fX3_ticks_B60 N (fX3_ticks_L31 N k) r19 (x1) else fX3_ticks_B60 N (fX3_ticks_L31 N k) σ (x1)
set_option maxHeartbeats 4000000 in
theorem tX3_ticks_L31 {w : gw_W} {X : gx_X} {N : Nat} {r : gm_S} (hA : ∀ q, gm_A w q → gx_A X q) (hX : gx_O (gw_I w (gx_A X)) X iX3_ticks 7 0 0 (gm_P w r) (.returned (none)))  : ∀ (k : Nat) (σ : gm_S) (x1 : Int32), fX3_ticks_L31 N k σ x1 = some r → gx_G X (gm_P w σ) 0 0 [some (va_rf (some (gw_mo w))), some (.int (x1)), none] 31 [] := by
  intro k
  induction k with
  | zero =>
    intro σ x1 h
    unfold fX3_ticks_L31 at h
    cases h
  | succ k ih =>
    intro σ x1 h
    unfold fX3_ticks_L31 at h
    refine gx_iload_n hX dX3_ticks_31 rfl ?_
    refine gx_aload_n hX dX3_ticks_32 rfl ?_
    refine gm_getA hX 1 (by decide) (by decide) q1342 rfl dX3_ticks_33 ?_
    refine gx_iconst (v := 1) hX dX3_ticks_36 (by decide) ?_
    refine gm_ld hX (by decide) dX3_ticks_37 h (fun v2 h => ?_)
    refine gx_icmp_ge (tgt := 66) hX dX3_ticks_38 (by decide) h (fun h => ?_) (fun h => ?_)
    · refine gx_iconst (v := 0) hX dX3_ticks_66 (by decide) ?_
      refine gx_istore_n hX dX3_ticks_67 (Nat.le_of_ble_eq_true rfl) gx_c1r (lv' := [some (va_rf (some (gw_mo w))), some (.int (0)), none]) rfl ?_
      exact tX3_ticks_L68 hA hX  N _ _ h
    · refine gx_aload_n hX dX3_ticks_41 rfl ?_
      refine gm_getA hX 1 (by decide) (by decide) q1342 rfl dX3_ticks_42 ?_
      refine gx_sipush (v := nI 166) hX dX3_ticks_45 (by decide) ?_
      refine gx_iload_n hX dX3_ticks_48 rfl ?_
      refine gx_iadd hX dX3_ticks_49 ?_
      refine gm_ld hX (by decide) dX3_ticks_50 h (fun v18 h => ?_)
      refine gx_iconst (v := 1) hX dX3_ticks_51 (by decide) ?_
      refine gx_icmp_ne (tgt := 60) hX dX3_ticks_52 (by decide) h (fun h => ?_) (fun h => ?_)
      · refine gx_aload_n hX dX3_ticks_55 rfl ?_
        refine gx_iload_n hX dX3_ticks_56 rfl ?_
        obtain ⟨r19, hr19, h⟩ := gx_bs h
        refine gx_cV (As := [.int (x1)]) (rest := []) (b := gw_mo w) hX (tX3_bareTick w _ hA (gx_l X) N (σ) (x1) hr19) (lw_V q1683 q1685 qs59 q92 q1686) ⟨rfl, dsX3_bareTick⟩ (by decide) (by decide) (gm_rc hX) rfl (gx_w8 gx_k0 (Nat.le_of_ble_eq_true rfl)) dX3_ticks_57 ⟨Nat.le_refl _, Nat.le_refl _⟩ rfl ?_
        exact tX3_ticks_B60 hA hX ih h
      · exact tX3_ticks_B60 hA hX ih h
def fX3_ticks_L2 (N : Nat)   : Nat → gm_S → Int32 → Option (gm_S)
  | 0, _, _ => none
  | k + 1, σ, x1 => (gm_rd σ 1 (1)).bind fun v1 => if (v1) ≤ x1 then fX3_ticks_L31 N N σ (0) else (gm_wr σ 1 ((nI 226) + (x1)) (0)).bind fun σ20 => (fX3_ticks_L2 N k) σ20 ((x1) + 1)
set_option maxHeartbeats 4000000 in
theorem tX3_ticks_L2 {w : gw_W} {X : gx_X} {N : Nat} {r : gm_S} (hA : ∀ q, gm_A w q → gx_A X q) (hX : gx_O (gw_I w (gx_A X)) X iX3_ticks 7 0 0 (gm_P w r) (.returned (none)))  : ∀ (k : Nat) (σ : gm_S) (x1 : Int32), fX3_ticks_L2 N k σ x1 = some r → gx_G X (gm_P w σ) 0 0 [some (va_rf (some (gw_mo w))), some (.int (x1)), none] 2 [] := by
  intro k
  induction k with
  | zero =>
    intro σ x1 h
    unfold fX3_ticks_L2 at h
    cases h
  | succ k ih =>
    intro σ x1 h
    unfold fX3_ticks_L2 at h
    refine gx_iload_n hX dX3_ticks_2 rfl ?_
    refine gx_aload_n hX dX3_ticks_3 rfl ?_
    refine gm_getA hX 1 (by decide) (by decide) q1342 rfl dX3_ticks_4 ?_
    refine gx_iconst (v := 1) hX dX3_ticks_7 (by decide) ?_
    refine gm_ld hX (by decide) dX3_ticks_8 h (fun v1 h => ?_)
    refine gx_icmp_ge (tgt := 29) hX dX3_ticks_9 (by decide) h (fun h => ?_) (fun h => ?_)
    · refine gx_iconst (v := 0) hX dX3_ticks_29 (by decide) ?_
      refine gx_istore_n hX dX3_ticks_30 (Nat.le_of_ble_eq_true rfl) gx_c1r (lv' := [some (va_rf (some (gw_mo w))), some (.int (0)), none]) rfl ?_
      exact tX3_ticks_L31 hA hX  N _ _ h
    · refine gx_aload_n hX dX3_ticks_12 rfl ?_
      refine gm_getA hX 1 (by decide) (by decide) q1342 rfl dX3_ticks_13 ?_
      refine gx_sipush (v := nI 226) hX dX3_ticks_16 (by decide) ?_
      refine gx_iload_n hX dX3_ticks_19 rfl ?_
      refine gx_iadd hX dX3_ticks_20 ?_
      refine gx_iconst (v := 0) hX dX3_ticks_21 (by decide) ?_
      refine gm_st hX hA (by decide) dX3_ticks_22 h (fun σ20 h => ?_)
      refine gx_iinc (v := 1) hX dX3_ticks_23 rfl (by decide) gx_c1r (lv' := [some (va_rf (some (gw_mo w))), some (.int ((x1) + 1)), none]) rfl ?_
      refine gx_goto (tgt := 2) hX dX3_ticks_26 (by decide) ?_
      exact ih _ _ h
def fX3_ticks (N : Nat) (σ : gm_S)  : Option (gm_S) := fX3_ticks_L2 N N σ (0)
set_option maxHeartbeats 4000000 in
theorem tX3_ticks (w : gw_W) (A : Nat → Prop) (hA : ∀ q, gm_A w q → A q) (l : Launch) (N : Nat) (σ : gm_S)  {r : gm_S} (h : fX3_ticks N σ = some r) : gx_T (gw_I w A) A l yX3_ticks iX3_ticks 7 [va_rf (some (gw_mo w))] (gm_P w σ) 0 0 (gm_P w r) (.returned (none)) := by
  refine gx_T.of (gw_I.inv w A) (by decide) ⟨rfl, rfl⟩ (gx_kR gx_k0) (Nat.le_of_ble_eq_true rfl) (fun X hl hAx hX => ?_)
  subst hl
  subst hAx
  show gx_G X (gm_P w σ) 0 0 [some (va_rf (some (gw_mo w))), none, none] 0 []
  unfold fX3_ticks at h
  refine gx_iconst (v := 0) hX dX3_ticks_0 (by decide) ?_
  refine gx_istore_n hX dX3_ticks_1 (Nat.le_of_ble_eq_true rfl) gx_c1r (lv' := [some (va_rf (some (gw_mo w))), some (.int (0)), none]) rfl ?_
  exact tX3_ticks_L2 hA hX  N _ _ h
abbrev iX3_tick : gx_M := (RX3, "tick", cX3_tick, 3, some .int)
theorem dsX3_tick : gx_ds yX3_tick 1 := by decide +kernel
def fX3_tick_L15 (N : Nat)   : Nat → gm_S → Int32 → Int32 → Option (gm_S × Int32)
  | 0, _, _, _ => none
  | k + 1, σ, x1, x2 => if (x1) ≤ x2 then (gm_rd σ 1 (2)).bind fun v2 => some (σ, v2) else (fX3_ticks N (σ)).bind fun r3 => (fX3_tick_L15 N k) r3 (x1) ((x2) + 1)
set_option maxHeartbeats 4000000 in
theorem tX3_tick_L15 {w : gw_W} {X : gx_X} {N : Nat} {r : gm_S × Int32} (hA : ∀ q, gm_A w q → gx_A X q) (hX : gx_O (gw_I w (gx_A X)) X iX3_tick 8 0 0 (gm_P w r.1) (.returned (some (.int r.2))))  : ∀ (k : Nat) (σ : gm_S) (x1 : Int32) (x2 : Int32), fX3_tick_L15 N k σ x1 x2 = some r → gx_G X (gm_P w σ) 0 0 [some (va_rf (some (gw_mo w))), some (.int (x1)), some (.int (x2))] 15 [] := by
  intro k
  induction k with
  | zero =>
    intro σ x1 x2 h
    unfold fX3_tick_L15 at h
    cases h
  | succ k ih =>
    intro σ x1 x2 h
    unfold fX3_tick_L15 at h
    refine gx_iload_n hX dX3_tick_15 rfl ?_
    refine gx_iload_n hX dX3_tick_16 rfl ?_
    refine gx_icmp_ge (tgt := 30) hX dX3_tick_17 (by decide) h (fun h => ?_) (fun h => ?_)
    · refine gx_aload_n hX dX3_tick_30 rfl ?_
      refine gm_getA hX 1 (by decide) (by decide) q1342 rfl dX3_tick_31 ?_
      refine gx_iconst (v := 2) hX dX3_tick_34 (by decide) ?_
      refine gm_ld hX (by decide) dX3_tick_35 h (fun v2 h => ?_)
      cases h
      exact gx_iret hX rfl dX3_tick_36 rfl ⟨rfl, rfl⟩ (fun _ h => h)
    · refine gx_aload_n hX dX3_tick_20 rfl ?_
      obtain ⟨r3, hr3, h⟩ := gx_bs h
      refine gx_cV (As := []) (rest := []) (b := gw_mo w) hX (tX3_ticks w _ hA (gx_l X) N (σ)  hr3) (lw_V q1679 q1681 qs58 q92 q1682) ⟨rfl, dsX3_ticks⟩ (by decide) (by decide) (gm_rc hX) rfl (gx_w8 gx_k0 (Nat.le_of_ble_eq_true rfl)) dX3_tick_21 ⟨Nat.le_refl _, Nat.le_refl _⟩ rfl ?_
      refine gx_iinc (v := 1) hX dX3_tick_24 rfl (by decide) gx_c1i (lv' := [some (va_rf (some (gw_mo w))), some (.int (x1)), some (.int ((x2) + 1))]) rfl ?_
      refine gx_goto (tgt := 15) hX dX3_tick_27 (by decide) ?_
      exact ih _ _ _ h
def fX3_tick (N : Nat) (σ : gm_S) (x1 : Int32) : Option (gm_S × Int32) := (fX3_in  (x1) (1) (nI 30)).bind fun r1 => if r1 = 0 then some (σ, (-2)) else fX3_tick_L15 N N σ (x1) (0)
set_option maxHeartbeats 4000000 in
theorem tX3_tick (w : gw_W) (A : Nat → Prop) (hA : ∀ q, gm_A w q → A q) (l : Launch) (N : Nat) (σ : gm_S) (x1 : Int32) {r : gm_S × Int32} (h : fX3_tick N σ x1 = some r) : gx_T (gw_I w A) A l yX3_tick iX3_tick 8 [va_rf (some (gw_mo w)), .int (x1)] (gm_P w σ) 0 0 (gm_P w r.1) (.returned (some (.int r.2))) := by
  refine gx_T.of (gw_I.inv w A) (by decide) ⟨rfl, rfl⟩ (gx_kR (gx_kI gx_k0)) (Nat.le_of_ble_eq_true rfl) (fun X hl hAx hX => ?_)
  subst hl
  subst hAx
  show gx_G X (gm_P w σ) 0 0 [some (va_rf (some (gw_mo w))), some (.int (x1)), none] 0 []
  unfold fX3_tick at h
  refine gx_iload_n hX dX3_tick_0 rfl ?_
  refine gx_iconst (v := 1) hX dX3_tick_1 (by decide) ?_
  refine gx_bipush (v := nI 30) hX dX3_tick_2 (by decide) ?_
  obtain ⟨r1, hr1, h⟩ := gx_bs h
  refine gx_cS (As := [.int (x1), .int (1), .int (nI 30)]) (rest := []) hX (tX3_in w (gx_A X) (gx_l X) (gm_P w σ) (x1) (1) (nI 30) hr1) (lw_S q1467 q1468 q92 q1469) dsX3_in (by decide) (by decide) rfl (gx_w8 gx_k0 (Nat.le_of_ble_eq_true rfl)) dX3_tick_4 ⟨Nat.le_refl _, Nat.le_refl _⟩ rfl ?_
  refine gx_if_ne (tgt := 13) hX dX3_tick_7 (by decide) h (fun h => ?_) (fun h => ?_)
  · refine gx_bipush (v := (-2)) hX dX3_tick_10 (by decide) ?_
    cases h
    exact gx_iret hX rfl dX3_tick_12 rfl ⟨rfl, rfl⟩ (fun _ h => h)
  · refine gx_iconst (v := 0) hX dX3_tick_13 (by decide) ?_
    refine gx_istore_n hX dX3_tick_14 (Nat.le_of_ble_eq_true rfl) gx_c1i (lv' := [some (va_rf (some (gw_mo w))), some (.int (x1)), some (.int (0))]) rfl ?_
    exact tX3_tick_L15 hA hX  N _ _ _ h
abbrev iX3_row : gx_M := (RX3, "row", cX3_row, 8, some .int)
theorem dsX3_row : gx_ds yX3_row 2 := by decide +kernel
def fX3_row_B150 (N : Nat) (σ : gm_S) (K22 : Int32 → Int32 → Int32 → Int32 → Int32 → Option (Int32)) (x1 : Int32) (x2 : Int32) (x3 : Int32) (x4 : Int32) (x5 : Int32) : Option (Int32) := K22 (x1) (x2) (x3) (x4) ((x5) + 1)
set_option maxHeartbeats 4000000 in
theorem tX3_row_B150 {w : gw_W} {X : gx_X} {N : Nat} {σ : gm_S} {r : Int32} (hA : ∀ q, gm_A w q → gx_A X q) (hX : gx_O (gw_I w (gx_A X)) X iX3_row 3 0 0 (gm_P w σ) (.returned (some (.int r)))) {K22 : Int32 → Int32 → Int32 → Int32 → Int32 → Option (Int32)} (hK22 : ∀ (x1 : Int32) (x2 : Int32) (x3 : Int32) (x4 : Int32) (x5 : Int32), K22 x1 x2 x3 x4 x5 = some r → gx_G X (gm_P w σ) 0 0 [some (va_rf (some (gw_mo w))), some (.int (x1)), some (.int (x2)), some (.int (x3)), some (.int (x4)), some (.int (x5)), none, none] 22 []) {x1 : Int32} {x2 : Int32} {x3 : Int32} {x4 : Int32} {x5 : Int32} (h : fX3_row_B150 N σ K22 x1 x2 x3 x4 x5 = some r) : gx_G X (gm_P w σ) 0 0 [some (va_rf (some (gw_mo w))), some (.int (x1)), some (.int (x2)), some (.int (x3)), some (.int (x4)), some (.int (x5)), none, none] 150 [] := by
  unfold fX3_row_B150 at h
  refine gx_iinc (v := 1) hX dX3_row_150 rfl (by decide) gx_c1i (lv' := [some (va_rf (some (gw_mo w))), some (.int (x1)), some (.int (x2)), some (.int (x3)), some (.int (x4)), some (.int ((x5) + 1)), none, none]) rfl ?_
  refine gx_goto (tgt := 22) hX dX3_row_153 (by decide) ?_
  exact hK22 _ _ _ _ _ h
def fX3_row_B145 (N : Nat) (σ : gm_S) (K22 : Int32 → Int32 → Int32 → Int32 → Int32 → Option (Int32)) (x1 : Int32) (x2 : Int32) (x3 : Int32) (x5 : Int32) (y0 : Int32) : Option (Int32) := fX3_row_B150 N σ K22 (x1) (x2) ((x3) + 1) (y0) (x5)
set_option maxHeartbeats 4000000 in
theorem tX3_row_B145 {w : gw_W} {X : gx_X} {N : Nat} {σ : gm_S} {r : Int32} (hA : ∀ q, gm_A w q → gx_A X q) (hX : gx_O (gw_I w (gx_A X)) X iX3_row 3 0 0 (gm_P w σ) (.returned (some (.int r)))) {K22 : Int32 → Int32 → Int32 → Int32 → Int32 → Option (Int32)} (hK22 : ∀ (x1 : Int32) (x2 : Int32) (x3 : Int32) (x4 : Int32) (x5 : Int32), K22 x1 x2 x3 x4 x5 = some r → gx_G X (gm_P w σ) 0 0 [some (va_rf (some (gw_mo w))), some (.int (x1)), some (.int (x2)), some (.int (x3)), some (.int (x4)), some (.int (x5)), none, none] 22 []) {x1 : Int32} {x2 : Int32} {x3 : Int32} {x5 : Int32} {y0 : Int32} (h : fX3_row_B145 N σ K22 x1 x2 x3 x5 y0 = some r) : gx_G X (gm_P w σ) 0 0 [some (va_rf (some (gw_mo w))), some (.int (x1)), some (.int (x2)), some (.int (x3)), none, some (.int (x5)), none, none] 145 [.int (y0)] := by
  unfold fX3_row_B145 at h
  refine gx_istore hX dX3_row_145 (Nat.le_of_ble_eq_true rfl) gx_c1i (lv' := [some (va_rf (some (gw_mo w))), some (.int (x1)), some (.int (x2)), some (.int (x3)), some (.int (y0)), some (.int (x5)), none, none]) rfl ?_
  refine gx_iinc (v := 1) hX dX3_row_147 rfl (by decide) gx_c1i (lv' := [some (va_rf (some (gw_mo w))), some (.int (x1)), some (.int (x2)), some (.int ((x3) + 1)), some (.int (y0)), some (.int (x5)), none, none]) rfl ?_
  exact tX3_row_B150 hA hX hK22 h
def fX3_row_B123 (N : Nat) (σ : gm_S) (K22 : Int32 → Int32 → Int32 → Int32 → Int32 → Option (Int32)) (K63 : Int32 → Int32 → Int32 → Int32 → Int32 → Int32 → Int32 → Option (Int32)) (x1 : Int32) (x2 : Int32) (x3 : Int32) (x4 : Int32) (x5 : Int32) (x7 : Int32) (y0 : Int32) (y1 : Int32) : Option (Int32) := K63 (x1) (x2) (x3) (x4) (x5) ((y1) + (y0)) ((x7) + 1)
set_option maxHeartbeats 4000000 in
theorem tX3_row_B123 {w : gw_W} {X : gx_X} {N : Nat} {σ : gm_S} {r : Int32} (hA : ∀ q, gm_A w q → gx_A X q) (hX : gx_O (gw_I w (gx_A X)) X iX3_row 3 0 0 (gm_P w σ) (.returned (some (.int r)))) {K22 : Int32 → Int32 → Int32 → Int32 → Int32 → Option (Int32)} {K63 : Int32 → Int32 → Int32 → Int32 → Int32 → Int32 → Int32 → Option (Int32)} (hK22 : ∀ (x1 : Int32) (x2 : Int32) (x3 : Int32) (x4 : Int32) (x5 : Int32), K22 x1 x2 x3 x4 x5 = some r → gx_G X (gm_P w σ) 0 0 [some (va_rf (some (gw_mo w))), some (.int (x1)), some (.int (x2)), some (.int (x3)), some (.int (x4)), some (.int (x5)), none, none] 22 []) (hK63 : ∀ (x1 : Int32) (x2 : Int32) (x3 : Int32) (x4 : Int32) (x5 : Int32) (x6 : Int32) (x7 : Int32), K63 x1 x2 x3 x4 x5 x6 x7 = some r → gx_G X (gm_P w σ) 0 0 [some (va_rf (some (gw_mo w))), some (.int (x1)), some (.int (x2)), some (.int (x3)), some (.int (x4)), some (.int (x5)), some (.int (x6)), some (.int (x7))] 63 []) {x1 : Int32} {x2 : Int32} {x3 : Int32} {x4 : Int32} {x5 : Int32} {x7 : Int32} {y0 : Int32} {y1 : Int32} (h : fX3_row_B123 N σ K22 K63 x1 x2 x3 x4 x5 x7 y0 y1 = some r) : gx_G X (gm_P w σ) 0 0 [some (va_rf (some (gw_mo w))), some (.int (x1)), some (.int (x2)), some (.int (x3)), some (.int (x4)), some (.int (x5)), none, some (.int (x7))] 123 [.int (y0), .int (y1)] := by
  unfold fX3_row_B123 at h
  refine gx_iadd hX dX3_row_123 ?_
  refine gx_istore hX dX3_row_124 (Nat.le_of_ble_eq_true rfl) gx_c1i (lv' := [some (va_rf (some (gw_mo w))), some (.int (x1)), some (.int (x2)), some (.int (x3)), some (.int (x4)), some (.int (x5)), some (.int ((y1) + (y0))), some (.int (x7))]) rfl ?_
  refine gx_iinc (v := 1) hX dX3_row_126 rfl (by decide) gx_c1i (lv' := [some (va_rf (some (gw_mo w))), some (.int (x1)), some (.int (x2)), some (.int (x3)), some (.int (x4)), some (.int (x5)), some (.int ((y1) + (y0))), some (.int ((x7) + 1))]) rfl ?_
  refine gx_goto (tgt := 63) hX dX3_row_129 (by decide) ?_
  exact hK63 _ _ _ _ _ _ _ h
def fX3_row_B122 (N : Nat) (σ : gm_S) (K22 : Int32 → Int32 → Int32 → Int32 → Int32 → Option (Int32)) (K63 : Int32 → Int32 → Int32 → Int32 → Int32 → Int32 → Int32 → Option (Int32)) (x1 : Int32) (x2 : Int32) (x3 : Int32) (x4 : Int32) (x5 : Int32) (x7 : Int32) (y0 : Int32) : Option (Int32) := fX3_row_B123 N σ K22 K63 (x1) (x2) (x3) (x4) (x5) (x7) (0) (y0)
set_option maxHeartbeats 4000000 in
theorem tX3_row_B122 {w : gw_W} {X : gx_X} {N : Nat} {σ : gm_S} {r : Int32} (hA : ∀ q, gm_A w q → gx_A X q) (hX : gx_O (gw_I w (gx_A X)) X iX3_row 3 0 0 (gm_P w σ) (.returned (some (.int r)))) {K22 : Int32 → Int32 → Int32 → Int32 → Int32 → Option (Int32)} {K63 : Int32 → Int32 → Int32 → Int32 → Int32 → Int32 → Int32 → Option (Int32)} (hK22 : ∀ (x1 : Int32) (x2 : Int32) (x3 : Int32) (x4 : Int32) (x5 : Int32), K22 x1 x2 x3 x4 x5 = some r → gx_G X (gm_P w σ) 0 0 [some (va_rf (some (gw_mo w))), some (.int (x1)), some (.int (x2)), some (.int (x3)), some (.int (x4)), some (.int (x5)), none, none] 22 []) (hK63 : ∀ (x1 : Int32) (x2 : Int32) (x3 : Int32) (x4 : Int32) (x5 : Int32) (x6 : Int32) (x7 : Int32), K63 x1 x2 x3 x4 x5 x6 x7 = some r → gx_G X (gm_P w σ) 0 0 [some (va_rf (some (gw_mo w))), some (.int (x1)), some (.int (x2)), some (.int (x3)), some (.int (x4)), some (.int (x5)), some (.int (x6)), some (.int (x7))] 63 []) {x1 : Int32} {x2 : Int32} {x3 : Int32} {x4 : Int32} {x5 : Int32} {x7 : Int32} {y0 : Int32} (h : fX3_row_B122 N σ K22 K63 x1 x2 x3 x4 x5 x7 y0 = some r) : gx_G X (gm_P w σ) 0 0 [some (va_rf (some (gw_mo w))), some (.int (x1)), some (.int (x2)), some (.int (x3)), some (.int (x4)), some (.int (x5)), none, some (.int (x7))] 122 [.int (y0)] := by
  unfold fX3_row_B122 at h
  refine gx_iconst (v := 0) hX dX3_row_122 (by decide) ?_
  exact tX3_row_B123 hA hX hK22 hK63 h
def fX3_row_L63 (N : Nat) (σ : gm_S) (K22 : Int32 → Int32 → Int32 → Int32 → Int32 → Option (Int32)) : Nat → Int32 → Int32 → Int32 → Int32 → Int32 → Int32 → Int32 → Option (Int32)
  | 0, _, _, _, _, _, _, _ => none
  | k + 1, x1, x2, x3, x4, x5, x6, x7 => (gm_rd σ 1 (1)).bind fun v5 => if (v5) ≤ x7 then if x6 = x2 then fX3_row_B145 N σ K22 (x1) (x2) (x3) (x5) (x5) else fX3_row_B145 N σ K22 (x1) (x2) (x3) (x5) (x4) else if x7 = x5 then fX3_row_B122 N σ K22 (fX3_row_L63 N σ K22 k) (x1) (x2) (x3) (x4) (x5) (x7) (x6) else (fX3_waits (σ) (x7)).bind fun r6 => if r6 = 0 then fX3_row_B122 N σ K22 (fX3_row_L63 N σ K22 k) (x1) (x2) (x3) (x4) (x5) (x7) (x6) else (gm_rd σ 1 ((nI 142) + (x7))).bind fun v7 => if v7 = x1 then (fX3_isAhead (σ) (x7) (x5)).bind fun r8 => if r8 = 0 then fX3_row_B122 N σ K22 (fX3_row_L63 N σ K22 k) (x1) (x2) (x3) (x4) (x5) (x7) (x6) else fX3_row_B123 N σ K22 (fX3_row_L63 N σ K22 k) (x1) (x2) (x3) (x4) (x5) (x7) (1) (x6) else fX3_row_B122 N σ K22 (fX3_row_L63 N σ K22 k) (x1) (x2) (x3) (x4) (x5) (x7) (x6)
set_option maxHeartbeats 4000000 in
theorem tX3_row_L63 {w : gw_W} {X : gx_X} {N : Nat} {σ : gm_S} {r : Int32} (hA : ∀ q, gm_A w q → gx_A X q) (hX : gx_O (gw_I w (gx_A X)) X iX3_row 3 0 0 (gm_P w σ) (.returned (some (.int r)))) {K22 : Int32 → Int32 → Int32 → Int32 → Int32 → Option (Int32)} (hK22 : ∀ (x1 : Int32) (x2 : Int32) (x3 : Int32) (x4 : Int32) (x5 : Int32), K22 x1 x2 x3 x4 x5 = some r → gx_G X (gm_P w σ) 0 0 [some (va_rf (some (gw_mo w))), some (.int (x1)), some (.int (x2)), some (.int (x3)), some (.int (x4)), some (.int (x5)), none, none] 22 []) : ∀ (k : Nat) (x1 : Int32) (x2 : Int32) (x3 : Int32) (x4 : Int32) (x5 : Int32) (x6 : Int32) (x7 : Int32), fX3_row_L63 N σ K22 k x1 x2 x3 x4 x5 x6 x7 = some r → gx_G X (gm_P w σ) 0 0 [some (va_rf (some (gw_mo w))), some (.int (x1)), some (.int (x2)), some (.int (x3)), some (.int (x4)), some (.int (x5)), some (.int (x6)), some (.int (x7))] 63 [] := by
  intro k
  induction k with
  | zero =>
    intro x1 x2 x3 x4 x5 x6 x7 h
    unfold fX3_row_L63 at h
    cases h
  | succ k ih =>
    intro x1 x2 x3 x4 x5 x6 x7 h
    unfold fX3_row_L63 at h
    refine gx_iload hX dX3_row_63 rfl ?_
    refine gx_aload_n hX dX3_row_65 rfl ?_
    refine gm_getA hX 1 (by decide) (by decide) q1342 rfl dX3_row_66 ?_
    refine gx_iconst (v := 1) hX dX3_row_69 (by decide) ?_
    refine gm_ld hX (by decide) dX3_row_70 h (fun v5 h => ?_)
    refine gx_icmp_ge (tgt := 132) hX dX3_row_71 (by decide) h (fun h => ?_) (fun h => ?_)
    · refine gx_iload hX dX3_row_132 rfl ?_
      refine gx_iload_n hX dX3_row_134 rfl ?_
      refine gx_icmp_ne (tgt := 143) hX dX3_row_135 (by decide) h (fun h => ?_) (fun h => ?_)
      · refine gx_iload hX dX3_row_138 rfl ?_
        refine gx_goto (tgt := 145) hX dX3_row_140 (by decide) ?_
        refine gx_sub hX (lv' := [some (va_rf (some (gw_mo w))), some (.int (x1)), some (.int (x2)), some (.int (x3)), none, some (.int (x5)), none, none]) ⟨Or.inr rfl, ⟨Or.inr rfl, ⟨Or.inr rfl, ⟨Or.inr rfl, ⟨Or.inl rfl, ⟨Or.inr rfl, ⟨Or.inl rfl, ⟨Or.inl rfl, trivial⟩⟩⟩⟩⟩⟩⟩⟩ ?_
        exact tX3_row_B145 hA hX hK22 h
      · refine gx_iload hX dX3_row_143 rfl ?_
        refine gx_sub hX (lv' := [some (va_rf (some (gw_mo w))), some (.int (x1)), some (.int (x2)), some (.int (x3)), none, some (.int (x5)), none, none]) ⟨Or.inr rfl, ⟨Or.inr rfl, ⟨Or.inr rfl, ⟨Or.inr rfl, ⟨Or.inl rfl, ⟨Or.inr rfl, ⟨Or.inl rfl, ⟨Or.inl rfl, trivial⟩⟩⟩⟩⟩⟩⟩⟩ ?_
        exact tX3_row_B145 hA hX hK22 h
    · refine gx_iload hX dX3_row_74 rfl ?_
      refine gx_iload hX dX3_row_76 rfl ?_
      refine gx_iload hX dX3_row_78 rfl ?_
      refine gx_icmp_eq (tgt := 122) hX dX3_row_80 (by decide) h (fun h => ?_) (fun h => ?_)
      · refine gx_sub hX (lv' := [some (va_rf (some (gw_mo w))), some (.int (x1)), some (.int (x2)), some (.int (x3)), some (.int (x4)), some (.int (x5)), none, some (.int (x7))]) ⟨Or.inr rfl, ⟨Or.inr rfl, ⟨Or.inr rfl, ⟨Or.inr rfl, ⟨Or.inr rfl, ⟨Or.inr rfl, ⟨Or.inl rfl, ⟨Or.inr rfl, trivial⟩⟩⟩⟩⟩⟩⟩⟩ ?_
        exact tX3_row_B122 hA hX hK22 ih h
      · refine gx_aload_n hX dX3_row_83 rfl ?_
        refine gx_iload hX dX3_row_84 rfl ?_
        obtain ⟨r6, hr6, h⟩ := gx_bs h
        refine gx_cV (As := [.int (x7)]) (rest := [.int (x6)]) (b := gw_mo w) hX (tX3_waits w _ hA (gx_l X) (σ) (x7) hr6) (lw_V q1514 q1516 qs39 q92 q1517) ⟨rfl, dsX3_waits⟩ (by decide) (by decide) (gm_rc hX) rfl (gx_w8 (gx_kI gx_k0) (Nat.le_of_ble_eq_true rfl)) dX3_row_86 ⟨Nat.le_refl _, Nat.le_refl _⟩ rfl ?_
        refine gx_if_eq (tgt := 122) hX dX3_row_89 (by decide) h (fun h => ?_) (fun h => ?_)
        · refine gx_sub hX (lv' := [some (va_rf (some (gw_mo w))), some (.int (x1)), some (.int (x2)), some (.int (x3)), some (.int (x4)), some (.int (x5)), none, some (.int (x7))]) ⟨Or.inr rfl, ⟨Or.inr rfl, ⟨Or.inr rfl, ⟨Or.inr rfl, ⟨Or.inr rfl, ⟨Or.inr rfl, ⟨Or.inl rfl, ⟨Or.inr rfl, trivial⟩⟩⟩⟩⟩⟩⟩⟩ ?_
          exact tX3_row_B122 hA hX hK22 ih h
        · refine gx_aload_n hX dX3_row_92 rfl ?_
          refine gm_getA hX 1 (by decide) (by decide) q1342 rfl dX3_row_93 ?_
          refine gx_sipush (v := nI 142) hX dX3_row_96 (by decide) ?_
          refine gx_iload hX dX3_row_99 rfl ?_
          refine gx_iadd hX dX3_row_101 ?_
          refine gm_ld hX (by decide) dX3_row_102 h (fun v7 h => ?_)
          refine gx_iload_n hX dX3_row_103 rfl ?_
          refine gx_icmp_ne (tgt := 122) hX dX3_row_104 (by decide) h (fun h => ?_) (fun h => ?_)
          · refine gx_aload_n hX dX3_row_107 rfl ?_
            refine gx_iload hX dX3_row_108 rfl ?_
            refine gx_iload hX dX3_row_110 rfl ?_
            obtain ⟨r8, hr8, h⟩ := gx_bs h
            refine gx_cV (As := [.int (x7), .int (x5)]) (rest := [.int (x6)]) (b := gw_mo w) hX (tX3_isAhead w _ hA (gx_l X) (σ) (x7) (x5) hr8) (lw_V q1518 q1520 qs40 q92 q1521) ⟨rfl, dsX3_isAhead⟩ (by decide) (by decide) (gm_rc hX) rfl (gx_w8 (gx_kI gx_k0) (Nat.le_of_ble_eq_true rfl)) dX3_row_112 ⟨Nat.le_refl _, Nat.le_refl _⟩ rfl ?_
            refine gx_if_eq (tgt := 122) hX dX3_row_115 (by decide) h (fun h => ?_) (fun h => ?_)
            · refine gx_sub hX (lv' := [some (va_rf (some (gw_mo w))), some (.int (x1)), some (.int (x2)), some (.int (x3)), some (.int (x4)), some (.int (x5)), none, some (.int (x7))]) ⟨Or.inr rfl, ⟨Or.inr rfl, ⟨Or.inr rfl, ⟨Or.inr rfl, ⟨Or.inr rfl, ⟨Or.inr rfl, ⟨Or.inl rfl, ⟨Or.inr rfl, trivial⟩⟩⟩⟩⟩⟩⟩⟩ ?_
              exact tX3_row_B122 hA hX hK22 ih h
            · refine gx_iconst (v := 1) hX dX3_row_118 (by decide) ?_
              refine gx_goto (tgt := 123) hX dX3_row_119 (by decide) ?_
              refine gx_sub hX (lv' := [some (va_rf (some (gw_mo w))), some (.int (x1)), some (.int (x2)), some (.int (x3)), some (.int (x4)), some (.int (x5)), none, some (.int (x7))]) ⟨Or.inr rfl, ⟨Or.inr rfl, ⟨Or.inr rfl, ⟨Or.inr rfl, ⟨Or.inr rfl, ⟨Or.inr rfl, ⟨Or.inl rfl, ⟨Or.inr rfl, trivial⟩⟩⟩⟩⟩⟩⟩⟩ ?_
              exact tX3_row_B123 hA hX hK22 ih h
          · refine gx_sub hX (lv' := [some (va_rf (some (gw_mo w))), some (.int (x1)), some (.int (x2)), some (.int (x3)), some (.int (x4)), some (.int (x5)), none, some (.int (x7))]) ⟨Or.inr rfl, ⟨Or.inr rfl, ⟨Or.inr rfl, ⟨Or.inr rfl, ⟨Or.inr rfl, ⟨Or.inr rfl, ⟨Or.inl rfl, ⟨Or.inr rfl, trivial⟩⟩⟩⟩⟩⟩⟩⟩ ?_
            exact tX3_row_B122 hA hX hK22 ih h
def fX3_row_L22 (N : Nat) (σ : gm_S)  : Nat → Int32 → Int32 → Int32 → Int32 → Int32 → Option (Int32)
  | 0, _, _, _, _, _ => none
  | k + 1, x1, x2, x3, x4, x5 => (gm_rd σ 1 (1)).bind fun v2 => if (v2) ≤ x5 then if x2 = (-1) then some (x3) else some (x4) else (fX3_waits (σ) (x5)).bind fun r3 => if r3 = 0 then fX3_row_B150 N σ (fX3_row_L22 N σ k) (x1) (x2) (x3) (x4) (x5) else (gm_rd σ 1 ((nI 142) + (x5))).bind fun v4 => if v4 = x1 then fX3_row_L63 N σ (fX3_row_L22 N σ k) N (x1) (x2) (x3) (x4) (x5) (0) (0) else fX3_row_B150 N σ (fX3_row_L22 N σ k) (x1) (x2) (x3) (x4) (x5)
set_option maxHeartbeats 4000000 in
theorem tX3_row_L22 {w : gw_W} {X : gx_X} {N : Nat} {σ : gm_S} {r : Int32} (hA : ∀ q, gm_A w q → gx_A X q) (hX : gx_O (gw_I w (gx_A X)) X iX3_row 3 0 0 (gm_P w σ) (.returned (some (.int r))))  : ∀ (k : Nat) (x1 : Int32) (x2 : Int32) (x3 : Int32) (x4 : Int32) (x5 : Int32), fX3_row_L22 N σ k x1 x2 x3 x4 x5 = some r → gx_G X (gm_P w σ) 0 0 [some (va_rf (some (gw_mo w))), some (.int (x1)), some (.int (x2)), some (.int (x3)), some (.int (x4)), some (.int (x5)), none, none] 22 [] := by
  intro k
  induction k with
  | zero =>
    intro x1 x2 x3 x4 x5 h
    unfold fX3_row_L22 at h
    cases h
  | succ k ih =>
    intro x1 x2 x3 x4 x5 h
    unfold fX3_row_L22 at h
    refine gx_iload hX dX3_row_22 rfl ?_
    refine gx_aload_n hX dX3_row_24 rfl ?_
    refine gm_getA hX 1 (by decide) (by decide) q1342 rfl dX3_row_25 ?_
    refine gx_iconst (v := 1) hX dX3_row_28 (by decide) ?_
    refine gm_ld hX (by decide) dX3_row_29 h (fun v2 h => ?_)
    refine gx_icmp_ge (tgt := 156) hX dX3_row_30 (by decide) h (fun h => ?_) (fun h => ?_)
    · refine gx_iload_n hX dX3_row_156 rfl ?_
      refine gx_iconst (v := (-1)) hX dX3_row_157 (by decide) ?_
      refine gx_icmp_ne (tgt := 165) hX dX3_row_158 (by decide) h (fun h => ?_) (fun h => ?_)
      · refine gx_iload_n hX dX3_row_161 rfl ?_
        refine gx_goto (tgt := 167) hX dX3_row_162 (by decide) ?_
        cases h
        exact gx_iret hX rfl dX3_row_167 rfl ⟨rfl, rfl⟩ (fun _ h => h)
      · refine gx_iload hX dX3_row_165 rfl ?_
        cases h
        exact gx_iret hX rfl dX3_row_167 rfl ⟨rfl, rfl⟩ (fun _ h => h)
    · refine gx_aload_n hX dX3_row_33 rfl ?_
      refine gx_iload hX dX3_row_34 rfl ?_
      obtain ⟨r3, hr3, h⟩ := gx_bs h
      refine gx_cV (As := [.int (x5)]) (rest := []) (b := gw_mo w) hX (tX3_waits w _ hA (gx_l X) (σ) (x5) hr3) (lw_V q1514 q1516 qs39 q92 q1517) ⟨rfl, dsX3_waits⟩ (by decide) (by decide) (gm_rc hX) rfl (gx_w8 gx_k0 (Nat.le_of_ble_eq_true rfl)) dX3_row_36 ⟨Nat.le_refl _, Nat.le_refl _⟩ rfl ?_
      refine gx_if_eq (tgt := 150) hX dX3_row_39 (by decide) h (fun h => ?_) (fun h => ?_)
      · exact tX3_row_B150 hA hX ih h
      · refine gx_aload_n hX dX3_row_42 rfl ?_
        refine gm_getA hX 1 (by decide) (by decide) q1342 rfl dX3_row_43 ?_
        refine gx_sipush (v := nI 142) hX dX3_row_46 (by decide) ?_
        refine gx_iload hX dX3_row_49 rfl ?_
        refine gx_iadd hX dX3_row_51 ?_
        refine gm_ld hX (by decide) dX3_row_52 h (fun v4 h => ?_)
        refine gx_iload_n hX dX3_row_53 rfl ?_
        refine gx_icmp_ne (tgt := 150) hX dX3_row_54 (by decide) h (fun h => ?_) (fun h => ?_)
        · refine gx_iconst (v := 0) hX dX3_row_57 (by decide) ?_
          refine gx_istore hX dX3_row_58 (Nat.le_of_ble_eq_true rfl) gx_c1i (lv' := [some (va_rf (some (gw_mo w))), some (.int (x1)), some (.int (x2)), some (.int (x3)), some (.int (x4)), some (.int (x5)), some (.int (0)), none]) rfl ?_
          refine gx_iconst (v := 0) hX dX3_row_60 (by decide) ?_
          refine gx_istore hX dX3_row_61 (Nat.le_of_ble_eq_true rfl) gx_c1i (lv' := [some (va_rf (some (gw_mo w))), some (.int (x1)), some (.int (x2)), some (.int (x3)), some (.int (x4)), some (.int (x5)), some (.int (0)), some (.int (0))]) rfl ?_
          exact tX3_row_L63 hA hX ih N _ _ _ _ _ _ _ h
        · exact tX3_row_B150 hA hX ih h
def fX3_row (N : Nat) (σ : gm_S) (x1 : Int32) (x2 : Int32) : Option (Int32) := (fX3_isCell  (x1)).bind fun r1 => if r1 = 0 then some ((-1)) else if ((-1)) ≤ x2 then fX3_row_L22 N σ N (x1) (x2) (0) ((-1)) (0) else some ((-1))
set_option maxHeartbeats 4000000 in
theorem tX3_row (w : gw_W) (A : Nat → Prop) (hA : ∀ q, gm_A w q → A q) (l : Launch) (N : Nat) (σ : gm_S) (x1 : Int32) (x2 : Int32) {r : Int32} (h : fX3_row N σ x1 x2 = some r) : gx_T (gw_I w A) A l yX3_row iX3_row 3 [va_rf (some (gw_mo w)), .int (x1), .int (x2)] (gm_P w σ) 0 0 (gm_P w σ) (.returned (some (.int r))) := by
  refine gx_T.of (gw_I.inv w A) (by decide) ⟨rfl, rfl⟩ (gx_kR (gx_kI (gx_kI gx_k0))) (Nat.le_of_ble_eq_true rfl) (fun X hl hAx hX => ?_)
  subst hl
  subst hAx
  show gx_G X (gm_P w σ) 0 0 [some (va_rf (some (gw_mo w))), some (.int (x1)), some (.int (x2)), none, none, none, none, none] 0 []
  unfold fX3_row at h
  refine gx_iload_n hX dX3_row_0 rfl ?_
  obtain ⟨r1, hr1, h⟩ := gx_bs h
  refine gx_cS (As := [.int (x1)]) (rest := []) hX (tX3_isCell w (gx_A X) (gx_l X) (gm_P w σ) (x1) hr1) (lw_S q1464 q1465 q92 q1466) dsX3_isCell (by decide) (by decide) rfl (gx_w8 gx_k0 (Nat.le_of_ble_eq_true rfl)) dX3_row_1 ⟨Nat.le_refl _, Nat.le_refl _⟩ rfl ?_
  refine gx_if_eq (tgt := 12) hX dX3_row_4 (by decide) h (fun h => ?_) (fun h => ?_)
  · refine gx_iconst (v := (-1)) hX dX3_row_12 (by decide) ?_
    cases h
    exact gx_iret hX rfl dX3_row_13 rfl ⟨rfl, rfl⟩ (fun _ h => h)
  · refine gx_iload_n hX dX3_row_7 rfl ?_
    refine gx_iconst (v := (-1)) hX dX3_row_8 (by decide) ?_
    refine gx_icmp_ge (tgt := 14) hX dX3_row_9 (by decide) h (fun h => ?_) (fun h => ?_)
    · refine gx_iconst (v := 0) hX dX3_row_14 (by decide) ?_
      refine gx_istore_n hX dX3_row_15 (Nat.le_of_ble_eq_true rfl) gx_c1i (lv' := [some (va_rf (some (gw_mo w))), some (.int (x1)), some (.int (x2)), some (.int (0)), none, none, none, none]) rfl ?_
      refine gx_iconst (v := (-1)) hX dX3_row_16 (by decide) ?_
      refine gx_istore hX dX3_row_17 (Nat.le_of_ble_eq_true rfl) gx_c1i (lv' := [some (va_rf (some (gw_mo w))), some (.int (x1)), some (.int (x2)), some (.int (0)), some (.int ((-1))), none, none, none]) rfl ?_
      refine gx_iconst (v := 0) hX dX3_row_19 (by decide) ?_
      refine gx_istore hX dX3_row_20 (Nat.le_of_ble_eq_true rfl) gx_c1i (lv' := [some (va_rf (some (gw_mo w))), some (.int (x1)), some (.int (x2)), some (.int (0)), some (.int ((-1))), some (.int (0)), none, none]) rfl ?_
      exact tX3_row_L22 hA hX  N _ _ _ _ _ h
    · refine gx_iconst (v := (-1)) hX dX3_row_12 (by decide) ?_
      cases h
      exact gx_iret hX rfl dX3_row_13 rfl ⟨rfl, rfl⟩ (fun _ h => h)
abbrev iX3_exchanges : gx_M := (RX3, "exchanges", cX3_exchanges, 2, some .int)
theorem dsX3_exchanges : gx_ds yX3_exchanges 1 := by decide +kernel
def fX3_exchanges (σ : gm_S) (x1 : Int32) : Option (Int32) := (fX3_in  (x1) (0) (2)).bind fun r1 => if r1 = 0 then some ((-1)) else (gm_rd σ 1 ((5) + (x1))).bind fun v2 => some (v2)
set_option maxHeartbeats 4000000 in
theorem tX3_exchanges (w : gw_W) (A : Nat → Prop) (hA : ∀ q, gm_A w q → A q) (l : Launch) (σ : gm_S) (x1 : Int32) {r : Int32} (h : fX3_exchanges σ x1 = some r) : gx_T (gw_I w A) A l yX3_exchanges iX3_exchanges 2 [va_rf (some (gw_mo w)), .int (x1)] (gm_P w σ) 0 0 (gm_P w σ) (.returned (some (.int r))) := by
  refine gx_T.of (gw_I.inv w A) (by decide) ⟨rfl, rfl⟩ (gx_kR (gx_kI gx_k0)) (Nat.le_of_ble_eq_true rfl) (fun X hl hAx hX => ?_)
  subst hl
  subst hAx
  show gx_G X (gm_P w σ) 0 0 [some (va_rf (some (gw_mo w))), some (.int (x1))] 0 []
  unfold fX3_exchanges at h
  refine gx_iload_n hX dX3_exchanges_0 rfl ?_
  refine gx_iconst (v := 0) hX dX3_exchanges_1 (by decide) ?_
  refine gx_iconst (v := 2) hX dX3_exchanges_2 (by decide) ?_
  obtain ⟨r1, hr1, h⟩ := gx_bs h
  refine gx_cS (As := [.int (x1), .int (0), .int (2)]) (rest := []) hX (tX3_in w (gx_A X) (gx_l X) (gm_P w σ) (x1) (0) (2) hr1) (lw_S q1467 q1468 q92 q1469) dsX3_in (by decide) (by decide) rfl (gx_w8 gx_k0 (Nat.le_of_ble_eq_true rfl)) dX3_exchanges_3 ⟨Nat.le_refl _, Nat.le_refl _⟩ rfl ?_
  refine gx_if_eq (tgt := 20) hX dX3_exchanges_6 (by decide) h (fun h => ?_) (fun h => ?_)
  · refine gx_iconst (v := (-1)) hX dX3_exchanges_20 (by decide) ?_
    cases h
    exact gx_iret hX rfl dX3_exchanges_21 rfl ⟨rfl, rfl⟩ (fun _ h => h)
  · refine gx_aload_n hX dX3_exchanges_9 rfl ?_
    refine gm_getA hX 1 (by decide) (by decide) q1342 rfl dX3_exchanges_10 ?_
    refine gx_iconst (v := 5) hX dX3_exchanges_13 (by decide) ?_
    refine gx_iload_n hX dX3_exchanges_14 rfl ?_
    refine gx_iadd hX dX3_exchanges_15 ?_
    refine gm_ld hX (by decide) dX3_exchanges_16 h (fun v2 h => ?_)
    refine gx_goto (tgt := 21) hX dX3_exchanges_17 (by decide) ?_
    cases h
    exact gx_iret hX rfl dX3_exchanges_21 rfl ⟨rfl, rfl⟩ (fun _ h => h)
abbrev iX3_points : gx_M := (RX3, "points", cX3_points, 3, some .int)
theorem dsX3_points : gx_ds yX3_points 0 := by decide +kernel
def fX3_points_B32 (N : Nat) (σ : gm_S) (K4 : Int32 → Int32 → Option (Int32)) (x2 : Int32) (y0 : Int32) (y1 : Int32) : Option (Int32) := K4 ((y1) + (y0)) ((x2) + 1)
set_option maxHeartbeats 4000000 in
theorem tX3_points_B32 {w : gw_W} {X : gx_X} {N : Nat} {σ : gm_S} {r : Int32} (hA : ∀ q, gm_A w q → gx_A X q) (hX : gx_O (gw_I w (gx_A X)) X iX3_points 4 0 0 (gm_P w σ) (.returned (some (.int r)))) {K4 : Int32 → Int32 → Option (Int32)} (hK4 : ∀ (x1 : Int32) (x2 : Int32), K4 x1 x2 = some r → gx_G X (gm_P w σ) 0 0 [some (va_rf (some (gw_mo w))), some (.int (x1)), some (.int (x2))] 4 []) {x2 : Int32} {y0 : Int32} {y1 : Int32} (h : fX3_points_B32 N σ K4 x2 y0 y1 = some r) : gx_G X (gm_P w σ) 0 0 [some (va_rf (some (gw_mo w))), none, some (.int (x2))] 32 [.int (y0), .int (y1)] := by
  unfold fX3_points_B32 at h
  refine gx_iadd hX dX3_points_32 ?_
  refine gx_istore_n hX dX3_points_33 (Nat.le_of_ble_eq_true rfl) gx_c1r (lv' := [some (va_rf (some (gw_mo w))), some (.int ((y1) + (y0))), some (.int (x2))]) rfl ?_
  refine gx_iinc (v := 1) hX dX3_points_34 rfl (by decide) gx_c1i (lv' := [some (va_rf (some (gw_mo w))), some (.int ((y1) + (y0))), some (.int ((x2) + 1))]) rfl ?_
  refine gx_goto (tgt := 4) hX dX3_points_37 (by decide) ?_
  exact hK4 _ _ h
def fX3_points_L4 (N : Nat) (σ : gm_S)  : Nat → Int32 → Int32 → Option (Int32)
  | 0, _, _ => none
  | k + 1, x1, x2 => (gm_rd σ 1 (1)).bind fun v1 => if (v1) ≤ x2 then some (x1) else (fX3_isHoused (σ) (x2)).bind fun r2 => if r2 = 0 then fX3_points_B32 N σ (fX3_points_L4 N σ k) (x2) (0) (x1) else (fX3_own (σ) (x2)).bind fun r3 => fX3_points_B32 N σ (fX3_points_L4 N σ k) (x2) (r3) (x1)
set_option maxHeartbeats 4000000 in
theorem tX3_points_L4 {w : gw_W} {X : gx_X} {N : Nat} {σ : gm_S} {r : Int32} (hA : ∀ q, gm_A w q → gx_A X q) (hX : gx_O (gw_I w (gx_A X)) X iX3_points 4 0 0 (gm_P w σ) (.returned (some (.int r))))  : ∀ (k : Nat) (x1 : Int32) (x2 : Int32), fX3_points_L4 N σ k x1 x2 = some r → gx_G X (gm_P w σ) 0 0 [some (va_rf (some (gw_mo w))), some (.int (x1)), some (.int (x2))] 4 [] := by
  intro k
  induction k with
  | zero =>
    intro x1 x2 h
    unfold fX3_points_L4 at h
    cases h
  | succ k ih =>
    intro x1 x2 h
    unfold fX3_points_L4 at h
    refine gx_iload_n hX dX3_points_4 rfl ?_
    refine gx_aload_n hX dX3_points_5 rfl ?_
    refine gm_getA hX 1 (by decide) (by decide) q1342 rfl dX3_points_6 ?_
    refine gx_iconst (v := 1) hX dX3_points_9 (by decide) ?_
    refine gm_ld hX (by decide) dX3_points_10 h (fun v1 h => ?_)
    refine gx_icmp_ge (tgt := 40) hX dX3_points_11 (by decide) h (fun h => ?_) (fun h => ?_)
    · refine gx_iload_n hX dX3_points_40 rfl ?_
      cases h
      exact gx_iret hX rfl dX3_points_41 rfl ⟨rfl, rfl⟩ (fun _ h => h)
    · refine gx_iload_n hX dX3_points_14 rfl ?_
      refine gx_aload_n hX dX3_points_15 rfl ?_
      refine gx_iload_n hX dX3_points_16 rfl ?_
      obtain ⟨r2, hr2, h⟩ := gx_bs h
      refine gx_cV (As := [.int (x2)]) (rest := [.int (x1)]) (b := gw_mo w) hX (tX3_isHoused w _ hA (gx_l X) (σ) (x2) hr2) (lw_V q1510 q1512 qs38 q92 q1513) ⟨rfl, dsX3_isHoused⟩ (by decide) (by decide) (gm_rc hX) rfl (gx_w8 (gx_kI gx_k0) (Nat.le_of_ble_eq_true rfl)) dX3_points_17 ⟨Nat.le_refl _, Nat.le_refl _⟩ rfl ?_
      refine gx_if_eq (tgt := 31) hX dX3_points_20 (by decide) h (fun h => ?_) (fun h => ?_)
      · refine gx_iconst (v := 0) hX dX3_points_31 (by decide) ?_
        refine gx_sub hX (lv' := [some (va_rf (some (gw_mo w))), none, some (.int (x2))]) ⟨Or.inr rfl, ⟨Or.inl rfl, ⟨Or.inr rfl, trivial⟩⟩⟩ ?_
        exact tX3_points_B32 hA hX ih h
      · refine gx_aload_n hX dX3_points_23 rfl ?_
        refine gx_iload_n hX dX3_points_24 rfl ?_
        obtain ⟨r3, hr3, h⟩ := gx_bs h
        refine gx_cV (As := [.int (x2)]) (rest := [.int (x1)]) (b := gw_mo w) hX (tX3_own w _ hA (gx_l X) (σ) (x2) hr3) (lw_V q1522 q1524 qs41 q92 q1525) ⟨rfl, dsX3_own⟩ (by decide) (by decide) (gm_rc hX) rfl (gx_w8 (gx_kI gx_k0) (Nat.le_of_ble_eq_true rfl)) dX3_points_25 ⟨Nat.le_refl _, Nat.le_refl _⟩ rfl ?_
        refine gx_goto (tgt := 32) hX dX3_points_28 (by decide) ?_
        refine gx_sub hX (lv' := [some (va_rf (some (gw_mo w))), none, some (.int (x2))]) ⟨Or.inr rfl, ⟨Or.inl rfl, ⟨Or.inr rfl, trivial⟩⟩⟩ ?_
        exact tX3_points_B32 hA hX ih h
def fX3_points (N : Nat) (σ : gm_S)  : Option (Int32) := fX3_points_L4 N σ N (0) (0)
set_option maxHeartbeats 4000000 in
theorem tX3_points (w : gw_W) (A : Nat → Prop) (hA : ∀ q, gm_A w q → A q) (l : Launch) (N : Nat) (σ : gm_S)  {r : Int32} (h : fX3_points N σ = some r) : gx_T (gw_I w A) A l yX3_points iX3_points 4 [va_rf (some (gw_mo w))] (gm_P w σ) 0 0 (gm_P w σ) (.returned (some (.int r))) := by
  refine gx_T.of (gw_I.inv w A) (by decide) ⟨rfl, rfl⟩ (gx_kR gx_k0) (Nat.le_of_ble_eq_true rfl) (fun X hl hAx hX => ?_)
  subst hl
  subst hAx
  show gx_G X (gm_P w σ) 0 0 [some (va_rf (some (gw_mo w))), none, none] 0 []
  unfold fX3_points at h
  refine gx_iconst (v := 0) hX dX3_points_0 (by decide) ?_
  refine gx_istore_n hX dX3_points_1 (Nat.le_of_ble_eq_true rfl) gx_c1r (lv' := [some (va_rf (some (gw_mo w))), some (.int (0)), none]) rfl ?_
  refine gx_iconst (v := 0) hX dX3_points_2 (by decide) ?_
  refine gx_istore_n hX dX3_points_3 (Nat.le_of_ble_eq_true rfl) gx_c1i (lv' := [some (va_rf (some (gw_mo w))), some (.int (0)), some (.int (0))]) rfl ?_
  exact tX3_points_L4 hA hX  N _ _ h
abbrev iX3_chains : gx_M := (RX3, "chains", cX3_chains, 14, none)
theorem dsX3_chains : gx_ds yX3_chains 4 := by decide +kernel
def fX3_chains_B262 (N : Nat)  (K31 : gm_S → Int32 → Int32 → Int32 → Int32 → Int32 → Option (gm_S)) (σ : gm_S) (x5 : Int32) (x6 : Int32) (x7 : Int32) (x8 : Int32) (x9 : Int32) : Option (gm_S) := K31 σ (x5) (x6) (x7) (x8) (x9)
set_option maxHeartbeats 4000000 in
theorem tX3_chains_B262 {w : gw_W} {X : gx_X} {N : Nat} {r : gm_S} (hA : ∀ q, gm_A w q → gx_A X q) (hX : gx_O (gw_I w (gx_A X)) X iX3_chains 4 0 0 (gm_P w r) (.returned (none))) {K31 : gm_S → Int32 → Int32 → Int32 → Int32 → Int32 → Option (gm_S)} (hK31 : ∀ (σ : gm_S) (x5 : Int32) (x6 : Int32) (x7 : Int32) (x8 : Int32) (x9 : Int32), K31 σ x5 x6 x7 x8 x9 = some r → gx_G X (gm_P w σ) 0 0 [some (va_rf (some (gw_mo w))), none, none, none, none, some (.int (x5)), some (.int (x6)), some (.int (x7)), some (.int (x8)), some (.int (x9)), none, none, none, none] 31 []) {σ : gm_S} {x5 : Int32} {x6 : Int32} {x7 : Int32} {x8 : Int32} {x9 : Int32} (h : fX3_chains_B262 N K31 σ x5 x6 x7 x8 x9 = some r) : gx_G X (gm_P w σ) 0 0 [some (va_rf (some (gw_mo w))), none, none, none, none, some (.int (x5)), some (.int (x6)), some (.int (x7)), some (.int (x8)), some (.int (x9)), none, none, none, none] 262 [] := by
  unfold fX3_chains_B262 at h
  refine gx_goto (tgt := 31) hX dX3_chains_262 (by decide) ?_
  exact hK31 _ _ _ _ _ _ h
def fX3_chains_B157 (N : Nat)  (K31 : gm_S → Int32 → Int32 → Int32 → Int32 → Int32 → Option (gm_S)) (σ : gm_S) (x5 : Int32) (x6 : Int32) (x7 : Int32) (x8 : Int32) (x10 : Int32) (x11 : Int32) (y0 : Int32) : Option (gm_S) := if y0 = 0 then fX3_chains_B262 N K31 σ (x5) (x6) (x7) (x8) (y0) else (gm_wr σ 23 (gs σ 24) (x10)).bind fun σ5 => (gm_pt σ5 24 ((gs σ5 24) + (1))).bind fun σ6 => (gm_pt σ6 25 ((gs σ6 25) + (x11))).bind fun σ7 => (gm_rd σ7 1 ((nI 178) + (x10))).bind fun v8 => (gm_pt σ7 26 (v8)).bind fun σ9 => (gm_rd σ9 1 ((nI 10) + (gs σ9 26))).bind fun v10 => (gm_rd σ9 1 ((nI 30) + (gs σ9 26))).bind fun v11 => (gm_rd σ9 1 ((nI 50) + (gs σ9 26))).bind fun v12 => fX3_chains_B262 N K31 σ9 (v10) (v11) (v12) ((x8) ||| ((1) <<< ((x10) &&& 31))) (y0)
set_option maxHeartbeats 4000000 in
theorem tX3_chains_B157 {w : gw_W} {X : gx_X} {N : Nat} {r : gm_S} (hA : ∀ q, gm_A w q → gx_A X q) (hX : gx_O (gw_I w (gx_A X)) X iX3_chains 4 0 0 (gm_P w r) (.returned (none))) {K31 : gm_S → Int32 → Int32 → Int32 → Int32 → Int32 → Option (gm_S)} (hK31 : ∀ (σ : gm_S) (x5 : Int32) (x6 : Int32) (x7 : Int32) (x8 : Int32) (x9 : Int32), K31 σ x5 x6 x7 x8 x9 = some r → gx_G X (gm_P w σ) 0 0 [some (va_rf (some (gw_mo w))), none, none, none, none, some (.int (x5)), some (.int (x6)), some (.int (x7)), some (.int (x8)), some (.int (x9)), none, none, none, none] 31 []) {σ : gm_S} {x5 : Int32} {x6 : Int32} {x7 : Int32} {x8 : Int32} {x10 : Int32} {x11 : Int32} {y0 : Int32} (h : fX3_chains_B157 N K31 σ x5 x6 x7 x8 x10 x11 y0 = some r) : gx_G X (gm_P w σ) 0 0 [some (va_rf (some (gw_mo w))), none, none, none, none, some (.int (x5)), some (.int (x6)), some (.int (x7)), some (.int (x8)), none, some (.int (x10)), some (.int (x11)), none, none] 157 [.int (y0)] := by
  unfold fX3_chains_B157 at h
  refine gx_istore hX dX3_chains_157 (Nat.le_of_ble_eq_true rfl) gx_c1i (lv' := [some (va_rf (some (gw_mo w))), none, none, none, none, some (.int (x5)), some (.int (x6)), some (.int (x7)), some (.int (x8)), some (.int (y0)), some (.int (x10)), some (.int (x11)), none, none]) rfl ?_
  refine gx_iload hX dX3_chains_159 rfl ?_
  refine gx_if_eq (tgt := 262) hX dX3_chains_161 (by decide) h (fun h => ?_) (fun h => ?_)
  · refine gx_sub hX (lv' := [some (va_rf (some (gw_mo w))), none, none, none, none, some (.int (x5)), some (.int (x6)), some (.int (x7)), some (.int (x8)), some (.int (y0)), none, none, none, none]) ⟨Or.inr rfl, ⟨Or.inr rfl, ⟨Or.inr rfl, ⟨Or.inr rfl, ⟨Or.inr rfl, ⟨Or.inr rfl, ⟨Or.inr rfl, ⟨Or.inr rfl, ⟨Or.inr rfl, ⟨Or.inr rfl, ⟨Or.inl rfl, ⟨Or.inl rfl, ⟨Or.inr rfl, ⟨Or.inr rfl, trivial⟩⟩⟩⟩⟩⟩⟩⟩⟩⟩⟩⟩⟩⟩ ?_
    exact tX3_chains_B262 hA hX hK31 h
  · refine gx_aload_n hX dX3_chains_164 rfl ?_
    refine gm_getA hX 23 (by decide) (by decide) q1364 rfl dX3_chains_165 ?_
    refine gx_aload_n hX dX3_chains_168 rfl ?_
    refine gm_getI hX 24 (by decide) rfl q1365 rfl dX3_chains_169 ?_
    refine gx_iload hX dX3_chains_172 rfl ?_
    refine gm_st hX hA (by decide) dX3_chains_174 h (fun σ5 h => ?_)
    refine gx_aload_n hX dX3_chains_175 rfl ?_
    refine gx_dup hX dX3_chains_176 (gx_cat _) ?_
    refine gm_getI hX 24 (by decide) rfl q1365 rfl dX3_chains_177 ?_
    refine gx_iconst (v := 1) hX dX3_chains_180 (by decide) ?_
    refine gx_iadd hX dX3_chains_181 ?_
    refine gm_putI hX hA (k := 24) ⟨by decide, rfl⟩ q1365 ⟨rfl, rfl⟩ rfl dX3_chains_182 h (fun σ6 h => ?_)
    refine gx_aload_n hX dX3_chains_185 rfl ?_
    refine gx_dup hX dX3_chains_186 (gx_cat _) ?_
    refine gm_getI hX 25 (by decide) rfl q1366 rfl dX3_chains_187 ?_
    refine gx_iload hX dX3_chains_190 rfl ?_
    refine gx_iadd hX dX3_chains_192 ?_
    refine gm_putI hX hA (k := 25) ⟨by decide, rfl⟩ q1366 ⟨rfl, rfl⟩ rfl dX3_chains_193 h (fun σ7 h => ?_)
    refine gx_iload hX dX3_chains_196 rfl ?_
    refine gx_iconst (v := 1) hX dX3_chains_198 (by decide) ?_
    refine gx_iload hX dX3_chains_199 rfl ?_
    refine gx_ishl hX dX3_chains_201 ?_
    refine gx_ior hX dX3_chains_202 ?_
    refine gx_istore hX dX3_chains_203 (Nat.le_of_ble_eq_true rfl) gx_c1i (lv' := [some (va_rf (some (gw_mo w))), none, none, none, none, some (.int (x5)), some (.int (x6)), some (.int (x7)), some (.int ((x8) ||| ((1) <<< ((x10) &&& 31)))), some (.int (y0)), some (.int (x10)), some (.int (x11)), none, none]) rfl ?_
    refine gx_aload_n hX dX3_chains_205 rfl ?_
    refine gx_aload_n hX dX3_chains_206 rfl ?_
    refine gm_getA hX 1 (by decide) (by decide) q1342 rfl dX3_chains_207 ?_
    refine gx_sipush (v := nI 178) hX dX3_chains_210 (by decide) ?_
    refine gx_iload hX dX3_chains_213 rfl ?_
    refine gx_iadd hX dX3_chains_215 ?_
    refine gm_ld hX (by decide) dX3_chains_216 h (fun v8 h => ?_)
    refine gm_putI hX hA (k := 26) ⟨by decide, rfl⟩ q1367 ⟨rfl, rfl⟩ rfl dX3_chains_217 h (fun σ9 h => ?_)
    refine gx_aload_n hX dX3_chains_220 rfl ?_
    refine gm_getA hX 1 (by decide) (by decide) q1342 rfl dX3_chains_221 ?_
    refine gx_bipush (v := nI 10) hX dX3_chains_224 (by decide) ?_
    refine gx_aload_n hX dX3_chains_226 rfl ?_
    refine gm_getI hX 26 (by decide) rfl q1367 rfl dX3_chains_227 ?_
    refine gx_iadd hX dX3_chains_230 ?_
    refine gm_ld hX (by decide) dX3_chains_231 h (fun v10 h => ?_)
    refine gx_istore hX dX3_chains_232 (Nat.le_of_ble_eq_true rfl) gx_c1n (lv' := [some (va_rf (some (gw_mo w))), none, none, none, none, some (.int (v10)), some (.int (x6)), some (.int (x7)), some (.int ((x8) ||| ((1) <<< ((x10) &&& 31)))), some (.int (y0)), some (.int (x10)), some (.int (x11)), none, none]) rfl ?_
    refine gx_aload_n hX dX3_chains_234 rfl ?_
    refine gm_getA hX 1 (by decide) (by decide) q1342 rfl dX3_chains_235 ?_
    refine gx_bipush (v := nI 30) hX dX3_chains_238 (by decide) ?_
    refine gx_aload_n hX dX3_chains_240 rfl ?_
    refine gm_getI hX 26 (by decide) rfl q1367 rfl dX3_chains_241 ?_
    refine gx_iadd hX dX3_chains_244 ?_
    refine gm_ld hX (by decide) dX3_chains_245 h (fun v11 h => ?_)
    refine gx_istore hX dX3_chains_246 (Nat.le_of_ble_eq_true rfl) gx_c1i (lv' := [some (va_rf (some (gw_mo w))), none, none, none, none, some (.int (v10)), some (.int (v11)), some (.int (x7)), some (.int ((x8) ||| ((1) <<< ((x10) &&& 31)))), some (.int (y0)), some (.int (x10)), some (.int (x11)), none, none]) rfl ?_
    refine gx_aload_n hX dX3_chains_248 rfl ?_
    refine gm_getA hX 1 (by decide) (by decide) q1342 rfl dX3_chains_249 ?_
    refine gx_bipush (v := nI 50) hX dX3_chains_252 (by decide) ?_
    refine gx_aload_n hX dX3_chains_254 rfl ?_
    refine gm_getI hX 26 (by decide) rfl q1367 rfl dX3_chains_255 ?_
    refine gx_iadd hX dX3_chains_258 ?_
    refine gm_ld hX (by decide) dX3_chains_259 h (fun v12 h => ?_)
    refine gx_istore hX dX3_chains_260 (Nat.le_of_ble_eq_true rfl) gx_c1i (lv' := [some (va_rf (some (gw_mo w))), none, none, none, none, some (.int (v10)), some (.int (v11)), some (.int (v12)), some (.int ((x8) ||| ((1) <<< ((x10) &&& 31)))), some (.int (y0)), some (.int (x10)), some (.int (x11)), none, none]) rfl ?_
    refine gx_sub hX (lv' := [some (va_rf (some (gw_mo w))), none, none, none, none, some (.int (v10)), some (.int (v11)), some (.int (v12)), some (.int ((x8) ||| ((1) <<< ((x10) &&& 31)))), some (.int (y0)), none, none, none, none]) ⟨Or.inr rfl, ⟨Or.inr rfl, ⟨Or.inr rfl, ⟨Or.inr rfl, ⟨Or.inr rfl, ⟨Or.inr rfl, ⟨Or.inr rfl, ⟨Or.inr rfl, ⟨Or.inr rfl, ⟨Or.inr rfl, ⟨Or.inl rfl, ⟨Or.inl rfl, ⟨Or.inr rfl, ⟨Or.inr rfl, trivial⟩⟩⟩⟩⟩⟩⟩⟩⟩⟩⟩⟩⟩⟩ ?_
    exact tX3_chains_B262 hA hX hK31 h
def fX3_chains_B138 (N : Nat)  (K31 : gm_S → Int32 → Int32 → Int32 → Int32 → Int32 → Option (gm_S)) (K45 : gm_S → Int32 → Int32 → Int32 → Int32 → Int32 → Int32 → Int32 → Option (gm_S)) (σ : gm_S) (x5 : Int32) (x6 : Int32) (x7 : Int32) (x8 : Int32) (x10 : Int32) (x12 : Int32) (y0 : Int32) : Option (gm_S) := K45 σ (x5) (x6) (x7) (x8) (x10) (y0) ((x12) + 1)
set_option maxHeartbeats 4000000 in
theorem tX3_chains_B138 {w : gw_W} {X : gx_X} {N : Nat} {r : gm_S} (hA : ∀ q, gm_A w q → gx_A X q) (hX : gx_O (gw_I w (gx_A X)) X iX3_chains 4 0 0 (gm_P w r) (.returned (none))) {K31 : gm_S → Int32 → Int32 → Int32 → Int32 → Int32 → Option (gm_S)} {K45 : gm_S → Int32 → Int32 → Int32 → Int32 → Int32 → Int32 → Int32 → Option (gm_S)} (hK31 : ∀ (σ : gm_S) (x5 : Int32) (x6 : Int32) (x7 : Int32) (x8 : Int32) (x9 : Int32), K31 σ x5 x6 x7 x8 x9 = some r → gx_G X (gm_P w σ) 0 0 [some (va_rf (some (gw_mo w))), none, none, none, none, some (.int (x5)), some (.int (x6)), some (.int (x7)), some (.int (x8)), some (.int (x9)), none, none, none, none] 31 []) (hK45 : ∀ (σ : gm_S) (x5 : Int32) (x6 : Int32) (x7 : Int32) (x8 : Int32) (x10 : Int32) (x11 : Int32) (x12 : Int32), K45 σ x5 x6 x7 x8 x10 x11 x12 = some r → gx_G X (gm_P w σ) 0 0 [some (va_rf (some (gw_mo w))), none, none, none, none, some (.int (x5)), some (.int (x6)), some (.int (x7)), some (.int (x8)), none, some (.int (x10)), some (.int (x11)), some (.int (x12)), none] 45 []) {σ : gm_S} {x5 : Int32} {x6 : Int32} {x7 : Int32} {x8 : Int32} {x10 : Int32} {x12 : Int32} {y0 : Int32} (h : fX3_chains_B138 N K31 K45 σ x5 x6 x7 x8 x10 x12 y0 = some r) : gx_G X (gm_P w σ) 0 0 [some (va_rf (some (gw_mo w))), none, none, none, none, some (.int (x5)), some (.int (x6)), some (.int (x7)), some (.int (x8)), none, some (.int (x10)), none, some (.int (x12)), none] 138 [.int (y0)] := by
  unfold fX3_chains_B138 at h
  refine gx_istore hX dX3_chains_138 (Nat.le_of_ble_eq_true rfl) gx_c1i (lv' := [some (va_rf (some (gw_mo w))), none, none, none, none, some (.int (x5)), some (.int (x6)), some (.int (x7)), some (.int (x8)), none, some (.int (x10)), some (.int (y0)), some (.int (x12)), none]) rfl ?_
  refine gx_iinc (v := 1) hX dX3_chains_140 rfl (by decide) gx_c1i (lv' := [some (va_rf (some (gw_mo w))), none, none, none, none, some (.int (x5)), some (.int (x6)), some (.int (x7)), some (.int (x8)), none, some (.int (x10)), some (.int (y0)), some (.int ((x12) + 1)), none]) rfl ?_
  refine gx_goto (tgt := 45) hX dX3_chains_143 (by decide) ?_
  exact hK45 _ _ _ _ _ _ _ _ h
def fX3_chains_B122 (N : Nat)  (K31 : gm_S → Int32 → Int32 → Int32 → Int32 → Int32 → Option (gm_S)) (K45 : gm_S → Int32 → Int32 → Int32 → Int32 → Int32 → Int32 → Int32 → Option (gm_S)) (σ : gm_S) (x5 : Int32) (x6 : Int32) (x7 : Int32) (x8 : Int32) (x11 : Int32) (x12 : Int32) (x13 : Int32) (y0 : Int32) : Option (gm_S) := if (x13) ≤ x11 then fX3_chains_B138 N K31 K45 σ (x5) (x6) (x7) (x8) (y0) (x12) (x11) else fX3_chains_B138 N K31 K45 σ (x5) (x6) (x7) (x8) (y0) (x12) (x13)
set_option maxHeartbeats 4000000 in
theorem tX3_chains_B122 {w : gw_W} {X : gx_X} {N : Nat} {r : gm_S} (hA : ∀ q, gm_A w q → gx_A X q) (hX : gx_O (gw_I w (gx_A X)) X iX3_chains 4 0 0 (gm_P w r) (.returned (none))) {K31 : gm_S → Int32 → Int32 → Int32 → Int32 → Int32 → Option (gm_S)} {K45 : gm_S → Int32 → Int32 → Int32 → Int32 → Int32 → Int32 → Int32 → Option (gm_S)} (hK31 : ∀ (σ : gm_S) (x5 : Int32) (x6 : Int32) (x7 : Int32) (x8 : Int32) (x9 : Int32), K31 σ x5 x6 x7 x8 x9 = some r → gx_G X (gm_P w σ) 0 0 [some (va_rf (some (gw_mo w))), none, none, none, none, some (.int (x5)), some (.int (x6)), some (.int (x7)), some (.int (x8)), some (.int (x9)), none, none, none, none] 31 []) (hK45 : ∀ (σ : gm_S) (x5 : Int32) (x6 : Int32) (x7 : Int32) (x8 : Int32) (x10 : Int32) (x11 : Int32) (x12 : Int32), K45 σ x5 x6 x7 x8 x10 x11 x12 = some r → gx_G X (gm_P w σ) 0 0 [some (va_rf (some (gw_mo w))), none, none, none, none, some (.int (x5)), some (.int (x6)), some (.int (x7)), some (.int (x8)), none, some (.int (x10)), some (.int (x11)), some (.int (x12)), none] 45 []) {σ : gm_S} {x5 : Int32} {x6 : Int32} {x7 : Int32} {x8 : Int32} {x11 : Int32} {x12 : Int32} {x13 : Int32} {y0 : Int32} (h : fX3_chains_B122 N K31 K45 σ x5 x6 x7 x8 x11 x12 x13 y0 = some r) : gx_G X (gm_P w σ) 0 0 [some (va_rf (some (gw_mo w))), none, none, none, none, some (.int (x5)), some (.int (x6)), some (.int (x7)), some (.int (x8)), none, none, some (.int (x11)), some (.int (x12)), some (.int (x13))] 122 [.int (y0)] := by
  unfold fX3_chains_B122 at h
  refine gx_istore hX dX3_chains_122 (Nat.le_of_ble_eq_true rfl) gx_c1n (lv' := [some (va_rf (some (gw_mo w))), none, none, none, none, some (.int (x5)), some (.int (x6)), some (.int (x7)), some (.int (x8)), none, some (.int (y0)), some (.int (x11)), some (.int (x12)), some (.int (x13))]) rfl ?_
  refine gx_iload hX dX3_chains_124 rfl ?_
  refine gx_iload hX dX3_chains_126 rfl ?_
  refine gx_icmp_le (tgt := 136) hX dX3_chains_128 (by decide) h (fun h => ?_) (fun h => ?_)
  · refine gx_iload hX dX3_chains_136 rfl ?_
    refine gx_sub hX (lv' := [some (va_rf (some (gw_mo w))), none, none, none, none, some (.int (x5)), some (.int (x6)), some (.int (x7)), some (.int (x8)), none, some (.int (y0)), none, some (.int (x12)), none]) ⟨Or.inr rfl, ⟨Or.inr rfl, ⟨Or.inr rfl, ⟨Or.inr rfl, ⟨Or.inr rfl, ⟨Or.inr rfl, ⟨Or.inr rfl, ⟨Or.inr rfl, ⟨Or.inr rfl, ⟨Or.inr rfl, ⟨Or.inr rfl, ⟨Or.inl rfl, ⟨Or.inr rfl, ⟨Or.inl rfl, trivial⟩⟩⟩⟩⟩⟩⟩⟩⟩⟩⟩⟩⟩⟩ ?_
    exact tX3_chains_B138 hA hX hK31 hK45 h
  · refine gx_iload hX dX3_chains_131 rfl ?_
    refine gx_goto (tgt := 138) hX dX3_chains_133 (by decide) ?_
    refine gx_sub hX (lv' := [some (va_rf (some (gw_mo w))), none, none, none, none, some (.int (x5)), some (.int (x6)), some (.int (x7)), some (.int (x8)), none, some (.int (y0)), none, some (.int (x12)), none]) ⟨Or.inr rfl, ⟨Or.inr rfl, ⟨Or.inr rfl, ⟨Or.inr rfl, ⟨Or.inr rfl, ⟨Or.inr rfl, ⟨Or.inr rfl, ⟨Or.inr rfl, ⟨Or.inr rfl, ⟨Or.inr rfl, ⟨Or.inr rfl, ⟨Or.inl rfl, ⟨Or.inr rfl, ⟨Or.inl rfl, trivial⟩⟩⟩⟩⟩⟩⟩⟩⟩⟩⟩⟩⟩⟩ ?_
    exact tX3_chains_B138 hA hX hK31 hK45 h
def fX3_chains_B106 (N : Nat)  (K31 : gm_S → Int32 → Int32 → Int32 → Int32 → Int32 → Option (gm_S)) (K45 : gm_S → Int32 → Int32 → Int32 → Int32 → Int32 → Int32 → Int32 → Option (gm_S)) (σ : gm_S) (x5 : Int32) (x6 : Int32) (x7 : Int32) (x8 : Int32) (x10 : Int32) (x11 : Int32) (x12 : Int32) (y0 : Int32) : Option (gm_S) := if (y0) ≤ x11 then fX3_chains_B122 N K31 K45 σ (x5) (x6) (x7) (x8) (x11) (x12) (y0) (x10) else fX3_chains_B122 N K31 K45 σ (x5) (x6) (x7) (x8) (x11) (x12) (y0) (x12)
set_option maxHeartbeats 4000000 in
theorem tX3_chains_B106 {w : gw_W} {X : gx_X} {N : Nat} {r : gm_S} (hA : ∀ q, gm_A w q → gx_A X q) (hX : gx_O (gw_I w (gx_A X)) X iX3_chains 4 0 0 (gm_P w r) (.returned (none))) {K31 : gm_S → Int32 → Int32 → Int32 → Int32 → Int32 → Option (gm_S)} {K45 : gm_S → Int32 → Int32 → Int32 → Int32 → Int32 → Int32 → Int32 → Option (gm_S)} (hK31 : ∀ (σ : gm_S) (x5 : Int32) (x6 : Int32) (x7 : Int32) (x8 : Int32) (x9 : Int32), K31 σ x5 x6 x7 x8 x9 = some r → gx_G X (gm_P w σ) 0 0 [some (va_rf (some (gw_mo w))), none, none, none, none, some (.int (x5)), some (.int (x6)), some (.int (x7)), some (.int (x8)), some (.int (x9)), none, none, none, none] 31 []) (hK45 : ∀ (σ : gm_S) (x5 : Int32) (x6 : Int32) (x7 : Int32) (x8 : Int32) (x10 : Int32) (x11 : Int32) (x12 : Int32), K45 σ x5 x6 x7 x8 x10 x11 x12 = some r → gx_G X (gm_P w σ) 0 0 [some (va_rf (some (gw_mo w))), none, none, none, none, some (.int (x5)), some (.int (x6)), some (.int (x7)), some (.int (x8)), none, some (.int (x10)), some (.int (x11)), some (.int (x12)), none] 45 []) {σ : gm_S} {x5 : Int32} {x6 : Int32} {x7 : Int32} {x8 : Int32} {x10 : Int32} {x11 : Int32} {x12 : Int32} {y0 : Int32} (h : fX3_chains_B106 N K31 K45 σ x5 x6 x7 x8 x10 x11 x12 y0 = some r) : gx_G X (gm_P w σ) 0 0 [some (va_rf (some (gw_mo w))), none, none, none, none, some (.int (x5)), some (.int (x6)), some (.int (x7)), some (.int (x8)), none, some (.int (x10)), some (.int (x11)), some (.int (x12)), none] 106 [.int (y0)] := by
  unfold fX3_chains_B106 at h
  refine gx_istore hX dX3_chains_106 (Nat.le_of_ble_eq_true rfl) gx_c1i (lv' := [some (va_rf (some (gw_mo w))), none, none, none, none, some (.int (x5)), some (.int (x6)), some (.int (x7)), some (.int (x8)), none, some (.int (x10)), some (.int (x11)), some (.int (x12)), some (.int (y0))]) rfl ?_
  refine gx_iload hX dX3_chains_108 rfl ?_
  refine gx_iload hX dX3_chains_110 rfl ?_
  refine gx_icmp_le (tgt := 120) hX dX3_chains_112 (by decide) h (fun h => ?_) (fun h => ?_)
  · refine gx_iload hX dX3_chains_120 rfl ?_
    refine gx_sub hX (lv' := [some (va_rf (some (gw_mo w))), none, none, none, none, some (.int (x5)), some (.int (x6)), some (.int (x7)), some (.int (x8)), none, none, some (.int (x11)), some (.int (x12)), some (.int (y0))]) ⟨Or.inr rfl, ⟨Or.inr rfl, ⟨Or.inr rfl, ⟨Or.inr rfl, ⟨Or.inr rfl, ⟨Or.inr rfl, ⟨Or.inr rfl, ⟨Or.inr rfl, ⟨Or.inr rfl, ⟨Or.inr rfl, ⟨Or.inl rfl, ⟨Or.inr rfl, ⟨Or.inr rfl, ⟨Or.inr rfl, trivial⟩⟩⟩⟩⟩⟩⟩⟩⟩⟩⟩⟩⟩⟩ ?_
    exact tX3_chains_B122 hA hX hK31 hK45 h
  · refine gx_iload hX dX3_chains_115 rfl ?_
    refine gx_goto (tgt := 122) hX dX3_chains_117 (by decide) ?_
    refine gx_sub hX (lv' := [some (va_rf (some (gw_mo w))), none, none, none, none, some (.int (x5)), some (.int (x6)), some (.int (x7)), some (.int (x8)), none, none, some (.int (x11)), some (.int (x12)), some (.int (y0))]) ⟨Or.inr rfl, ⟨Or.inr rfl, ⟨Or.inr rfl, ⟨Or.inr rfl, ⟨Or.inr rfl, ⟨Or.inr rfl, ⟨Or.inr rfl, ⟨Or.inr rfl, ⟨Or.inr rfl, ⟨Or.inr rfl, ⟨Or.inl rfl, ⟨Or.inr rfl, ⟨Or.inr rfl, ⟨Or.inr rfl, trivial⟩⟩⟩⟩⟩⟩⟩⟩⟩⟩⟩⟩⟩⟩ ?_
    exact tX3_chains_B122 hA hX hK31 hK45 h
def fX3_chains_B105 (N : Nat)  (K31 : gm_S → Int32 → Int32 → Int32 → Int32 → Int32 → Option (gm_S)) (K45 : gm_S → Int32 → Int32 → Int32 → Int32 → Int32 → Int32 → Int32 → Option (gm_S)) (σ : gm_S) (x5 : Int32) (x6 : Int32) (x7 : Int32) (x8 : Int32) (x10 : Int32) (x11 : Int32) (x12 : Int32) : Option (gm_S) := fX3_chains_B106 N K31 K45 σ (x5) (x6) (x7) (x8) (x10) (x11) (x12) (0)
set_option maxHeartbeats 4000000 in
theorem tX3_chains_B105 {w : gw_W} {X : gx_X} {N : Nat} {r : gm_S} (hA : ∀ q, gm_A w q → gx_A X q) (hX : gx_O (gw_I w (gx_A X)) X iX3_chains 4 0 0 (gm_P w r) (.returned (none))) {K31 : gm_S → Int32 → Int32 → Int32 → Int32 → Int32 → Option (gm_S)} {K45 : gm_S → Int32 → Int32 → Int32 → Int32 → Int32 → Int32 → Int32 → Option (gm_S)} (hK31 : ∀ (σ : gm_S) (x5 : Int32) (x6 : Int32) (x7 : Int32) (x8 : Int32) (x9 : Int32), K31 σ x5 x6 x7 x8 x9 = some r → gx_G X (gm_P w σ) 0 0 [some (va_rf (some (gw_mo w))), none, none, none, none, some (.int (x5)), some (.int (x6)), some (.int (x7)), some (.int (x8)), some (.int (x9)), none, none, none, none] 31 []) (hK45 : ∀ (σ : gm_S) (x5 : Int32) (x6 : Int32) (x7 : Int32) (x8 : Int32) (x10 : Int32) (x11 : Int32) (x12 : Int32), K45 σ x5 x6 x7 x8 x10 x11 x12 = some r → gx_G X (gm_P w σ) 0 0 [some (va_rf (some (gw_mo w))), none, none, none, none, some (.int (x5)), some (.int (x6)), some (.int (x7)), some (.int (x8)), none, some (.int (x10)), some (.int (x11)), some (.int (x12)), none] 45 []) {σ : gm_S} {x5 : Int32} {x6 : Int32} {x7 : Int32} {x8 : Int32} {x10 : Int32} {x11 : Int32} {x12 : Int32} (h : fX3_chains_B105 N K31 K45 σ x5 x6 x7 x8 x10 x11 x12 = some r) : gx_G X (gm_P w σ) 0 0 [some (va_rf (some (gw_mo w))), none, none, none, none, some (.int (x5)), some (.int (x6)), some (.int (x7)), some (.int (x8)), none, some (.int (x10)), some (.int (x11)), some (.int (x12)), none] 105 [] := by
  unfold fX3_chains_B105 at h
  refine gx_iconst (v := 0) hX dX3_chains_105 (by decide) ?_
  exact tX3_chains_B106 hA hX hK31 hK45 h
def fX3_chains_L45 (N : Nat)  (K31 : gm_S → Int32 → Int32 → Int32 → Int32 → Int32 → Option (gm_S)) : Nat → gm_S → Int32 → Int32 → Int32 → Int32 → Int32 → Int32 → Int32 → Option (gm_S)
  | 0, _, _, _, _, _, _, _, _ => none
  | k + 1, σ, x5, x6, x7, x8, x10, x11, x12 => (gm_rd σ 1 (1)).bind fun v4 => if (v4) ≤ x12 then if x10 = (-1) then fX3_chains_B157 N K31 σ (x5) (x6) (x7) (x8) (x10) (x11) (0) else fX3_chains_B157 N K31 σ (x5) (x6) (x7) (x8) (x10) (x11) (1) else (fX3_isHoused (σ) (x12)).bind fun r13 => if r13 = 0 then fX3_chains_B105 N K31 (fX3_chains_L45 N K31 k) σ (x5) (x6) (x7) (x8) (x10) (x11) (x12) else if ((x8) >>> ((x12) &&& 31)) &&& (1) = 0 then (gm_rd σ 1 ((nI 130) + (x12))).bind fun v14 => (fX3_fitOf  (x5) (x6) (x7) (v14)).bind fun r15 => (fX3_own (σ) (x12)).bind fun r16 => fX3_chains_B106 N K31 (fX3_chains_L45 N K31 k) σ (x5) (x6) (x7) (x8) (x10) (x11) (x12) ((r15) - (r16)) else fX3_chains_B105 N K31 (fX3_chains_L45 N K31 k) σ (x5) (x6) (x7) (x8) (x10) (x11) (x12)
set_option maxHeartbeats 4000000 in
theorem tX3_chains_L45 {w : gw_W} {X : gx_X} {N : Nat} {r : gm_S} (hA : ∀ q, gm_A w q → gx_A X q) (hX : gx_O (gw_I w (gx_A X)) X iX3_chains 4 0 0 (gm_P w r) (.returned (none))) {K31 : gm_S → Int32 → Int32 → Int32 → Int32 → Int32 → Option (gm_S)} (hK31 : ∀ (σ : gm_S) (x5 : Int32) (x6 : Int32) (x7 : Int32) (x8 : Int32) (x9 : Int32), K31 σ x5 x6 x7 x8 x9 = some r → gx_G X (gm_P w σ) 0 0 [some (va_rf (some (gw_mo w))), none, none, none, none, some (.int (x5)), some (.int (x6)), some (.int (x7)), some (.int (x8)), some (.int (x9)), none, none, none, none] 31 []) : ∀ (k : Nat) (σ : gm_S) (x5 : Int32) (x6 : Int32) (x7 : Int32) (x8 : Int32) (x10 : Int32) (x11 : Int32) (x12 : Int32), fX3_chains_L45 N K31 k σ x5 x6 x7 x8 x10 x11 x12 = some r → gx_G X (gm_P w σ) 0 0 [some (va_rf (some (gw_mo w))), none, none, none, none, some (.int (x5)), some (.int (x6)), some (.int (x7)), some (.int (x8)), none, some (.int (x10)), some (.int (x11)), some (.int (x12)), none] 45 [] := by
  intro k
  induction k with
  | zero =>
    intro σ x5 x6 x7 x8 x10 x11 x12 h
    unfold fX3_chains_L45 at h
    cases h
  | succ k ih =>
    intro σ x5 x6 x7 x8 x10 x11 x12 h
    unfold fX3_chains_L45 at h
    refine gx_iload hX dX3_chains_45 rfl ?_
    refine gx_aload_n hX dX3_chains_47 rfl ?_
    refine gm_getA hX 1 (by decide) (by decide) q1342 rfl dX3_chains_48 ?_
    refine gx_iconst (v := 1) hX dX3_chains_51 (by decide) ?_
    refine gm_ld hX (by decide) dX3_chains_52 h (fun v4 h => ?_)
    refine gx_icmp_ge (tgt := 146) hX dX3_chains_53 (by decide) h (fun h => ?_) (fun h => ?_)
    · refine gx_iload hX dX3_chains_146 rfl ?_
      refine gx_iconst (v := (-1)) hX dX3_chains_148 (by decide) ?_
      refine gx_icmp_eq (tgt := 156) hX dX3_chains_149 (by decide) h (fun h => ?_) (fun h => ?_)
      · refine gx_iconst (v := 0) hX dX3_chains_156 (by decide) ?_
        refine gx_sub hX (lv' := [some (va_rf (some (gw_mo w))), none, none, none, none, some (.int (x5)), some (.int (x6)), some (.int (x7)), some (.int (x8)), none, some (.int (x10)), some (.int (x11)), none, none]) ⟨Or.inr rfl, ⟨Or.inr rfl, ⟨Or.inr rfl, ⟨Or.inr rfl, ⟨Or.inr rfl, ⟨Or.inr rfl, ⟨Or.inr rfl, ⟨Or.inr rfl, ⟨Or.inr rfl, ⟨Or.inr rfl, ⟨Or.inr rfl, ⟨Or.inr rfl, ⟨Or.inl rfl, ⟨Or.inr rfl, trivial⟩⟩⟩⟩⟩⟩⟩⟩⟩⟩⟩⟩⟩⟩ ?_
        exact tX3_chains_B157 hA hX hK31 h
      · refine gx_iconst (v := 1) hX dX3_chains_152 (by decide) ?_
        refine gx_goto (tgt := 157) hX dX3_chains_153 (by decide) ?_
        refine gx_sub hX (lv' := [some (va_rf (some (gw_mo w))), none, none, none, none, some (.int (x5)), some (.int (x6)), some (.int (x7)), some (.int (x8)), none, some (.int (x10)), some (.int (x11)), none, none]) ⟨Or.inr rfl, ⟨Or.inr rfl, ⟨Or.inr rfl, ⟨Or.inr rfl, ⟨Or.inr rfl, ⟨Or.inr rfl, ⟨Or.inr rfl, ⟨Or.inr rfl, ⟨Or.inr rfl, ⟨Or.inr rfl, ⟨Or.inr rfl, ⟨Or.inr rfl, ⟨Or.inl rfl, ⟨Or.inr rfl, trivial⟩⟩⟩⟩⟩⟩⟩⟩⟩⟩⟩⟩⟩⟩ ?_
        exact tX3_chains_B157 hA hX hK31 h
    · refine gx_aload_n hX dX3_chains_56 rfl ?_
      refine gx_iload hX dX3_chains_57 rfl ?_
      obtain ⟨r13, hr13, h⟩ := gx_bs h
      refine gx_cV (As := [.int (x12)]) (rest := []) (b := gw_mo w) hX (tX3_isHoused w _ hA (gx_l X) (σ) (x12) hr13) (lw_V q1510 q1512 qs38 q92 q1513) ⟨rfl, dsX3_isHoused⟩ (by decide) (by decide) (gm_rc hX) rfl (gx_w8 gx_k0 (Nat.le_of_ble_eq_true rfl)) dX3_chains_59 ⟨Nat.le_refl _, Nat.le_refl _⟩ rfl ?_
      refine gx_if_eq (tgt := 105) hX dX3_chains_62 (by decide) h (fun h => ?_) (fun h => ?_)
      · exact tX3_chains_B105 hA hX hK31 ih h
      · refine gx_iload hX dX3_chains_65 rfl ?_
        refine gx_iload hX dX3_chains_67 rfl ?_
        refine gx_ishr hX dX3_chains_69 ?_
        refine gx_iconst (v := 1) hX dX3_chains_70 (by decide) ?_
        refine gx_iand hX dX3_chains_71 ?_
        refine gx_if_ne (tgt := 105) hX dX3_chains_72 (by decide) h (fun h => ?_) (fun h => ?_)
        · refine gx_iload hX dX3_chains_75 rfl ?_
          refine gx_iload hX dX3_chains_77 rfl ?_
          refine gx_iload hX dX3_chains_79 rfl ?_
          refine gx_aload_n hX dX3_chains_81 rfl ?_
          refine gm_getA hX 1 (by decide) (by decide) q1342 rfl dX3_chains_82 ?_
          refine gx_sipush (v := nI 130) hX dX3_chains_85 (by decide) ?_
          refine gx_iload hX dX3_chains_88 rfl ?_
          refine gx_iadd hX dX3_chains_90 ?_
          refine gm_ld hX (by decide) dX3_chains_91 h (fun v14 h => ?_)
          obtain ⟨r15, hr15, h⟩ := gx_bs h
          refine gx_cS (As := [.int (x5), .int (x6), .int (x7), .int (v14)]) (rest := []) hX (tX3_fitOf w (gx_A X) (gx_l X) (gm_P w σ) (x5) (x6) (x7) (v14) hr15) (lw_S q1530 q1531 q92 q1532) dsX3_fitOf (by decide) (by decide) rfl (gx_w8 gx_k0 (Nat.le_of_ble_eq_true rfl)) dX3_chains_92 ⟨Nat.le_refl _, Nat.le_refl _⟩ rfl ?_
          refine gx_aload_n hX dX3_chains_95 rfl ?_
          refine gx_iload hX dX3_chains_96 rfl ?_
          obtain ⟨r16, hr16, h⟩ := gx_bs h
          refine gx_cV (As := [.int (x12)]) (rest := [.int (r15)]) (b := gw_mo w) hX (tX3_own w _ hA (gx_l X) (σ) (x12) hr16) (lw_V q1522 q1524 qs41 q92 q1525) ⟨rfl, dsX3_own⟩ (by decide) (by decide) (gm_rc hX) rfl (gx_w8 (gx_kI gx_k0) (Nat.le_of_ble_eq_true rfl)) dX3_chains_98 ⟨Nat.le_refl _, Nat.le_refl _⟩ rfl ?_
          refine gx_isub hX dX3_chains_101 ?_
          refine gx_goto (tgt := 106) hX dX3_chains_102 (by decide) ?_
          exact tX3_chains_B106 hA hX hK31 ih h
        · exact tX3_chains_B105 hA hX hK31 ih h
def fX3_chains_L31 (N : Nat)   : Nat → gm_S → Int32 → Int32 → Int32 → Int32 → Int32 → Option (gm_S)
  | 0, _, _, _, _, _, _ => none
  | k + 1, σ, x5, x6, x7, x8, x9 => if x9 = 0 then some σ else fX3_chains_L45 N (fX3_chains_L31 N k) N σ (x5) (x6) (x7) (x8) ((-1)) (0) (0)
set_option maxHeartbeats 4000000 in
theorem tX3_chains_L31 {w : gw_W} {X : gx_X} {N : Nat} {r : gm_S} (hA : ∀ q, gm_A w q → gx_A X q) (hX : gx_O (gw_I w (gx_A X)) X iX3_chains 4 0 0 (gm_P w r) (.returned (none)))  : ∀ (k : Nat) (σ : gm_S) (x5 : Int32) (x6 : Int32) (x7 : Int32) (x8 : Int32) (x9 : Int32), fX3_chains_L31 N k σ x5 x6 x7 x8 x9 = some r → gx_G X (gm_P w σ) 0 0 [some (va_rf (some (gw_mo w))), none, none, none, none, some (.int (x5)), some (.int (x6)), some (.int (x7)), some (.int (x8)), some (.int (x9)), none, none, none, none] 31 [] := by
  intro k
  induction k with
  | zero =>
    intro σ x5 x6 x7 x8 x9 h
    unfold fX3_chains_L31 at h
    cases h
  | succ k ih =>
    intro σ x5 x6 x7 x8 x9 h
    unfold fX3_chains_L31 at h
    refine gx_iload hX dX3_chains_31 rfl ?_
    refine gx_if_eq (tgt := 265) hX dX3_chains_33 (by decide) h (fun h => ?_) (fun h => ?_)
    · cases h
      exact gx_vret hX rfl dX3_chains_265 rfl ⟨rfl, rfl⟩ (fun _ h => h)
    · refine gx_iconst (v := (-1)) hX dX3_chains_36 (by decide) ?_
      refine gx_istore hX dX3_chains_37 (Nat.le_of_ble_eq_true rfl) gx_c1i (lv' := [some (va_rf (some (gw_mo w))), none, none, none, none, some (.int (x5)), some (.int (x6)), some (.int (x7)), some (.int (x8)), some (.int (x9)), some (.int ((-1))), none, none, none]) rfl ?_
      refine gx_iconst (v := 0) hX dX3_chains_39 (by decide) ?_
      refine gx_istore hX dX3_chains_40 (Nat.le_of_ble_eq_true rfl) gx_c1i (lv' := [some (va_rf (some (gw_mo w))), none, none, none, none, some (.int (x5)), some (.int (x6)), some (.int (x7)), some (.int (x8)), some (.int (x9)), some (.int ((-1))), some (.int (0)), none, none]) rfl ?_
      refine gx_iconst (v := 0) hX dX3_chains_42 (by decide) ?_
      refine gx_istore hX dX3_chains_43 (Nat.le_of_ble_eq_true rfl) gx_c1i (lv' := [some (va_rf (some (gw_mo w))), none, none, none, none, some (.int (x5)), some (.int (x6)), some (.int (x7)), some (.int (x8)), some (.int (x9)), some (.int ((-1))), some (.int (0)), some (.int (0)), none]) rfl ?_
      refine gx_sub hX (lv' := [some (va_rf (some (gw_mo w))), none, none, none, none, some (.int (x5)), some (.int (x6)), some (.int (x7)), some (.int (x8)), none, some (.int ((-1))), some (.int (0)), some (.int (0)), none]) ⟨Or.inr rfl, ⟨Or.inr rfl, ⟨Or.inr rfl, ⟨Or.inr rfl, ⟨Or.inr rfl, ⟨Or.inr rfl, ⟨Or.inr rfl, ⟨Or.inr rfl, ⟨Or.inr rfl, ⟨Or.inl rfl, ⟨Or.inr rfl, ⟨Or.inr rfl, ⟨Or.inr rfl, ⟨Or.inr rfl, trivial⟩⟩⟩⟩⟩⟩⟩⟩⟩⟩⟩⟩⟩⟩ ?_
      exact tX3_chains_L45 hA hX ih N _ _ _ _ _ _ _ _ h
def fX3_chains (N : Nat) (σ : gm_S) (x1 : Int32) (x2 : Int32) (x3 : Int32) (x4 : Int32) : Option (gm_S) := (gm_pt σ 24 (0)).bind fun σ1 => (gm_pt σ1 25 (0)).bind fun σ2 => (gm_pt σ2 26 (x1)).bind fun σ3 => fX3_chains_L31 N N σ3 (x2) (x3) (x4) (0) (1)
set_option maxHeartbeats 4000000 in
theorem tX3_chains (w : gw_W) (A : Nat → Prop) (hA : ∀ q, gm_A w q → A q) (l : Launch) (N : Nat) (σ : gm_S) (x1 : Int32) (x2 : Int32) (x3 : Int32) (x4 : Int32) {r : gm_S} (h : fX3_chains N σ x1 x2 x3 x4 = some r) : gx_T (gw_I w A) A l yX3_chains iX3_chains 4 [va_rf (some (gw_mo w)), .int (x1), .int (x2), .int (x3), .int (x4)] (gm_P w σ) 0 0 (gm_P w r) (.returned (none)) := by
  refine gx_T.of (gw_I.inv w A) (by decide) ⟨rfl, rfl⟩ (gx_kR (gx_kI (gx_kI (gx_kI (gx_kI gx_k0))))) (Nat.le_of_ble_eq_true rfl) (fun X hl hAx hX => ?_)
  subst hl
  subst hAx
  show gx_G X (gm_P w σ) 0 0 [some (va_rf (some (gw_mo w))), some (.int (x1)), some (.int (x2)), some (.int (x3)), some (.int (x4)), none, none, none, none, none, none, none, none, none] 0 []
  unfold fX3_chains at h
  refine gx_iload_n hX dX3_chains_0 rfl ?_
  refine gx_istore hX dX3_chains_1 (Nat.le_of_ble_eq_true rfl) gx_c1i (lv' := [some (va_rf (some (gw_mo w))), some (.int (x1)), some (.int (x2)), some (.int (x3)), some (.int (x4)), some (.int (x2)), none, none, none, none, none, none, none, none]) rfl ?_
  refine gx_iload_n hX dX3_chains_3 rfl ?_
  refine gx_istore hX dX3_chains_4 (Nat.le_of_ble_eq_true rfl) gx_c1i (lv' := [some (va_rf (some (gw_mo w))), some (.int (x1)), some (.int (x2)), some (.int (x3)), some (.int (x4)), some (.int (x2)), some (.int (x3)), none, none, none, none, none, none, none]) rfl ?_
  refine gx_iload hX dX3_chains_6 rfl ?_
  refine gx_istore hX dX3_chains_8 (Nat.le_of_ble_eq_true rfl) gx_c1i (lv' := [some (va_rf (some (gw_mo w))), some (.int (x1)), some (.int (x2)), some (.int (x3)), some (.int (x4)), some (.int (x2)), some (.int (x3)), some (.int (x4)), none, none, none, none, none, none]) rfl ?_
  refine gx_aload_n hX dX3_chains_10 rfl ?_
  refine gx_iconst (v := 0) hX dX3_chains_11 (by decide) ?_
  refine gm_putI hX hA (k := 24) ⟨by decide, rfl⟩ q1365 ⟨rfl, rfl⟩ rfl dX3_chains_12 h (fun σ1 h => ?_)
  refine gx_aload_n hX dX3_chains_15 rfl ?_
  refine gx_iconst (v := 0) hX dX3_chains_16 (by decide) ?_
  refine gm_putI hX hA (k := 25) ⟨by decide, rfl⟩ q1366 ⟨rfl, rfl⟩ rfl dX3_chains_17 h (fun σ2 h => ?_)
  refine gx_aload_n hX dX3_chains_20 rfl ?_
  refine gx_iload_n hX dX3_chains_21 rfl ?_
  refine gm_putI hX hA (k := 26) ⟨by decide, rfl⟩ q1367 ⟨rfl, rfl⟩ rfl dX3_chains_22 h (fun σ3 h => ?_)
  refine gx_iconst (v := 0) hX dX3_chains_25 (by decide) ?_
  refine gx_istore hX dX3_chains_26 (Nat.le_of_ble_eq_true rfl) gx_c1i (lv' := [some (va_rf (some (gw_mo w))), some (.int (x1)), some (.int (x2)), some (.int (x3)), some (.int (x4)), some (.int (x2)), some (.int (x3)), some (.int (x4)), some (.int (0)), none, none, none, none, none]) rfl ?_
  refine gx_iconst (v := 1) hX dX3_chains_28 (by decide) ?_
  refine gx_istore hX dX3_chains_29 (Nat.le_of_ble_eq_true rfl) gx_c1i (lv' := [some (va_rf (some (gw_mo w))), some (.int (x1)), some (.int (x2)), some (.int (x3)), some (.int (x4)), some (.int (x2)), some (.int (x3)), some (.int (x4)), some (.int (0)), some (.int (1)), none, none, none, none]) rfl ?_
  refine gx_sub hX (lv' := [some (va_rf (some (gw_mo w))), none, none, none, none, some (.int (x2)), some (.int (x3)), some (.int (x4)), some (.int (0)), some (.int (1)), none, none, none, none]) ⟨Or.inr rfl, ⟨Or.inl rfl, ⟨Or.inl rfl, ⟨Or.inl rfl, ⟨Or.inl rfl, ⟨Or.inr rfl, ⟨Or.inr rfl, ⟨Or.inr rfl, ⟨Or.inr rfl, ⟨Or.inr rfl, ⟨Or.inr rfl, ⟨Or.inr rfl, ⟨Or.inr rfl, ⟨Or.inr rfl, trivial⟩⟩⟩⟩⟩⟩⟩⟩⟩⟩⟩⟩⟩⟩ ?_
  exact tX3_chains_L31 hA hX  N _ _ _ _ _ _ h
abbrev iX3_chain : gx_M := (RX3, "chain", cX3_chain, 3, some .int)
theorem dsX3_chain : gx_ds yX3_chain 2 := by decide +kernel
def fX3_chain (N : Nat) (σ : gm_S) (x1 : Int32) (x2 : Int32) : Option (gm_S × Int32) := (fX3_isShell (σ) (x1)).bind fun r1 => if r1 = 0 then some (σ, (-1)) else if ((-3)) ≤ x2 then (gm_rd σ 1 ((nI 90) + (x1))).bind fun v2 => if v2 = 0 then (gm_rd σ 1 ((nI 10) + (x1))).bind fun v3 => (gm_rd σ 1 ((nI 30) + (x1))).bind fun v4 => (gm_rd σ 1 ((nI 50) + (x1))).bind fun v5 => (fX3_chains N (σ) (x1) (v3) (v4) (v5)).bind fun r6 => if x2 = (-3) then some (r6, gs r6 26) else if x2 = (-2) then some (r6, gs r6 25) else if x2 = (-1) then some (r6, gs r6 24) else if (gs r6 24) ≤ x2 then some (r6, (-1)) else (gm_rd r6 23 (x2)).bind fun v7 => some (r6, v7) else some (σ, (-3)) else some (σ, (-1))
set_option maxHeartbeats 4000000 in
theorem tX3_chain (w : gw_W) (A : Nat → Prop) (hA : ∀ q, gm_A w q → A q) (l : Launch) (N : Nat) (σ : gm_S) (x1 : Int32) (x2 : Int32) {r : gm_S × Int32} (h : fX3_chain N σ x1 x2 = some r) : gx_T (gw_I w A) A l yX3_chain iX3_chain 5 [va_rf (some (gw_mo w)), .int (x1), .int (x2)] (gm_P w σ) 0 0 (gm_P w r.1) (.returned (some (.int r.2))) := by
  refine gx_T.of (gw_I.inv w A) (by decide) ⟨rfl, rfl⟩ (gx_kR (gx_kI (gx_kI gx_k0))) (Nat.le_of_ble_eq_true rfl) (fun X hl hAx hX => ?_)
  subst hl
  subst hAx
  show gx_G X (gm_P w σ) 0 0 [some (va_rf (some (gw_mo w))), some (.int (x1)), some (.int (x2))] 0 []
  unfold fX3_chain at h
  refine gx_aload_n hX dX3_chain_0 rfl ?_
  refine gx_iload_n hX dX3_chain_1 rfl ?_
  obtain ⟨r1, hr1, h⟩ := gx_bs h
  refine gx_cV (As := [.int (x1)]) (rest := []) (b := gw_mo w) hX (tX3_isShell w _ hA (gx_l X) (σ) (x1) hr1) (lw_V q1474 q1476 qs33 q92 q1477) ⟨rfl, dsX3_isShell⟩ (by decide) (by decide) (gm_rc hX) rfl (gx_w8 gx_k0 (Nat.le_of_ble_eq_true rfl)) dX3_chain_2 ⟨Nat.le_refl _, Nat.le_refl _⟩ rfl ?_
  refine gx_if_eq (tgt := 14) hX dX3_chain_5 (by decide) h (fun h => ?_) (fun h => ?_)
  · refine gx_iconst (v := (-1)) hX dX3_chain_14 (by decide) ?_
    cases h
    exact gx_iret hX rfl dX3_chain_15 rfl ⟨rfl, rfl⟩ (fun _ h => h)
  · refine gx_iload_n hX dX3_chain_8 rfl ?_
    refine gx_bipush (v := (-3)) hX dX3_chain_9 (by decide) ?_
    refine gx_icmp_ge (tgt := 16) hX dX3_chain_11 (by decide) h (fun h => ?_) (fun h => ?_)
    · refine gx_aload_n hX dX3_chain_16 rfl ?_
      refine gm_getA hX 1 (by decide) (by decide) q1342 rfl dX3_chain_17 ?_
      refine gx_bipush (v := nI 90) hX dX3_chain_20 (by decide) ?_
      refine gx_iload_n hX dX3_chain_22 rfl ?_
      refine gx_iadd hX dX3_chain_23 ?_
      refine gm_ld hX (by decide) dX3_chain_24 h (fun v2 h => ?_)
      refine gx_if_eq (tgt := 31) hX dX3_chain_25 (by decide) h (fun h => ?_) (fun h => ?_)
      · refine gx_aload_n hX dX3_chain_31 rfl ?_
        refine gx_iload_n hX dX3_chain_32 rfl ?_
        refine gx_aload_n hX dX3_chain_33 rfl ?_
        refine gm_getA hX 1 (by decide) (by decide) q1342 rfl dX3_chain_34 ?_
        refine gx_bipush (v := nI 10) hX dX3_chain_37 (by decide) ?_
        refine gx_iload_n hX dX3_chain_39 rfl ?_
        refine gx_iadd hX dX3_chain_40 ?_
        refine gm_ld hX (by decide) dX3_chain_41 h (fun v3 h => ?_)
        refine gx_aload_n hX dX3_chain_42 rfl ?_
        refine gm_getA hX 1 (by decide) (by decide) q1342 rfl dX3_chain_43 ?_
        refine gx_bipush (v := nI 30) hX dX3_chain_46 (by decide) ?_
        refine gx_iload_n hX dX3_chain_48 rfl ?_
        refine gx_iadd hX dX3_chain_49 ?_
        refine gm_ld hX (by decide) dX3_chain_50 h (fun v4 h => ?_)
        refine gx_aload_n hX dX3_chain_51 rfl ?_
        refine gm_getA hX 1 (by decide) (by decide) q1342 rfl dX3_chain_52 ?_
        refine gx_bipush (v := nI 50) hX dX3_chain_55 (by decide) ?_
        refine gx_iload_n hX dX3_chain_57 rfl ?_
        refine gx_iadd hX dX3_chain_58 ?_
        refine gm_ld hX (by decide) dX3_chain_59 h (fun v5 h => ?_)
        obtain ⟨r6, hr6, h⟩ := gx_bs h
        refine gx_cV (As := [.int (x1), .int (v3), .int (v4), .int (v5)]) (rest := []) (b := gw_mo w) hX (tX3_chains w _ hA (gx_l X) N (σ) (x1) (v3) (v4) (v5) hr6) (lw_V q1727 q1729 qs66 q92 q1730) ⟨rfl, dsX3_chains⟩ (by decide) (by decide) (gm_rc hX) rfl (gx_w8 gx_k0 (Nat.le_of_ble_eq_true rfl)) dX3_chain_60 ⟨Nat.le_refl _, Nat.le_refl _⟩ rfl ?_
        refine gx_iload_n hX dX3_chain_63 rfl ?_
        by_cases c0 : x2 = (-3)
        · rw [if_pos c0] at h
          refine gx_tsw (off := 38) (tgt := 102) hX dX3_chain_64 (by decide) (by rw [c0]; decide) (by decide) ?_
          refine gx_aload_n hX dX3_chain_102 rfl ?_
          refine gm_getI hX 26 (by decide) rfl q1367 rfl dX3_chain_103 ?_
          cases h
          exact gx_iret hX rfl dX3_chain_106 rfl ⟨rfl, rfl⟩ (fun _ h => h)
        · rw [if_neg c0] at h
          by_cases c1 : x2 = (-2)
          · rw [if_pos c1] at h
            refine gx_tsw (off := 33) (tgt := 97) hX dX3_chain_64 (by decide) (by rw [c1]; decide) (by decide) ?_
            refine gx_aload_n hX dX3_chain_97 rfl ?_
            refine gm_getI hX 25 (by decide) rfl q1366 rfl dX3_chain_98 ?_
            cases h
            exact gx_iret hX rfl dX3_chain_101 rfl ⟨rfl, rfl⟩ (fun _ h => h)
          · rw [if_neg c1] at h
            by_cases c2 : x2 = (-1)
            · rw [if_pos c2] at h
              refine gx_tsw (off := 28) (tgt := 92) hX dX3_chain_64 (by decide) (by rw [c2]; decide) (by decide) ?_
              refine gx_aload_n hX dX3_chain_92 rfl ?_
              refine gm_getI hX 24 (by decide) rfl q1365 rfl dX3_chain_93 ?_
              cases h
              exact gx_iret hX rfl dX3_chain_96 rfl ⟨rfl, rfl⟩ (fun _ h => h)
            · rw [if_neg c2] at h
              have e0 : (x2).toInt ≠ (-3) := gx_nei c0
              have e1 : (x2).toInt ≠ (-2) := gx_nei c1
              have e2 : (x2).toInt ≠ (-1) := gx_nei c2
              refine gx_tsw (off := 43) (tgt := 107) hX dX3_chain_64 (by decide) (by unfold gx_to; rw [if_pos (by omega)]) (by decide) ?_
              refine gx_iload_n hX dX3_chain_107 rfl ?_
              refine gx_aload_n hX dX3_chain_108 rfl ?_
              refine gm_getI hX 24 (by decide) rfl q1365 rfl dX3_chain_109 ?_
              refine gx_icmp_ge (tgt := 124) hX dX3_chain_112 (by decide) h (fun h => ?_) (fun h => ?_)
              · refine gx_iconst (v := (-1)) hX dX3_chain_124 (by decide) ?_
                cases h
                exact gx_iret hX rfl dX3_chain_125 rfl ⟨rfl, rfl⟩ (fun _ h => h)
              · refine gx_aload_n hX dX3_chain_115 rfl ?_
                refine gm_getA hX 23 (by decide) (by decide) q1364 rfl dX3_chain_116 ?_
                refine gx_iload_n hX dX3_chain_119 rfl ?_
                refine gm_ld hX (by decide) dX3_chain_120 h (fun v7 h => ?_)
                refine gx_goto (tgt := 125) hX dX3_chain_121 (by decide) ?_
                cases h
                exact gx_iret hX rfl dX3_chain_125 rfl ⟨rfl, rfl⟩ (fun _ h => h)
      · refine gx_bipush (v := (-3)) hX dX3_chain_28 (by decide) ?_
        cases h
        exact gx_iret hX rfl dX3_chain_30 rfl ⟨rfl, rfl⟩ (fun _ h => h)
    · refine gx_iconst (v := (-1)) hX dX3_chain_14 (by decide) ?_
      cases h
      exact gx_iret hX rfl dX3_chain_15 rfl ⟨rfl, rfl⟩ (fun _ h => h)
abbrev iX3_valueOf : gx_M := (RX3, "valueOf", cX3_valueOf, 2, some .int)
theorem dsX3_valueOf : gx_ds yX3_valueOf 1 := by decide +kernel
def fX3_valueOf (N : Nat) (σ : gm_S) (x1 : Int32) : Option (gm_S × Int32) := (fX3_chains N (σ) ((-1)) (x1) (0) (0)).bind fun r1 => some (r1, gs r1 25)
set_option maxHeartbeats 4000000 in
theorem tX3_valueOf (w : gw_W) (A : Nat → Prop) (hA : ∀ q, gm_A w q → A q) (l : Launch) (N : Nat) (σ : gm_S) (x1 : Int32) {r : gm_S × Int32} (h : fX3_valueOf N σ x1 = some r) : gx_T (gw_I w A) A l yX3_valueOf iX3_valueOf 5 [va_rf (some (gw_mo w)), .int (x1)] (gm_P w σ) 0 0 (gm_P w r.1) (.returned (some (.int r.2))) := by
  refine gx_T.of (gw_I.inv w A) (by decide) ⟨rfl, rfl⟩ (gx_kR (gx_kI gx_k0)) (Nat.le_of_ble_eq_true rfl) (fun X hl hAx hX => ?_)
  subst hl
  subst hAx
  show gx_G X (gm_P w σ) 0 0 [some (va_rf (some (gw_mo w))), some (.int (x1))] 0 []
  unfold fX3_valueOf at h
  refine gx_aload_n hX dX3_valueOf_0 rfl ?_
  refine gx_iconst (v := (-1)) hX dX3_valueOf_1 (by decide) ?_
  refine gx_iload_n hX dX3_valueOf_2 rfl ?_
  refine gx_iconst (v := 0) hX dX3_valueOf_3 (by decide) ?_
  refine gx_iconst (v := 0) hX dX3_valueOf_4 (by decide) ?_
  obtain ⟨r1, hr1, h⟩ := gx_bs h
  refine gx_cV (As := [.int ((-1)), .int (x1), .int (0), .int (0)]) (rest := []) (b := gw_mo w) hX (tX3_chains w _ hA (gx_l X) N (σ) ((-1)) (x1) (0) (0) hr1) (lw_V q1727 q1729 qs66 q92 q1730) ⟨rfl, dsX3_chains⟩ (by decide) (by decide) (gm_rc hX) rfl (gx_w8 gx_k0 (Nat.le_of_ble_eq_true rfl)) dX3_valueOf_5 ⟨Nat.le_refl _, Nat.le_refl _⟩ rfl ?_
  refine gx_aload_n hX dX3_valueOf_8 rfl ?_
  refine gm_getI hX 25 (by decide) rfl q1366 rfl dX3_valueOf_9 ?_
  cases h
  exact gx_iret hX rfl dX3_valueOf_12 rfl ⟨rfl, rfl⟩ (fun _ h => h)
abbrev iX3_value : gx_M := (RX3, "value", cX3_value, 2, some .int)
theorem dsX3_value : gx_ds yX3_value 1 := by decide +kernel
def fX3_value (N : Nat) (σ : gm_S) (x1 : Int32) : Option (gm_S × Int32) := (fX3_in  (x1) (1) (nI 40)).bind fun r1 => if r1 = 0 then some (σ, (-2)) else (fX3_valueOf N (σ) (x1)).bind fun r2 => some (r2.1, r2.2)
set_option maxHeartbeats 4000000 in
theorem tX3_value (w : gw_W) (A : Nat → Prop) (hA : ∀ q, gm_A w q → A q) (l : Launch) (N : Nat) (σ : gm_S) (x1 : Int32) {r : gm_S × Int32} (h : fX3_value N σ x1 = some r) : gx_T (gw_I w A) A l yX3_value iX3_value 6 [va_rf (some (gw_mo w)), .int (x1)] (gm_P w σ) 0 0 (gm_P w r.1) (.returned (some (.int r.2))) := by
  refine gx_T.of (gw_I.inv w A) (by decide) ⟨rfl, rfl⟩ (gx_kR (gx_kI gx_k0)) (Nat.le_of_ble_eq_true rfl) (fun X hl hAx hX => ?_)
  subst hl
  subst hAx
  show gx_G X (gm_P w σ) 0 0 [some (va_rf (some (gw_mo w))), some (.int (x1))] 0 []
  unfold fX3_value at h
  refine gx_iload_n hX dX3_value_0 rfl ?_
  refine gx_iconst (v := 1) hX dX3_value_1 (by decide) ?_
  refine gx_bipush (v := nI 40) hX dX3_value_2 (by decide) ?_
  obtain ⟨r1, hr1, h⟩ := gx_bs h
  refine gx_cS (As := [.int (x1), .int (1), .int (nI 40)]) (rest := []) hX (tX3_in w (gx_A X) (gx_l X) (gm_P w σ) (x1) (1) (nI 40) hr1) (lw_S q1467 q1468 q92 q1469) dsX3_in (by decide) (by decide) rfl (gx_w8 gx_k0 (Nat.le_of_ble_eq_true rfl)) dX3_value_4 ⟨Nat.le_refl _, Nat.le_refl _⟩ rfl ?_
  refine gx_if_eq (tgt := 18) hX dX3_value_7 (by decide) h (fun h => ?_) (fun h => ?_)
  · refine gx_bipush (v := (-2)) hX dX3_value_18 (by decide) ?_
    cases h
    exact gx_iret hX rfl dX3_value_20 rfl ⟨rfl, rfl⟩ (fun _ h => h)
  · refine gx_aload_n hX dX3_value_10 rfl ?_
    refine gx_iload_n hX dX3_value_11 rfl ?_
    obtain ⟨r2, hr2, h⟩ := gx_bs h
    refine gx_cV (As := [.int (x1)]) (rest := []) (b := gw_mo w) hX (tX3_valueOf w _ hA (gx_l X) N (σ) (x1) hr2) (lw_V q1735 q1737 qs67 q92 q1738) ⟨rfl, dsX3_valueOf⟩ (by decide) (by decide) (gm_rc hX) rfl (gx_w8 gx_k0 (Nat.le_of_ble_eq_true rfl)) dX3_value_12 ⟨Nat.le_refl _, Nat.le_refl _⟩ rfl ?_
    refine gx_goto (tgt := 20) hX dX3_value_15 (by decide) ?_
    cases h
    exact gx_iret hX rfl dX3_value_20 rfl ⟨rfl, rfl⟩ (fun _ h => h)
abbrev iX3_first : gx_M := (RX3, "first", cX3_first, 5, some .int)
theorem dsX3_first : gx_ds yX3_first 0 := by decide +kernel
def fX3_first_B47 (N : Nat)  (K10 : gm_S → Int32 → Int32 → Int32 → Option (gm_S × Int32)) (σ : gm_S) (x1 : Int32) (x3 : Int32) (y0 : Int32) : Option (gm_S × Int32) := K10 σ (x1) (y0) ((x3) + 1)
set_option maxHeartbeats 4000000 in
theorem tX3_first_B47 {w : gw_W} {X : gx_X} {N : Nat} {r : gm_S × Int32} (hA : ∀ q, gm_A w q → gx_A X q) (hX : gx_O (gw_I w (gx_A X)) X iX3_first 6 0 0 (gm_P w r.1) (.returned (some (.int r.2)))) {K10 : gm_S → Int32 → Int32 → Int32 → Option (gm_S × Int32)} (hK10 : ∀ (σ : gm_S) (x1 : Int32) (x2 : Int32) (x3 : Int32), K10 σ x1 x2 x3 = some r → gx_G X (gm_P w σ) 0 0 [some (va_rf (some (gw_mo w))), some (.int (x1)), some (.int (x2)), some (.int (x3)), none] 10 []) {σ : gm_S} {x1 : Int32} {x3 : Int32} {y0 : Int32} (h : fX3_first_B47 N K10 σ x1 x3 y0 = some r) : gx_G X (gm_P w σ) 0 0 [some (va_rf (some (gw_mo w))), some (.int (x1)), none, some (.int (x3)), none] 47 [.int (y0)] := by
  unfold fX3_first_B47 at h
  refine gx_istore_n hX dX3_first_47 (Nat.le_of_ble_eq_true rfl) gx_c1i (lv' := [some (va_rf (some (gw_mo w))), some (.int (x1)), some (.int (y0)), some (.int (x3)), none]) rfl ?_
  refine gx_iinc (v := 1) hX dX3_first_48 rfl (by decide) gx_c1i (lv' := [some (va_rf (some (gw_mo w))), some (.int (x1)), some (.int (y0)), some (.int ((x3) + 1)), none]) rfl ?_
  refine gx_goto (tgt := 10) hX dX3_first_51 (by decide) ?_
  exact hK10 _ _ _ _ h
def fX3_first_B34 (N : Nat)  (K10 : gm_S → Int32 → Int32 → Int32 → Option (gm_S × Int32)) (σ : gm_S) (x2 : Int32) (x3 : Int32) (x4 : Int32) (y0 : Int32) : Option (gm_S × Int32) := if (x4) ≤ x2 then fX3_first_B47 N K10 σ (y0) (x3) (x2) else fX3_first_B47 N K10 σ (y0) (x3) (x4)
set_option maxHeartbeats 4000000 in
theorem tX3_first_B34 {w : gw_W} {X : gx_X} {N : Nat} {r : gm_S × Int32} (hA : ∀ q, gm_A w q → gx_A X q) (hX : gx_O (gw_I w (gx_A X)) X iX3_first 6 0 0 (gm_P w r.1) (.returned (some (.int r.2)))) {K10 : gm_S → Int32 → Int32 → Int32 → Option (gm_S × Int32)} (hK10 : ∀ (σ : gm_S) (x1 : Int32) (x2 : Int32) (x3 : Int32), K10 σ x1 x2 x3 = some r → gx_G X (gm_P w σ) 0 0 [some (va_rf (some (gw_mo w))), some (.int (x1)), some (.int (x2)), some (.int (x3)), none] 10 []) {σ : gm_S} {x2 : Int32} {x3 : Int32} {x4 : Int32} {y0 : Int32} (h : fX3_first_B34 N K10 σ x2 x3 x4 y0 = some r) : gx_G X (gm_P w σ) 0 0 [some (va_rf (some (gw_mo w))), none, some (.int (x2)), some (.int (x3)), some (.int (x4))] 34 [.int (y0)] := by
  unfold fX3_first_B34 at h
  refine gx_istore_n hX dX3_first_34 (Nat.le_of_ble_eq_true rfl) gx_c1r (lv' := [some (va_rf (some (gw_mo w))), some (.int (y0)), some (.int (x2)), some (.int (x3)), some (.int (x4))]) rfl ?_
  refine gx_iload hX dX3_first_35 rfl ?_
  refine gx_iload_n hX dX3_first_37 rfl ?_
  refine gx_icmp_le (tgt := 46) hX dX3_first_38 (by decide) h (fun h => ?_) (fun h => ?_)
  · refine gx_iload_n hX dX3_first_46 rfl ?_
    refine gx_sub hX (lv' := [some (va_rf (some (gw_mo w))), some (.int (y0)), none, some (.int (x3)), none]) ⟨Or.inr rfl, ⟨Or.inr rfl, ⟨Or.inl rfl, ⟨Or.inr rfl, ⟨Or.inl rfl, trivial⟩⟩⟩⟩⟩ ?_
    exact tX3_first_B47 hA hX hK10 h
  · refine gx_iload hX dX3_first_41 rfl ?_
    refine gx_goto (tgt := 47) hX dX3_first_43 (by decide) ?_
    refine gx_sub hX (lv' := [some (va_rf (some (gw_mo w))), some (.int (y0)), none, some (.int (x3)), none]) ⟨Or.inr rfl, ⟨Or.inr rfl, ⟨Or.inl rfl, ⟨Or.inr rfl, ⟨Or.inl rfl, trivial⟩⟩⟩⟩⟩ ?_
    exact tX3_first_B47 hA hX hK10 h
def fX3_first_L10 (N : Nat)   : Nat → gm_S → Int32 → Int32 → Int32 → Option (gm_S × Int32)
  | 0, _, _, _, _ => none
  | k + 1, σ, x1, x2, x3 => if (nI 40) < x3 then some (σ, x1) else (fX3_valueOf N (σ) (x3)).bind fun r2 => if (r2.2) ≤ x2 then fX3_first_B34 N (fX3_first_L10 N k) r2.1 (x2) (x3) (r2.2) (x1) else fX3_first_B34 N (fX3_first_L10 N k) r2.1 (x2) (x3) (r2.2) (x3)
set_option maxHeartbeats 4000000 in
theorem tX3_first_L10 {w : gw_W} {X : gx_X} {N : Nat} {r : gm_S × Int32} (hA : ∀ q, gm_A w q → gx_A X q) (hX : gx_O (gw_I w (gx_A X)) X iX3_first 6 0 0 (gm_P w r.1) (.returned (some (.int r.2))))  : ∀ (k : Nat) (σ : gm_S) (x1 : Int32) (x2 : Int32) (x3 : Int32), fX3_first_L10 N k σ x1 x2 x3 = some r → gx_G X (gm_P w σ) 0 0 [some (va_rf (some (gw_mo w))), some (.int (x1)), some (.int (x2)), some (.int (x3)), none] 10 [] := by
  intro k
  induction k with
  | zero =>
    intro σ x1 x2 x3 h
    unfold fX3_first_L10 at h
    cases h
  | succ k ih =>
    intro σ x1 x2 x3 h
    unfold fX3_first_L10 at h
    refine gx_iload_n hX dX3_first_10 rfl ?_
    refine gx_bipush (v := nI 40) hX dX3_first_11 (by decide) ?_
    refine gx_icmp_gt (tgt := 54) hX dX3_first_13 (by decide) h (fun h => ?_) (fun h => ?_)
    · refine gx_iload_n hX dX3_first_54 rfl ?_
      cases h
      exact gx_iret hX rfl dX3_first_55 rfl ⟨rfl, rfl⟩ (fun _ h => h)
    · refine gx_aload_n hX dX3_first_16 rfl ?_
      refine gx_iload_n hX dX3_first_17 rfl ?_
      obtain ⟨r2, hr2, h⟩ := gx_bs h
      refine gx_cV (As := [.int (x3)]) (rest := []) (b := gw_mo w) hX (tX3_valueOf w _ hA (gx_l X) N (σ) (x3) hr2) (lw_V q1735 q1737 qs67 q92 q1738) ⟨rfl, dsX3_valueOf⟩ (by decide) (by decide) (gm_rc hX) rfl (gx_w8 gx_k0 (Nat.le_of_ble_eq_true rfl)) dX3_first_18 ⟨Nat.le_refl _, Nat.le_refl _⟩ rfl ?_
      refine gx_istore hX dX3_first_21 (Nat.le_of_ble_eq_true rfl) gx_c1i (lv' := [some (va_rf (some (gw_mo w))), some (.int (x1)), some (.int (x2)), some (.int (x3)), some (.int (r2.2))]) rfl ?_
      refine gx_iload hX dX3_first_23 rfl ?_
      refine gx_iload_n hX dX3_first_25 rfl ?_
      refine gx_icmp_le (tgt := 33) hX dX3_first_26 (by decide) h (fun h => ?_) (fun h => ?_)
      · refine gx_iload_n hX dX3_first_33 rfl ?_
        refine gx_sub hX (lv' := [some (va_rf (some (gw_mo w))), none, some (.int (x2)), some (.int (x3)), some (.int (r2.2))]) ⟨Or.inr rfl, ⟨Or.inl rfl, ⟨Or.inr rfl, ⟨Or.inr rfl, ⟨Or.inr rfl, trivial⟩⟩⟩⟩⟩ ?_
        exact tX3_first_B34 hA hX ih h
      · refine gx_iload_n hX dX3_first_29 rfl ?_
        refine gx_goto (tgt := 34) hX dX3_first_30 (by decide) ?_
        refine gx_sub hX (lv' := [some (va_rf (some (gw_mo w))), none, some (.int (x2)), some (.int (x3)), some (.int (r2.2))]) ⟨Or.inr rfl, ⟨Or.inl rfl, ⟨Or.inr rfl, ⟨Or.inr rfl, ⟨Or.inr rfl, trivial⟩⟩⟩⟩⟩ ?_
        exact tX3_first_B34 hA hX ih h
def fX3_first (N : Nat) (σ : gm_S)  : Option (gm_S × Int32) := (fX3_valueOf N (σ) (1)).bind fun r1 => fX3_first_L10 N N r1.1 (1) (r1.2) (2)
set_option maxHeartbeats 4000000 in
theorem tX3_first (w : gw_W) (A : Nat → Prop) (hA : ∀ q, gm_A w q → A q) (l : Launch) (N : Nat) (σ : gm_S)  {r : gm_S × Int32} (h : fX3_first N σ = some r) : gx_T (gw_I w A) A l yX3_first iX3_first 6 [va_rf (some (gw_mo w))] (gm_P w σ) 0 0 (gm_P w r.1) (.returned (some (.int r.2))) := by
  refine gx_T.of (gw_I.inv w A) (by decide) ⟨rfl, rfl⟩ (gx_kR gx_k0) (Nat.le_of_ble_eq_true rfl) (fun X hl hAx hX => ?_)
  subst hl
  subst hAx
  show gx_G X (gm_P w σ) 0 0 [some (va_rf (some (gw_mo w))), none, none, none, none] 0 []
  unfold fX3_first at h
  refine gx_iconst (v := 1) hX dX3_first_0 (by decide) ?_
  refine gx_istore_n hX dX3_first_1 (Nat.le_of_ble_eq_true rfl) gx_c1r (lv' := [some (va_rf (some (gw_mo w))), some (.int (1)), none, none, none]) rfl ?_
  refine gx_aload_n hX dX3_first_2 rfl ?_
  refine gx_iconst (v := 1) hX dX3_first_3 (by decide) ?_
  obtain ⟨r1, hr1, h⟩ := gx_bs h
  refine gx_cV (As := [.int (1)]) (rest := []) (b := gw_mo w) hX (tX3_valueOf w _ hA (gx_l X) N (σ) (1) hr1) (lw_V q1735 q1737 qs67 q92 q1738) ⟨rfl, dsX3_valueOf⟩ (by decide) (by decide) (gm_rc hX) rfl (gx_w8 gx_k0 (Nat.le_of_ble_eq_true rfl)) dX3_first_4 ⟨Nat.le_refl _, Nat.le_refl _⟩ rfl ?_
  refine gx_istore_n hX dX3_first_7 (Nat.le_of_ble_eq_true rfl) gx_c1i (lv' := [some (va_rf (some (gw_mo w))), some (.int (1)), some (.int (r1.2)), none, none]) rfl ?_
  refine gx_iconst (v := 2) hX dX3_first_8 (by decide) ?_
  refine gx_istore_n hX dX3_first_9 (Nat.le_of_ble_eq_true rfl) gx_c1i (lv' := [some (va_rf (some (gw_mo w))), some (.int (1)), some (.int (r1.2)), some (.int (2)), none]) rfl ?_
  exact tX3_first_L10 hA hX  N _ _ _ _ h
