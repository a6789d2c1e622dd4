set_option maxRecDepth 100000
abbrev iX19_putBack : gx_M := (RX19, "putBack", cX19_putBack, 3, none)
theorem dsX19_putBack : gx_ds yX19_putBack 0 := by decide +kernel
def fX19_putBack_B376 (N : Nat) (x0 : Nat)  (K173 : xk_C → Int32 → Option (xk_C × Unit)) (σ : xk_C) (x1 : Int32) (x2 : Option Nat) (y0 : Int32) (y1 : Option Nat) : Option (xk_C × Unit) := (xk_pz (σ) 52 (y1) (y0)).bind fun σ66 => (xk_gr (σ66) 99 (some x0)).bind fun v67 => (xk_lq (σ66) 8 (v67) (x1)).bind fun v68 => (xk_pr (σ66) 55 (x2) (v68)).bind fun σ69 => K173 (σ69) ((x1) + 1)
set_option maxHeartbeats 4000000 in
theorem eX19_putBack_B376 {r : xk_C × Unit} {N : Nat} {x0 : Nat} {K173 : xk_C → Int32 → Option (xk_C × Unit)} (hL173 : ∀ (σ : xk_C) (x1 : Int32), xk_er r σ (K173 σ x1)) {σ : xk_C} {x1 : Int32} {x2 : Option Nat} {y0 : Int32} {y1 : Option Nat} : xk_er r σ (fX19_putBack_B376 N x0 K173 σ x1 x2 y0 y1) := by
  unfold fX19_putBack_B376
  exact (xk_er_op xk_e_pz (fun _ => (xk_er_rd (fun _ => (xk_er_rd (fun _ => (xk_er_op xk_e_pr (fun _ => (hL173 _ _)))))))))
set_option maxHeartbeats 4000000 in
theorem tX19_putBack_B376 {w : gw_W} {X : gx_X} {N : Nat} {x0 : Nat} {r : xk_C × Unit} (hX : gx_O (gw_I w (gx_A X)) X iX19_putBack 6 0 0 (xk_P (gx_A X) w r.1) (.returned none)) {K173 : xk_C → Int32 → Option (xk_C × Unit)} (hK173 : ∀ (σ : xk_C) (x1 : Int32), K173 σ x1 = some r → gx_G X (xk_P (gx_A X) w (σ)) 0 0 [some (va_rf (some x0)), some (.int (x1)), none] 173 []) {σ : xk_C} {x1 : Int32} {x2 : Option Nat} {y0 : Int32} {y1 : Option Nat} (h : fX19_putBack_B376 N x0 K173 σ x1 x2 y0 y1 = some r) : gx_G X (xk_P (gx_A X) w (σ)) 0 0 [some (va_rf (some x0)), some (.int (x1)), some (va_rf (x2))] 376 [.int (y0), va_rf (y1)] := by
  unfold fX19_putBack_B376 at h
  refine xk_putzN hX 52 xk_ty52 rfl q570 rfl rfl dX19_putBack_376 h (fun σ66 hτ h => ?_)
  refine gx_aload_n hX dX19_putBack_379 rfl ?_
  refine gx_aload_n hX dX19_putBack_380 rfl ?_
  refine xk_getr hX 99 q1162 (fun _ h => h) rfl dX19_putBack_381 h (fun v67 h => ?_)
  refine gx_iload_n hX dX19_putBack_384 rfl ?_
  refine xk_aaload hX 8 ⟨by decide, by decide, rfl⟩ dX19_putBack_385 h (fun v68 h => ?_)
  refine xk_putrN hX 55 xk_ty55 (Or.inl ⟨_, rfl⟩) q579 rfl rfl dX19_putBack_386 h (fun σ69 hτ h => ?_)
  refine gx_iinc (v := 1) hX dX19_putBack_389 rfl (by decide) gx_c1r (lv' := [some (va_rf (some x0)), some (.int ((x1) + 1)), some (va_rf (x2))]) rfl ?_
  refine gx_goto (tgt := 173) hX dX19_putBack_392 (by decide) ?_
  refine gx_sub hX (lv' := [some (va_rf (some x0)), some (.int ((x1) + 1)), none]) ⟨Or.inr rfl, ⟨Or.inr rfl, ⟨Or.inl rfl, trivial⟩⟩⟩ ?_
  exact hK173 _ _ h
def fX19_putBack_B349 (N : Nat) (x0 : Nat)  (K173 : xk_C → Int32 → Option (xk_C × Unit)) (σ : xk_C) (x1 : Int32) (x2 : Option Nat) (y0 : Int32) (y1 : Option Nat) : Option (xk_C × Unit) := (xk_pz (σ) 51 (y1) (y0)).bind fun σ63 => (xk_gr (σ63) 98 (some x0)).bind fun v64 => (xk_ld (σ63) 0 (v64) (((nI 7) * (x1)) + (nI 6))).bind fun v65 => if (v65) &&& (4) = 4 then fX19_putBack_B376 N x0 K173 (σ63) (x1) (x2) (1) (x2) else fX19_putBack_B376 N x0 K173 (σ63) (x1) (x2) (0) (x2)
set_option maxHeartbeats 4000000 in
theorem eX19_putBack_B349 {r : xk_C × Unit} {N : Nat} {x0 : Nat} {K173 : xk_C → Int32 → Option (xk_C × Unit)} (hL173 : ∀ (σ : xk_C) (x1 : Int32), xk_er r σ (K173 σ x1)) {σ : xk_C} {x1 : Int32} {x2 : Option Nat} {y0 : Int32} {y1 : Option Nat} : xk_er r σ (fX19_putBack_B349 N x0 K173 σ x1 x2 y0 y1) := by
  unfold fX19_putBack_B349
  exact (xk_er_op xk_e_pz (fun _ => (xk_er_rd (fun _ => (xk_er_rd (fun _ => (xk_er_ite (eX19_putBack_B376 hL173) (eX19_putBack_B376 hL173))))))))
set_option maxHeartbeats 4000000 in
theorem tX19_putBack_B349 {w : gw_W} {X : gx_X} {N : Nat} {x0 : Nat} {r : xk_C × Unit} (hX : gx_O (gw_I w (gx_A X)) X iX19_putBack 6 0 0 (xk_P (gx_A X) w r.1) (.returned none)) {K173 : xk_C → Int32 → Option (xk_C × Unit)} (hK173 : ∀ (σ : xk_C) (x1 : Int32), K173 σ x1 = some r → gx_G X (xk_P (gx_A X) w (σ)) 0 0 [some (va_rf (some x0)), some (.int (x1)), none] 173 []) {σ : xk_C} {x1 : Int32} {x2 : Option Nat} {y0 : Int32} {y1 : Option Nat} (h : fX19_putBack_B349 N x0 K173 σ x1 x2 y0 y1 = some r) : gx_G X (xk_P (gx_A X) w (σ)) 0 0 [some (va_rf (some x0)), some (.int (x1)), some (va_rf (x2))] 349 [.int (y0), va_rf (y1)] := by
  unfold fX19_putBack_B349 at h
  refine xk_putzN hX 51 xk_ty51 rfl q567 rfl rfl dX19_putBack_349 h (fun σ63 hτ h => ?_)
  refine gx_aload_n hX dX19_putBack_352 rfl ?_
  refine gx_aload_n hX dX19_putBack_353 rfl ?_
  refine xk_getr hX 98 q1161 (fun _ h => h) rfl dX19_putBack_354 h (fun v64 h => ?_)
  refine gx_bipush (v := nI 7) hX dX19_putBack_357 (by decide) ?_
  refine gx_iload_n hX dX19_putBack_359 rfl ?_
  refine gx_imul hX dX19_putBack_360 ?_
  refine gx_bipush (v := nI 6) hX dX19_putBack_361 (by decide) ?_
  refine gx_iadd hX dX19_putBack_363 ?_
  refine xk_iaload hX dX19_putBack_364 h (fun v65 h => ?_)
  refine gx_iconst (v := 4) hX dX19_putBack_365 (by decide) ?_
  refine gx_iand hX dX19_putBack_366 ?_
  refine gx_iconst (v := 4) hX dX19_putBack_367 (by decide) ?_
  refine gx_icmp_ne (tgt := 375) hX dX19_putBack_368 (by decide) h (fun h => ?_) (fun h => ?_)
  · refine gx_iconst (v := 1) hX dX19_putBack_371 (by decide) ?_
    refine gx_goto (tgt := 376) hX dX19_putBack_372 (by decide) ?_
    exact tX19_putBack_B376 hX hK173 h
  · refine gx_iconst (v := 0) hX dX19_putBack_375 (by decide) ?_
    exact tX19_putBack_B376 hX hK173 h
def fX19_putBack_B322 (N : Nat) (x0 : Nat)  (K173 : xk_C → Int32 → Option (xk_C × Unit)) (σ : xk_C) (x1 : Int32) (x2 : Option Nat) (y0 : Int32) (y1 : Option Nat) : Option (xk_C × Unit) := (xk_pz (σ) 50 (y1) (y0)).bind fun σ60 => (xk_gr (σ60) 98 (some x0)).bind fun v61 => (xk_ld (σ60) 0 (v61) (((nI 7) * (x1)) + (nI 6))).bind fun v62 => if (v62) &&& (2) = 2 then fX19_putBack_B349 N x0 K173 (σ60) (x1) (x2) (1) (x2) else fX19_putBack_B349 N x0 K173 (σ60) (x1) (x2) (0) (x2)
set_option maxHeartbeats 4000000 in
theorem eX19_putBack_B322 {r : xk_C × Unit} {N : Nat} {x0 : Nat} {K173 : xk_C → Int32 → Option (xk_C × Unit)} (hL173 : ∀ (σ : xk_C) (x1 : Int32), xk_er r σ (K173 σ x1)) {σ : xk_C} {x1 : Int32} {x2 : Option Nat} {y0 : Int32} {y1 : Option Nat} : xk_er r σ (fX19_putBack_B322 N x0 K173 σ x1 x2 y0 y1) := by
  unfold fX19_putBack_B322
  exact (xk_er_op xk_e_pz (fun _ => (xk_er_rd (fun _ => (xk_er_rd (fun _ => (xk_er_ite (eX19_putBack_B349 hL173) (eX19_putBack_B349 hL173))))))))
set_option maxHeartbeats 4000000 in
theorem tX19_putBack_B322 {w : gw_W} {X : gx_X} {N : Nat} {x0 : Nat} {r : xk_C × Unit} (hX : gx_O (gw_I w (gx_A X)) X iX19_putBack 6 0 0 (xk_P (gx_A X) w r.1) (.returned none)) {K173 : xk_C → Int32 → Option (xk_C × Unit)} (hK173 : ∀ (σ : xk_C) (x1 : Int32), K173 σ x1 = some r → gx_G X (xk_P (gx_A X) w (σ)) 0 0 [some (va_rf (some x0)), some (.int (x1)), none] 173 []) {σ : xk_C} {x1 : Int32} {x2 : Option Nat} {y0 : Int32} {y1 : Option Nat} (h : fX19_putBack_B322 N x0 K173 σ x1 x2 y0 y1 = some r) : gx_G X (xk_P (gx_A X) w (σ)) 0 0 [some (va_rf (some x0)), some (.int (x1)), some (va_rf (x2))] 322 [.int (y0), va_rf (y1)] := by
  unfold fX19_putBack_B322 at h
  refine xk_putzN hX 50 xk_ty50 rfl q564 rfl rfl dX19_putBack_322 h (fun σ60 hτ h => ?_)
  refine gx_aload_n hX dX19_putBack_325 rfl ?_
  refine gx_aload_n hX dX19_putBack_326 rfl ?_
  refine xk_getr hX 98 q1161 (fun _ h => h) rfl dX19_putBack_327 h (fun v61 h => ?_)
  refine gx_bipush (v := nI 7) hX dX19_putBack_330 (by decide) ?_
  refine gx_iload_n hX dX19_putBack_332 rfl ?_
  refine gx_imul hX dX19_putBack_333 ?_
  refine gx_bipush (v := nI 6) hX dX19_putBack_334 (by decide) ?_
  refine gx_iadd hX dX19_putBack_336 ?_
  refine xk_iaload hX dX19_putBack_337 h (fun v62 h => ?_)
  refine gx_iconst (v := 2) hX dX19_putBack_338 (by decide) ?_
  refine gx_iand hX dX19_putBack_339 ?_
  refine gx_iconst (v := 2) hX dX19_putBack_340 (by decide) ?_
  refine gx_icmp_ne (tgt := 348) hX dX19_putBack_341 (by decide) h (fun h => ?_) (fun h => ?_)
  · refine gx_iconst (v := 1) hX dX19_putBack_344 (by decide) ?_
    refine gx_goto (tgt := 349) hX dX19_putBack_345 (by decide) ?_
    exact tX19_putBack_B349 hX hK173 h
  · refine gx_iconst (v := 0) hX dX19_putBack_348 (by decide) ?_
    exact tX19_putBack_B349 hX hK173 h
def fX19_putBack_L173 (N : Nat) (x0 : Nat)   : Nat → xk_C → Int32 → Option (xk_C × Unit)
  | 0, _, _ => none
  | k + 1, σ, x1 => (xk_gi (σ) 92 (some x0)).bind fun v12 => if (v12) ≤ x1 then (xk_gr (σ) 96 (some x0)).bind fun v13 => (xk_gr (σ) 100 (some x0)).bind fun v14 => (xk_gr (σ) 7 (v14)).bind fun v15 => (xk_gr (σ) 100 (some x0)).bind fun v16 => (xk_gr (σ) 7 (v16)).bind fun v17 => (xk_al (σ) 0 (v17)).bind fun v18 => (xk_cpi (σ) (v13) (0) (v15) (0) (v18)).bind fun σ19 => (xk_gr (σ19) 100 (some x0)).bind fun v20 => (xk_gi (σ19) 93 (some x0)).bind fun v21 => (xk_pi (σ19) 4 (v20) (v21)).bind fun σ22 => (xk_gr (σ22) 100 (some x0)).bind fun v23 => (xk_gi (σ22) 94 (some x0)).bind fun v24 => (xk_pi (σ22) 5 (v23) (v24)).bind fun σ25 => (xk_gr (σ25) 100 (some x0)).bind fun v26 => (xk_gi (σ25) 95 (some x0)).bind fun v27 => (xk_pi (σ25) 6 (v26) (v27)).bind fun σ28 => some (σ28, ()) else (xk_gr (σ) 100 (some x0)).bind fun v29 => (xk_gr (σ) 3 (v29)).bind fun v30 => (xk_is (σ) 21 (v30)).bind fun b32 => (fJ2_get (b32) (σ) (x1)).bind fun r31 => (xk_ck (σ) 6 (r31)).bind fun u33 => (xk_gr (σ) 98 (some x0)).bind fun v34 => (xk_ld (σ) 0 (v34) ((nI 7) * (x1))).bind fun v35 => (xk_pi (σ) 46 (r31) (v35)).bind fun σ36 => (xk_gr (σ36) 98 (some x0)).bind fun v37 => (xk_ld (σ36) 0 (v37) (((nI 7) * (x1)) + (1))).bind fun v38 => (xk_pi (σ36) 47 (r31) (v38)).bind fun σ39 => (xk_gr (σ39) 98 (some x0)).bind fun v40 => (xk_ld (σ39) 0 (v40) (((nI 7) * (x1)) + (2))).bind fun v41 => (xk_pi (σ39) 48 (r31) (v41)).bind fun σ42 => (xk_gr (σ42) 98 (some x0)).bind fun v43 => (xk_ld (σ42) 0 (v43) (((nI 7) * (x1)) + (3))).bind fun v44 => (xk_pi (σ42) 49 (r31) (v44)).bind fun σ45 => (xk_gr (σ45) 100 (some x0)).bind fun v46 => (xk_gr (σ45) 98 (some x0)).bind fun v47 => (xk_ld (σ45) 0 (v47) (((nI 7) * (x1)) + (4))).bind fun v48 => (xk_is (σ45) 1 (v46)).bind fun b50 => (fX0_crabAt (b50) (σ45) (v48)).bind fun r49 => (xk_pr (σ45) 54 (r31) (r49)).bind fun σ51 => (xk_gr (σ51) 100 (some x0)).bind fun v52 => (xk_gr (σ51) 98 (some x0)).bind fun v53 => (xk_ld (σ51) 0 (v53) (((nI 7) * (x1)) + (5))).bind fun v54 => (xk_is (σ51) 1 (v52)).bind fun b56 => (fX0_shellAt (b56) (σ51) (v54)).bind fun r55 => (xk_pr (σ51) 53 (r31) (r55)).bind fun σ57 => (xk_gr (σ57) 98 (some x0)).bind fun v58 => (xk_ld (σ57) 0 (v58) (((nI 7) * (x1)) + (nI 6))).bind fun v59 => if (v59) &&& (1) = 1 then fX19_putBack_B322 N x0 (fX19_putBack_L173 N x0 k) (σ57) (x1) (r31) (1) (r31) else fX19_putBack_B322 N x0 (fX19_putBack_L173 N x0 k) (σ57) (x1) (r31) (0) (r31)
set_option maxHeartbeats 4000000 in
theorem eX19_putBack_L173 {r : xk_C × Unit} {N : Nat} {x0 : Nat}   : ∀ (k : Nat) (σ : xk_C) (x1 : Int32), xk_er r σ (fX19_putBack_L173 N x0 k σ x1) := by
  intro k
  induction k with
  | zero =>
    intro σ x1
    unfold fX19_putBack_L173
    exact xk_er_none
  | succ k hL173 =>
    intro σ x1
    unfold fX19_putBack_L173
    exact (xk_er_rd (fun _ => (xk_er_ite (xk_er_rd (fun _ => (xk_er_rd (fun _ => (xk_er_rd (fun _ => (xk_er_rd (fun _ => (xk_er_rd (fun _ => (xk_er_rd (fun _ => (xk_er_op xk_e_cpi (fun _ => (xk_er_rd (fun _ => (xk_er_rd (fun _ => (xk_er_op xk_e_pi (fun _ => (xk_er_rd (fun _ => (xk_er_rd (fun _ => (xk_er_op xk_e_pi (fun _ => (xk_er_rd (fun _ => (xk_er_rd (fun _ => (xk_er_op xk_e_pi (fun _ => xk_er_ret)))))))))))))))))))))))))))))))) (xk_er_rd (fun _ => (xk_er_rd (fun _ => (xk_er_rd (fun _ => (xk_er_rd (fun _ => (xk_er_rd (fun _ => (xk_er_rd (fun _ => (xk_er_rd (fun _ => (xk_er_op xk_e_pi (fun _ => (xk_er_rd (fun _ => (xk_er_rd (fun _ => (xk_er_op xk_e_pi (fun _ => (xk_er_rd (fun _ => (xk_er_rd (fun _ => (xk_er_op xk_e_pi (fun _ => (xk_er_rd (fun _ => (xk_er_rd (fun _ => (xk_er_op xk_e_pi (fun _ => (xk_er_rd (fun _ => (xk_er_rd (fun _ => (xk_er_rd (fun _ => (xk_er_rd (fun _ => (xk_er_rd (fun _ => (xk_er_op xk_e_pr (fun _ => (xk_er_rd (fun _ => (xk_er_rd (fun _ => (xk_er_rd (fun _ => (xk_er_rd (fun _ => (xk_er_rd (fun _ => (xk_er_op xk_e_pr (fun _ => (xk_er_rd (fun _ => (xk_er_rd (fun _ => (xk_er_ite (eX19_putBack_B322 hL173) (eX19_putBack_B322 hL173)))))))))))))))))))))))))))))))))))))))))))))))))))))))))))))))))))
set_option maxHeartbeats 4000000 in
theorem tX19_putBack_L173 {w : gw_W} {X : gx_X} {N : Nat} {x0 : Nat} {r : xk_C × Unit} (hX : gx_O (gw_I w (gx_A X)) X iX19_putBack 6 0 0 (xk_P (gx_A X) w r.1) (.returned none))  : ∀ (k : Nat) (σ : xk_C) (x1 : Int32), fX19_putBack_L173 N x0 k σ x1 = some r → gx_G X (xk_P (gx_A X) w (σ)) 0 0 [some (va_rf (some x0)), some (.int (x1)), none] 173 [] := by
  intro k
  induction k with
  | zero =>
    intro σ x1 h
    unfold fX19_putBack_L173 at h
    cases h
  | succ k ih =>
    intro σ x1 h
    unfold fX19_putBack_L173 at h
    refine gx_iload_n hX dX19_putBack_173 rfl ?_
    refine gx_aload_n hX dX19_putBack_174 rfl ?_
    refine xk_geti hX 92 q1155 (fun _ h => h) rfl dX19_putBack_175 h (fun v12 h => ?_)
    refine gx_icmp_ge (tgt := 395) hX dX19_putBack_178 (by decide) h (fun h => ?_) (fun h => ?_)
    · refine gx_aload_n hX dX19_putBack_395 rfl ?_
      refine xk_getr hX 96 q1159 (fun _ h => h) rfl dX19_putBack_396 h (fun v13 h => ?_)
      refine gx_iconst (v := 0) hX dX19_putBack_399 (by decide) ?_
      refine gx_aload_n hX dX19_putBack_400 rfl ?_
      refine xk_getr hX 100 q1163 (fun _ h => h) rfl dX19_putBack_401 h (fun v14 h => ?_)
      refine xk_getrN hX 7 q223 rfl dX19_putBack_404 h (fun v15 h => ?_)
      refine gx_iconst (v := 0) hX dX19_putBack_407 (by decide) ?_
      refine gx_aload_n hX dX19_putBack_408 rfl ?_
      refine xk_getr hX 100 q1163 (fun _ h => h) rfl dX19_putBack_409 h (fun v16 h => ?_)
      refine xk_getrN hX 7 q223 rfl dX19_putBack_412 h (fun v17 h => ?_)
      refine xk_alen hX 0 (by decide) dX19_putBack_415 h (fun v18 h => ?_)
      refine xk_copyi hX ⟨q1206, q422, q421, q97⟩ (by decide) (gx_w8 gx_k0 (Nat.le_of_ble_eq_true rfl)) rfl dX19_putBack_416 h (fun σ19 hτ h => ?_)
      refine gx_aload_n hX dX19_putBack_419 rfl ?_
      refine xk_getr hX 100 q1163 (fun _ h => h) rfl dX19_putBack_420 h (fun v20 h => ?_)
      refine gx_aload_n hX dX19_putBack_423 rfl ?_
      refine xk_geti hX 93 q1156 (fun _ h => h) rfl dX19_putBack_424 h (fun v21 h => ?_)
      refine xk_putiN hX 4 xk_ty4 rfl q216 rfl rfl dX19_putBack_427 h (fun σ22 hτ h => ?_)
      refine gx_aload_n hX dX19_putBack_430 rfl ?_
      refine xk_getr hX 100 q1163 (fun _ h => h) rfl dX19_putBack_431 h (fun v23 h => ?_)
      refine gx_aload_n hX dX19_putBack_434 rfl ?_
      refine xk_geti hX 94 q1157 (fun _ h => h) rfl dX19_putBack_435 h (fun v24 h => ?_)
      refine xk_putiN hX 5 xk_ty5 rfl q218 rfl rfl dX19_putBack_438 h (fun σ25 hτ h => ?_)
      refine gx_aload_n hX dX19_putBack_441 rfl ?_
      refine xk_getr hX 100 q1163 (fun _ h => h) rfl dX19_putBack_442 h (fun v26 h => ?_)
      refine gx_aload_n hX dX19_putBack_445 rfl ?_
      refine xk_geti hX 95 q1158 (fun _ h => h) rfl dX19_putBack_446 h (fun v27 h => ?_)
      refine xk_putiN hX 6 xk_ty6 rfl q221 rfl rfl dX19_putBack_449 h (fun σ28 hτ h => ?_)
      cases h
      exact gx_vret hX rfl dX19_putBack_452 rfl ⟨rfl, rfl⟩ (fun _ h => h)
    · refine gx_aload_n hX dX19_putBack_181 rfl ?_
      refine xk_getr hX 100 q1163 (fun _ h => h) rfl dX19_putBack_182 h (fun v29 h => ?_)
      refine xk_getrN hX 3 q213 rfl dX19_putBack_185 h (fun v30 h => ?_)
      refine gx_iload_n hX dX19_putBack_188 rfl ?_
      obtain ⟨b32, hb, h⟩ := gx_bs h
      obtain ⟨eb, hkb⟩ := xk_isS hb
      obtain ⟨r31, hr31, h⟩ := gx_bs h
      refine gx_cV (As := [.int (x1)]) (rest := []) (b := b32) hX (tJ2_get w (gx_A X) (gx_l X) (b32) (σ) (x1) hr31) (lw_V q1151 q434 q435 q89 q436) ⟨rfl, dsJ2_get⟩ (by decide) (Nat.le_of_ble_eq_true rfl) (xk_rc hX (ci := 20) (by decide) (by decide) hkb) (by rw [eb]; rfl) (gx_w8 gx_k0 (Nat.le_of_ble_eq_true rfl)) dX19_putBack_189 ⟨Nat.le_refl _, Nat.le_refl _⟩ rfl ?_
      refine xk_castC hX 5 ⟨by decide, by decide⟩ q1153 dX19_putBack_192 h (fun h => ?_)
      refine gx_astore_n hX dX19_putBack_195 (Nat.le_of_ble_eq_true rfl) gx_c1i (lv' := [some (va_rf (some x0)), some (.int (x1)), some (va_rf (r31))]) rfl ?_
      refine gx_aload_n hX dX19_putBack_196 rfl ?_
      refine gx_aload_n hX dX19_putBack_197 rfl ?_
      refine xk_getr hX 98 q1161 (fun _ h => h) rfl dX19_putBack_198 h (fun v34 h => ?_)
      refine gx_bipush (v := nI 7) hX dX19_putBack_201 (by decide) ?_
      refine gx_iload_n hX dX19_putBack_203 rfl ?_
      refine gx_imul hX dX19_putBack_204 ?_
      refine xk_iaload hX dX19_putBack_205 h (fun v35 h => ?_)
      refine xk_putiN hX 46 xk_ty46 rfl q552 rfl rfl dX19_putBack_206 h (fun σ36 hτ h => ?_)
      refine gx_aload_n hX dX19_putBack_209 rfl ?_
      refine gx_aload_n hX dX19_putBack_210 rfl ?_
      refine xk_getr hX 98 q1161 (fun _ h => h) rfl dX19_putBack_211 h (fun v37 h => ?_)
      refine gx_bipush (v := nI 7) hX dX19_putBack_214 (by decide) ?_
      refine gx_iload_n hX dX19_putBack_216 rfl ?_
      refine gx_imul hX dX19_putBack_217 ?_
      refine gx_iconst (v := 1) hX dX19_putBack_218 (by decide) ?_
      refine gx_iadd hX dX19_putBack_219 ?_
      refine xk_iaload hX dX19_putBack_220 h (fun v38 h => ?_)
      refine xk_putiN hX 47 xk_ty47 rfl q555 rfl rfl dX19_putBack_221 h (fun σ39 hτ h => ?_)
      refine gx_aload_n hX dX19_putBack_224 rfl ?_
      refine gx_aload_n hX dX19_putBack_225 rfl ?_
      refine xk_getr hX 98 q1161 (fun _ h => h) rfl dX19_putBack_226 h (fun v40 h => ?_)
      refine gx_bipush (v := nI 7) hX dX19_putBack_229 (by decide) ?_
      refine gx_iload_n hX dX19_putBack_231 rfl ?_
      refine gx_imul hX dX19_putBack_232 ?_
      refine gx_iconst (v := 2) hX dX19_putBack_233 (by decide) ?_
      refine gx_iadd hX dX19_putBack_234 ?_
      refine xk_iaload hX dX19_putBack_235 h (fun v41 h => ?_)
      refine xk_putiN hX 48 xk_ty48 rfl q558 rfl rfl dX19_putBack_236 h (fun σ42 hτ h => ?_)
      refine gx_aload_n hX dX19_putBack_239 rfl ?_
      refine gx_aload_n hX dX19_putBack_240 rfl ?_
      refine xk_getr hX 98 q1161 (fun _ h => h) rfl dX19_putBack_241 h (fun v43 h => ?_)
      refine gx_bipush (v := nI 7) hX dX19_putBack_244 (by decide) ?_
      refine gx_iload_n hX dX19_putBack_246 rfl ?_
      refine gx_imul hX dX19_putBack_247 ?_
      refine gx_iconst (v := 3) hX dX19_putBack_248 (by decide) ?_
      refine gx_iadd hX dX19_putBack_249 ?_
      refine xk_iaload hX dX19_putBack_250 h (fun v44 h => ?_)
      refine xk_putiN hX 49 xk_ty49 rfl q561 rfl rfl dX19_putBack_251 h (fun σ45 hτ h => ?_)
      refine gx_aload_n hX dX19_putBack_254 rfl ?_
      refine gx_aload_n hX dX19_putBack_255 rfl ?_
      refine xk_getr hX 100 q1163 (fun _ h => h) rfl dX19_putBack_256 h (fun v46 h => ?_)
      refine gx_aload_n hX dX19_putBack_259 rfl ?_
      refine xk_getr hX 98 q1161 (fun _ h => h) rfl dX19_putBack_260 h (fun v47 h => ?_)
      refine gx_bipush (v := nI 7) hX dX19_putBack_263 (by decide) ?_
      refine gx_iload_n hX dX19_putBack_265 rfl ?_
      refine gx_imul hX dX19_putBack_266 ?_
      refine gx_iconst (v := 4) hX dX19_putBack_267 (by decide) ?_
      refine gx_iadd hX dX19_putBack_268 ?_
      refine xk_iaload hX dX19_putBack_269 h (fun v48 h => ?_)
      obtain ⟨b50, hb, h⟩ := gx_bs h
      obtain ⟨eb, hkb⟩ := xk_isS hb
      obtain ⟨r49, hr49, h⟩ := gx_bs h
      refine gx_cVN (As := [.int (v48)]) (rest := [va_rf (r31)]) (b := b50) hX (tX0_crabAt w (gx_A X) (gx_l X) (b50) (σ45) (v48) hr49) (lw_meth q625) (hX.2.2.2.2.2.2.2.1.2.1 _ (gw_xq q1203 rfl)) ⟨q86, q624, qs4⟩ dsX0_crabAt (by decide) (Nat.le_of_ble_eq_true rfl) (xk_rc hX (ci := 0) (by decide) (by decide) hkb) (by rw [eb]; rfl) (gx_w8 (gx_kR gx_k0) (Nat.le_of_ble_eq_true rfl)) dX19_putBack_270 ⟨Nat.le_refl _, Nat.le_refl _⟩ rfl ?_
      refine xk_putrN hX 54 xk_ty54 (Or.inl ⟨_, rfl⟩) q576 rfl rfl dX19_putBack_273 h (fun σ51 hτ h => ?_)
      refine gx_aload_n hX dX19_putBack_276 rfl ?_
      refine gx_aload_n hX dX19_putBack_277 rfl ?_
      refine xk_getr hX 100 q1163 (fun _ h => h) rfl dX19_putBack_278 h (fun v52 h => ?_)
      refine gx_aload_n hX dX19_putBack_281 rfl ?_
      refine xk_getr hX 98 q1161 (fun _ h => h) rfl dX19_putBack_282 h (fun v53 h => ?_)
      refine gx_bipush (v := nI 7) hX dX19_putBack_285 (by decide) ?_
      refine gx_iload_n hX dX19_putBack_287 rfl ?_
      refine gx_imul hX dX19_putBack_288 ?_
      refine gx_iconst (v := 5) hX dX19_putBack_289 (by decide) ?_
      refine gx_iadd hX dX19_putBack_290 ?_
      refine xk_iaload hX dX19_putBack_291 h (fun v54 h => ?_)
      obtain ⟨b56, hb, h⟩ := gx_bs h
      obtain ⟨eb, hkb⟩ := xk_isS hb
      obtain ⟨r55, hr55, h⟩ := gx_bs h
      refine gx_cVN (As := [.int (v54)]) (rest := [va_rf (r31)]) (b := b56) hX (tX0_shellAt w (gx_A X) (gx_l X) (b56) (σ51) (v54) hr55) (lw_meth q432) (hX.2.2.2.2.2.2.2.1.2.1 _ (gw_xq q1205 rfl)) ⟨q86, q431, qs3⟩ dsX0_shellAt (by decide) (Nat.le_of_ble_eq_true rfl) (xk_rc hX (ci := 0) (by decide) (by decide) hkb) (by rw [eb]; rfl) (gx_w8 (gx_kR gx_k0) (Nat.le_of_ble_eq_true rfl)) dX19_putBack_292 ⟨Nat.le_refl _, Nat.le_refl _⟩ rfl ?_
      refine xk_putrN hX 53 xk_ty53 (Or.inl ⟨_, rfl⟩) q573 rfl rfl dX19_putBack_295 h (fun σ57 hτ h => ?_)
      refine gx_aload_n hX dX19_putBack_298 rfl ?_
      refine gx_aload_n hX dX19_putBack_299 rfl ?_
      refine xk_getr hX 98 q1161 (fun _ h => h) rfl dX19_putBack_300 h (fun v58 h => ?_)
      refine gx_bipush (v := nI 7) hX dX19_putBack_303 (by decide) ?_
      refine gx_iload_n hX dX19_putBack_305 rfl ?_
      refine gx_imul hX dX19_putBack_306 ?_
      refine gx_bipush (v := nI 6) hX dX19_putBack_307 (by decide) ?_
      refine gx_iadd hX dX19_putBack_309 ?_
      refine xk_iaload hX dX19_putBack_310 h (fun v59 h => ?_)
      refine gx_iconst (v := 1) hX dX19_putBack_311 (by decide) ?_
      refine gx_iand hX dX19_putBack_312 ?_
      refine gx_iconst (v := 1) hX dX19_putBack_313 (by decide) ?_
      refine gx_icmp_ne (tgt := 321) hX dX19_putBack_314 (by decide) h (fun h => ?_) (fun h => ?_)
      · refine gx_iconst (v := 1) hX dX19_putBack_317 (by decide) ?_
        refine gx_goto (tgt := 322) hX dX19_putBack_318 (by decide) ?_
        exact tX19_putBack_B322 hX ih h
      · refine gx_iconst (v := 0) hX dX19_putBack_321 (by decide) ?_
        exact tX19_putBack_B322 hX ih h
def fX19_putBack_L88 (N : Nat) (x0 : Nat)   : Nat → xk_C → Int32 → Option (xk_C × Unit)
  | 0, _, _ => none
  | k + 1, σ, x1 => (xk_gi (σ) 91 (some x0)).bind fun v11 => if (v11) ≤ x1 then fX19_putBack_L173 N x0 N (σ) (0) else (xk_gr (σ) 100 (some x0)).bind fun v70 => (xk_gr (σ) 0 (v70)).bind fun v71 => (xk_is (σ) 21 (v71)).bind fun b73 => (fJ2_get (b73) (σ) (x1)).bind fun r72 => (xk_ck (σ) 5 (r72)).bind fun u74 => (xk_gr (σ) 97 (some x0)).bind fun v75 => (xk_ld (σ) 0 (v75) ((3) * (x1))).bind fun v76 => (xk_pi (σ) 41 (r72) (v76)).bind fun σ77 => (xk_gr (σ77) 100 (some x0)).bind fun v78 => (xk_gr (σ77) 0 (v78)).bind fun v79 => (xk_is (σ77) 21 (v79)).bind fun b81 => (fJ2_get (b81) (σ77) (x1)).bind fun r80 => (xk_ck (σ77) 5 (r80)).bind fun u82 => (xk_gr (σ77) 97 (some x0)).bind fun v83 => (xk_ld (σ77) 0 (v83) (((3) * (x1)) + (1))).bind fun v84 => (xk_gr (σ77) 100 (some x0)).bind fun v85 => (xk_gr (σ77) 97 (some x0)).bind fun v86 => (xk_ld (σ77) 0 (v86) (((3) * (x1)) + (2))).bind fun v87 => (xk_is (σ77) 1 (v85)).bind fun b89 => (fX0_crabAt (b89) (σ77) (v87)).bind fun r88 => (xk_is (σ77) 5 (r80)).bind fun b91 => (fX4_become (b91) (σ77) (v84) (r88)).bind fun r90 => (fX19_putBack_L88 N x0 k) (r90.1) ((x1) + 1)
set_option maxHeartbeats 4000000 in
theorem eX19_putBack_L88 {r : xk_C × Unit} {N : Nat} {x0 : Nat}   : ∀ (k : Nat) (σ : xk_C) (x1 : Int32), xk_er r σ (fX19_putBack_L88 N x0 k σ x1) := by
  intro k
  induction k with
  | zero =>
    intro σ x1
    unfold fX19_putBack_L88
    exact xk_er_none
  | succ k hL88 =>
    intro σ x1
    unfold fX19_putBack_L88
    exact (xk_er_rd (fun _ => (xk_er_ite (eX19_putBack_L173  N _ _) (xk_er_rd (fun _ => (xk_er_rd (fun _ => (xk_er_rd (fun _ => (xk_er_rd (fun _ => (xk_er_rd (fun _ => (xk_er_rd (fun _ => (xk_er_rd (fun _ => (xk_er_op xk_e_pi (fun _ => (xk_er_rd (fun _ => (xk_er_rd (fun _ => (xk_er_rd (fun _ => (xk_er_rd (fun _ => (xk_er_rd (fun _ => (xk_er_rd (fun _ => (xk_er_rd (fun _ => (xk_er_rd (fun _ => (xk_er_rd (fun _ => (xk_er_rd (fun _ => (xk_er_rd (fun _ => (xk_er_rd (fun _ => (xk_er_rd (fun _ => (xk_er_ca (eX4_become) (fun _ => (hL88 _ _))))))))))))))))))))))))))))))))))))))))))))))))
set_option maxHeartbeats 4000000 in
theorem tX19_putBack_L88 {w : gw_W} {X : gx_X} {N : Nat} {x0 : Nat} {r : xk_C × Unit} (hX : gx_O (gw_I w (gx_A X)) X iX19_putBack 6 0 0 (xk_P (gx_A X) w r.1) (.returned none))  : ∀ (k : Nat) (σ : xk_C) (x1 : Int32), fX19_putBack_L88 N x0 k σ x1 = some r → gx_G X (xk_P (gx_A X) w (σ)) 0 0 [some (va_rf (some x0)), some (.int (x1)), none] 88 [] := by
  intro k
  induction k with
  | zero =>
    intro σ x1 h
    unfold fX19_putBack_L88 at h
    cases h
  | succ k ih =>
    intro σ x1 h
    unfold fX19_putBack_L88 at h
    refine gx_iload_n hX dX19_putBack_88 rfl ?_
    refine gx_aload_n hX dX19_putBack_89 rfl ?_
    refine xk_geti hX 91 q1154 (fun _ h => h) rfl dX19_putBack_90 h (fun v11 h => ?_)
    refine gx_icmp_ge (tgt := 171) hX dX19_putBack_93 (by decide) h (fun h => ?_) (fun h => ?_)
    · refine gx_iconst (v := 0) hX dX19_putBack_171 (by decide) ?_
      refine gx_istore_n hX dX19_putBack_172 (Nat.le_of_ble_eq_true rfl) gx_c1r (lv' := [some (va_rf (some x0)), some (.int (0)), none]) rfl ?_
      exact tX19_putBack_L173 hX  N _ _ h
    · refine gx_aload_n hX dX19_putBack_96 rfl ?_
      refine xk_getr hX 100 q1163 (fun _ h => h) rfl dX19_putBack_97 h (fun v70 h => ?_)
      refine xk_getrN hX 0 q208 rfl dX19_putBack_100 h (fun v71 h => ?_)
      refine gx_iload_n hX dX19_putBack_103 rfl ?_
      obtain ⟨b73, hb, h⟩ := gx_bs h
      obtain ⟨eb, hkb⟩ := xk_isS hb
      obtain ⟨r72, hr72, h⟩ := gx_bs h
      refine gx_cV (As := [.int (x1)]) (rest := []) (b := b73) hX (tJ2_get w (gx_A X) (gx_l X) (b73) (σ) (x1) hr72) (lw_V q1151 q434 q435 q89 q436) ⟨rfl, dsJ2_get⟩ (by decide) (Nat.le_of_ble_eq_true rfl) (xk_rc hX (ci := 20) (by decide) (by decide) hkb) (by rw [eb]; rfl) (gx_w8 gx_k0 (Nat.le_of_ble_eq_true rfl)) dX19_putBack_104 ⟨Nat.le_refl _, Nat.le_refl _⟩ rfl ?_
      refine xk_castC hX 4 ⟨by decide, by decide⟩ q1152 dX19_putBack_107 h (fun h => ?_)
      refine gx_aload_n hX dX19_putBack_110 rfl ?_
      refine xk_getr hX 97 q1160 (fun _ h => h) rfl dX19_putBack_111 h (fun v75 h => ?_)
      refine gx_iconst (v := 3) hX dX19_putBack_114 (by decide) ?_
      refine gx_iload_n hX dX19_putBack_115 rfl ?_
      refine gx_imul hX dX19_putBack_116 ?_
      refine xk_iaload hX dX19_putBack_117 h (fun v76 h => ?_)
      refine xk_putiN hX 41 xk_ty41 rfl q333 rfl rfl dX19_putBack_118 h (fun σ77 hτ h => ?_)
      refine gx_aload_n hX dX19_putBack_121 rfl ?_
      refine xk_getr hX 100 q1163 (fun _ h => h) rfl dX19_putBack_122 h (fun v78 h => ?_)
      refine xk_getrN hX 0 q208 rfl dX19_putBack_125 h (fun v79 h => ?_)
      refine gx_iload_n hX dX19_putBack_128 rfl ?_
      obtain ⟨b81, hb, h⟩ := gx_bs h
      obtain ⟨eb, hkb⟩ := xk_isS hb
      obtain ⟨r80, hr80, h⟩ := gx_bs h
      refine gx_cV (As := [.int (x1)]) (rest := []) (b := b81) hX (tJ2_get w (gx_A X) (gx_l X) (b81) (σ77) (x1) hr80) (lw_V q1151 q434 q435 q89 q436) ⟨rfl, dsJ2_get⟩ (by decide) (Nat.le_of_ble_eq_true rfl) (xk_rc hX (ci := 20) (by decide) (by decide) hkb) (by rw [eb]; rfl) (gx_w8 gx_k0 (Nat.le_of_ble_eq_true rfl)) dX19_putBack_129 ⟨Nat.le_refl _, Nat.le_refl _⟩ rfl ?_
      refine xk_castC hX 4 ⟨by decide, by decide⟩ q1152 dX19_putBack_132 h (fun h => ?_)
      refine gx_aload_n hX dX19_putBack_135 rfl ?_
      refine xk_getr hX 97 q1160 (fun _ h => h) rfl dX19_putBack_136 h (fun v83 h => ?_)
      refine gx_iconst (v := 3) hX dX19_putBack_139 (by decide) ?_
      refine gx_iload_n hX dX19_putBack_140 rfl ?_
      refine gx_imul hX dX19_putBack_141 ?_
      refine gx_iconst (v := 1) hX dX19_putBack_142 (by decide) ?_
      refine gx_iadd hX dX19_putBack_143 ?_
      refine xk_iaload hX dX19_putBack_144 h (fun v84 h => ?_)
      refine gx_aload_n hX dX19_putBack_145 rfl ?_
      refine xk_getr hX 100 q1163 (fun _ h => h) rfl dX19_putBack_146 h (fun v85 h => ?_)
      refine gx_aload_n hX dX19_putBack_149 rfl ?_
      refine xk_getr hX 97 q1160 (fun _ h => h) rfl dX19_putBack_150 h (fun v86 h => ?_)
      refine gx_iconst (v := 3) hX dX19_putBack_153 (by decide) ?_
      refine gx_iload_n hX dX19_putBack_154 rfl ?_
      refine gx_imul hX dX19_putBack_155 ?_
      refine gx_iconst (v := 2) hX dX19_putBack_156 (by decide) ?_
      refine gx_iadd hX dX19_putBack_157 ?_
      refine xk_iaload hX dX19_putBack_158 h (fun v87 h => ?_)
      obtain ⟨b89, hb, h⟩ := gx_bs h
      obtain ⟨eb, hkb⟩ := xk_isS hb
      obtain ⟨r88, hr88, h⟩ := gx_bs h
      refine gx_cVN (As := [.int (v87)]) (rest := [.int (v84), va_rf (r80)]) (b := b89) hX (tX0_crabAt w (gx_A X) (gx_l X) (b89) (σ77) (v87) hr88) (lw_meth q625) (hX.2.2.2.2.2.2.2.1.2.1 _ (gw_xq q1203 rfl)) ⟨q86, q624, qs4⟩ dsX0_crabAt (by decide) (Nat.le_of_ble_eq_true rfl) (xk_rc hX (ci := 0) (by decide) (by decide) hkb) (by rw [eb]; rfl) (gx_w8 (gx_kI (gx_kR gx_k0)) (Nat.le_of_ble_eq_true rfl)) dX19_putBack_159 ⟨Nat.le_refl _, Nat.le_refl _⟩ rfl ?_
      obtain ⟨b91, hb, h⟩ := gx_bs h
      obtain ⟨eb, hkb⟩ := xk_isS hb
      obtain ⟨r90, hr90, h⟩ := gx_bs h
      refine gx_cV (As := [.int (v84), va_rf (r88)]) (rest := []) (b := b91) hX (tX4_become w (gx_A X) (gx_l X) (b91) (σ77) (v84) (r88) hr90) (lw_V q1204 q615 q616 q93 q617) ⟨rfl, dsX4_become⟩ (by decide) (Nat.le_of_ble_eq_true rfl) (xk_rc hX (ci := 4) (by decide) (by decide) hkb) (by rw [eb]; rfl) (gx_w8 gx_k0 (Nat.le_of_ble_eq_true rfl)) dX19_putBack_162 ⟨Nat.le_refl _, Nat.le_refl _⟩ rfl ?_
      refine gx_iinc (v := 1) hX dX19_putBack_165 rfl (by decide) gx_c1r (lv' := [some (va_rf (some x0)), some (.int ((x1) + 1)), none]) rfl ?_
      refine gx_goto (tgt := 88) hX dX19_putBack_168 (by decide) ?_
      exact ih _ _ h
def fX19_putBack_L43 (N : Nat) (x0 : Nat)   : Nat → xk_C → Option (xk_C × Unit)
  | 0, _ => none
  | k + 1, σ => (xk_gr (σ) 100 (some x0)).bind fun v6 => (xk_gr (σ) 0 (v6)).bind fun v7 => (xk_is (σ) 21 (v7)).bind fun b9 => (fJ2_size (b9) (σ)).bind fun r8 => (xk_gi (σ) 91 (some x0)).bind fun v10 => if (r8) ≤ v10 then fX19_putBack_L88 N x0 N (σ) (0) else (xk_gr (σ) 100 (some x0)).bind fun v92 => (xk_gr (σ) 0 (v92)).bind fun v93 => (xk_gr (σ) 100 (some x0)).bind fun v94 => (xk_gr (σ) 0 (v94)).bind fun v95 => (xk_is (σ) 21 (v95)).bind fun b97 => (fJ2_size (b97) (σ)).bind fun r96 => (xk_is (σ) 21 (v93)).bind fun b99 => (fJ2_remove (b99) (σ) ((r96) - (1))).bind fun r98 => (fX19_putBack_L43 N x0 k) (r98.1)
set_option maxHeartbeats 4000000 in
theorem eX19_putBack_L43 {r : xk_C × Unit} {N : Nat} {x0 : Nat}   : ∀ (k : Nat) (σ : xk_C), xk_er r σ (fX19_putBack_L43 N x0 k σ) := by
  intro k
  induction k with
  | zero =>
    intro σ
    unfold fX19_putBack_L43
    exact xk_er_none
  | succ k hL43 =>
    intro σ
    unfold fX19_putBack_L43
    exact (xk_er_rd (fun _ => (xk_er_rd (fun _ => (xk_er_rd (fun _ => (xk_er_rd (fun _ => (xk_er_rd (fun _ => (xk_er_ite (eX19_putBack_L88  N _ _) (xk_er_rd (fun _ => (xk_er_rd (fun _ => (xk_er_rd (fun _ => (xk_er_rd (fun _ => (xk_er_rd (fun _ => (xk_er_rd (fun _ => (xk_er_rd (fun _ => (xk_er_ca (eJ2_remove) (fun _ => (hL43 _))))))))))))))))))))))))))))
set_option maxHeartbeats 4000000 in
theorem tX19_putBack_L43 {w : gw_W} {X : gx_X} {N : Nat} {x0 : Nat} {r : xk_C × Unit} (hX : gx_O (gw_I w (gx_A X)) X iX19_putBack 6 0 0 (xk_P (gx_A X) w r.1) (.returned none))  : ∀ (k : Nat) (σ : xk_C), fX19_putBack_L43 N x0 k σ = some r → gx_G X (xk_P (gx_A X) w (σ)) 0 0 [some (va_rf (some x0)), none, none] 43 [] := by
  intro k
  induction k with
  | zero =>
    intro σ h
    unfold fX19_putBack_L43 at h
    cases h
  | succ k ih =>
    intro σ h
    unfold fX19_putBack_L43 at h
    refine gx_aload_n hX dX19_putBack_43 rfl ?_
    refine xk_getr hX 100 q1163 (fun _ h => h) rfl dX19_putBack_44 h (fun v6 h => ?_)
    refine xk_getrN hX 0 q208 rfl dX19_putBack_47 h (fun v7 h => ?_)
    obtain ⟨b9, hb, h⟩ := gx_bs h
    obtain ⟨eb, hkb⟩ := xk_isS hb
    obtain ⟨r8, hr8, h⟩ := gx_bs h
    refine gx_cV (As := []) (rest := []) (b := b9) hX (tJ2_size w (gx_A X) (gx_l X) (b9) (σ)  hr8) (lw_V q1141 q315 q316 q89 q317) ⟨rfl, dsJ2_size⟩ (by decide) (Nat.le_of_ble_eq_true rfl) (xk_rc hX (ci := 20) (by decide) (by decide) hkb) (by rw [eb]; rfl) (gx_w8 gx_k0 (Nat.le_of_ble_eq_true rfl)) dX19_putBack_50 ⟨Nat.le_refl _, Nat.le_refl _⟩ rfl ?_
    refine gx_aload_n hX dX19_putBack_53 rfl ?_
    refine xk_geti hX 91 q1154 (fun _ h => h) rfl dX19_putBack_54 h (fun v10 h => ?_)
    refine gx_icmp_le (tgt := 86) hX dX19_putBack_57 (by decide) h (fun h => ?_) (fun h => ?_)
    · refine gx_iconst (v := 0) hX dX19_putBack_86 (by decide) ?_
      refine gx_istore_n hX dX19_putBack_87 (Nat.le_of_ble_eq_true rfl) gx_c1r (lv' := [some (va_rf (some x0)), some (.int (0)), none]) rfl ?_
      exact tX19_putBack_L88 hX  N _ _ h
    · refine gx_aload_n hX dX19_putBack_60 rfl ?_
      refine xk_getr hX 100 q1163 (fun _ h => h) rfl dX19_putBack_61 h (fun v92 h => ?_)
      refine xk_getrN hX 0 q208 rfl dX19_putBack_64 h (fun v93 h => ?_)
      refine gx_aload_n hX dX19_putBack_67 rfl ?_
      refine xk_getr hX 100 q1163 (fun _ h => h) rfl dX19_putBack_68 h (fun v94 h => ?_)
      refine xk_getrN hX 0 q208 rfl dX19_putBack_71 h (fun v95 h => ?_)
      obtain ⟨b97, hb, h⟩ := gx_bs h
      obtain ⟨eb, hkb⟩ := xk_isS hb
      obtain ⟨r96, hr96, h⟩ := gx_bs h
      refine gx_cV (As := []) (rest := [va_rf (v93)]) (b := b97) hX (tJ2_size w (gx_A X) (gx_l X) (b97) (σ)  hr96) (lw_V q1141 q315 q316 q89 q317) ⟨rfl, dsJ2_size⟩ (by decide) (Nat.le_of_ble_eq_true rfl) (xk_rc hX (ci := 20) (by decide) (by decide) hkb) (by rw [eb]; rfl) (gx_w8 (gx_kR gx_k0) (Nat.le_of_ble_eq_true rfl)) dX19_putBack_74 ⟨Nat.le_refl _, Nat.le_refl _⟩ rfl ?_
      refine gx_iconst (v := 1) hX dX19_putBack_77 (by decide) ?_
      refine gx_isub hX dX19_putBack_78 ?_
      obtain ⟨b99, hb, h⟩ := gx_bs h
      obtain ⟨eb, hkb⟩ := xk_isS hb
      obtain ⟨r98, hr98, h⟩ := gx_bs h
      refine gx_cV (As := [.int ((r96) - (1))]) (rest := []) (b := b99) hX (tJ2_remove w (gx_A X) (gx_l X) (b99) (σ) ((r96) - (1)) hr98) (lw_V q1194 q1195 q1196 q89 q1197) ⟨rfl, dsJ2_remove⟩ (by decide) (Nat.le_of_ble_eq_true rfl) (xk_rc hX (ci := 20) (by decide) (by decide) hkb) (by rw [eb]; rfl) (gx_w8 gx_k0 (Nat.le_of_ble_eq_true rfl)) dX19_putBack_79 ⟨Nat.le_refl _, Nat.le_refl _⟩ rfl ?_
      refine gx_pop hX dX19_putBack_82 (gx_cat _) ?_
      refine gx_goto (tgt := 43) hX dX19_putBack_83 (by decide) ?_
      exact ih _ h
def fX19_putBack_L0 (N : Nat) (x0 : Nat)   : Nat → xk_C → Option (xk_C × Unit)
  | 0, _ => none
  | k + 1, σ => (xk_gr (σ) 100 (some x0)).bind fun v108 => (xk_gr (σ) 3 (v108)).bind fun v109 => (xk_is (σ) 21 (v109)).bind fun b111 => (fJ2_size (b111) (σ)).bind fun r110 => (xk_gi (σ) 92 (some x0)).bind fun v112 => if (r110) ≤ v112 then fX19_putBack_L43 N x0 N (σ) else (xk_gr (σ) 100 (some x0)).bind fun v113 => (xk_gr (σ) 3 (v113)).bind fun v114 => (xk_gr (σ) 100 (some x0)).bind fun v115 => (xk_gr (σ) 3 (v115)).bind fun v116 => (xk_is (σ) 21 (v116)).bind fun b118 => (fJ2_size (b118) (σ)).bind fun r117 => (xk_is (σ) 21 (v114)).bind fun b120 => (fJ2_remove (b120) (σ) ((r117) - (1))).bind fun r119 => (fX19_putBack_L0 N x0 k) (r119.1)
set_option maxHeartbeats 4000000 in
theorem eX19_putBack_L0 {r : xk_C × Unit} {N : Nat} {x0 : Nat}   : ∀ (k : Nat) (σ : xk_C), xk_er r σ (fX19_putBack_L0 N x0 k σ) := by
  intro k
  induction k with
  | zero =>
    intro σ
    unfold fX19_putBack_L0
    exact xk_er_none
  | succ k hL0 =>
    intro σ
    unfold fX19_putBack_L0
    exact (xk_er_rd (fun _ => (xk_er_rd (fun _ => (xk_er_rd (fun _ => (xk_er_rd (fun _ => (xk_er_rd (fun _ => (xk_er_ite (eX19_putBack_L43  N _) (xk_er_rd (fun _ => (xk_er_rd (fun _ => (xk_er_rd (fun _ => (xk_er_rd (fun _ => (xk_er_rd (fun _ => (xk_er_rd (fun _ => (xk_er_rd (fun _ => (xk_er_ca (eJ2_remove) (fun _ => (hL0 _))))))))))))))))))))))))))))
set_option maxHeartbeats 4000000 in
theorem tX19_putBack_L0 {w : gw_W} {X : gx_X} {N : Nat} {x0 : Nat} {r : xk_C × Unit} (hX : gx_O (gw_I w (gx_A X)) X iX19_putBack 6 0 0 (xk_P (gx_A X) w r.1) (.returned none))  : ∀ (k : Nat) (σ : xk_C), fX19_putBack_L0 N x0 k σ = some r → gx_G X (xk_P (gx_A X) w (σ)) 0 0 [some (va_rf (some x0)), none, none] 0 [] := by
  intro k
  induction k with
  | zero =>
    intro σ h
    unfold fX19_putBack_L0 at h
    cases h
  | succ k ih =>
    intro σ h
    unfold fX19_putBack_L0 at h
    refine gx_aload_n hX dX19_putBack_0 rfl ?_
    refine xk_getr hX 100 q1163 (fun _ h => h) rfl dX19_putBack_1 h (fun v108 h => ?_)
    refine xk_getrN hX 3 q213 rfl dX19_putBack_4 h (fun v109 h => ?_)
    obtain ⟨b111, hb, h⟩ := gx_bs h
    obtain ⟨eb, hkb⟩ := xk_isS hb
    obtain ⟨r110, hr110, h⟩ := gx_bs h
    refine gx_cV (As := []) (rest := []) (b := b111) hX (tJ2_size w (gx_A X) (gx_l X) (b111) (σ)  hr110) (lw_V q1141 q315 q316 q89 q317) ⟨rfl, dsJ2_size⟩ (by decide) (Nat.le_of_ble_eq_true rfl) (xk_rc hX (ci := 20) (by decide) (by decide) hkb) (by rw [eb]; rfl) (gx_w8 gx_k0 (Nat.le_of_ble_eq_true rfl)) dX19_putBack_7 ⟨Nat.le_refl _, Nat.le_refl _⟩ rfl ?_
    refine gx_aload_n hX dX19_putBack_10 rfl ?_
    refine xk_geti hX 92 q1155 (fun _ h => h) rfl dX19_putBack_11 h (fun v112 h => ?_)
    refine gx_icmp_le (tgt := 43) hX dX19_putBack_14 (by decide) h (fun h => ?_) (fun h => ?_)
    · exact tX19_putBack_L43 hX  N _ h
    · refine gx_aload_n hX dX19_putBack_17 rfl ?_
      refine xk_getr hX 100 q1163 (fun _ h => h) rfl dX19_putBack_18 h (fun v113 h => ?_)
      refine xk_getrN hX 3 q213 rfl dX19_putBack_21 h (fun v114 h => ?_)
      refine gx_aload_n hX dX19_putBack_24 rfl ?_
      refine xk_getr hX 100 q1163 (fun _ h => h) rfl dX19_putBack_25 h (fun v115 h => ?_)
      refine xk_getrN hX 3 q213 rfl dX19_putBack_28 h (fun v116 h => ?_)
      obtain ⟨b118, hb, h⟩ := gx_bs h
      obtain ⟨eb, hkb⟩ := xk_isS hb
      obtain ⟨r117, hr117, h⟩ := gx_bs h
      refine gx_cV (As := []) (rest := [va_rf (v114)]) (b := b118) hX (tJ2_size w (gx_A X) (gx_l X) (b118) (σ)  hr117) (lw_V q1141 q315 q316 q89 q317) ⟨rfl, dsJ2_size⟩ (by decide) (Nat.le_of_ble_eq_true rfl) (xk_rc hX (ci := 20) (by decide) (by decide) hkb) (by rw [eb]; rfl) (gx_w8 (gx_kR gx_k0) (Nat.le_of_ble_eq_true rfl)) dX19_putBack_31 ⟨Nat.le_refl _, Nat.le_refl _⟩ rfl ?_
      refine gx_iconst (v := 1) hX dX19_putBack_34 (by decide) ?_
      refine gx_isub hX dX19_putBack_35 ?_
      obtain ⟨b120, hb, h⟩ := gx_bs h
      obtain ⟨eb, hkb⟩ := xk_isS hb
      obtain ⟨r119, hr119, h⟩ := gx_bs h
      refine gx_cV (As := [.int ((r117) - (1))]) (rest := []) (b := b120) hX (tJ2_remove w (gx_A X) (gx_l X) (b120) (σ) ((r117) - (1)) hr119) (lw_V q1194 q1195 q1196 q89 q1197) ⟨rfl, dsJ2_remove⟩ (by decide) (Nat.le_of_ble_eq_true rfl) (xk_rc hX (ci := 20) (by decide) (by decide) hkb) (by rw [eb]; rfl) (gx_w8 gx_k0 (Nat.le_of_ble_eq_true rfl)) dX19_putBack_36 ⟨Nat.le_refl _, Nat.le_refl _⟩ rfl ?_
      refine gx_pop hX dX19_putBack_39 (gx_cat _) ?_
      refine gx_goto (tgt := 0) hX dX19_putBack_40 (by decide) ?_
      exact ih _ h
def fX19_putBack (N : Nat) (x0 : Nat) (σ : xk_C)  : Option (xk_C × Unit) := (xk_gr (σ) 100 (some x0)).bind fun v1 => (xk_gr (σ) 3 (v1)).bind fun v2 => (xk_is (σ) 21 (v2)).bind fun b4 => (fJ2_size (b4) (σ)).bind fun r3 => (xk_gi (σ) 92 (some x0)).bind fun v5 => if (r3) ≤ v5 then fX19_putBack_L43 N x0 N (σ) else (xk_gr (σ) 100 (some x0)).bind fun v100 => (xk_gr (σ) 3 (v100)).bind fun v101 => (xk_gr (σ) 100 (some x0)).bind fun v102 => (xk_gr (σ) 3 (v102)).bind fun v103 => (xk_is (σ) 21 (v103)).bind fun b105 => (fJ2_size (b105) (σ)).bind fun r104 => (xk_is (σ) 21 (v101)).bind fun b107 => (fJ2_remove (b107) (σ) ((r104) - (1))).bind fun r106 => fX19_putBack_L0 N x0 N (r106.1)
set_option maxHeartbeats 4000000 in
theorem eX19_putBack {N : Nat} {x0 : Nat} {σ : xk_C}  : ∀ p, fX19_putBack N x0 σ = some p → xk_n p.1 = xk_n σ ∧ xk_s p.1 = xk_s σ := fun r => show xk_er r σ (fX19_putBack N x0 σ) from by
  unfold fX19_putBack
  exact (xk_er_rd (fun _ => (xk_er_rd (fun _ => (xk_er_rd (fun _ => (xk_er_rd (fun _ => (xk_er_rd (fun _ => (xk_er_ite (eX19_putBack_L43  N _) (xk_er_rd (fun _ => (xk_er_rd (fun _ => (xk_er_rd (fun _ => (xk_er_rd (fun _ => (xk_er_rd (fun _ => (xk_er_rd (fun _ => (xk_er_rd (fun _ => (xk_er_ca (eJ2_remove) (fun _ => (eX19_putBack_L0  N _))))))))))))))))))))))))))))
theorem mX19_putBack {N : Nat} {x0 : Nat} {σ : xk_C}  : ∀ p, fX19_putBack N x0 σ = some p → xk_n σ ≤ xk_n p.1 ∧ xk_s σ ≤ xk_s p.1 := fun p h => xk_le_of (eX19_putBack p h)
set_option maxHeartbeats 4000000 in
theorem tX19_putBack (w : gw_W) (A : Nat → Prop) (l : Launch) (N : Nat) (x0 : Nat) (σ : xk_C)  {r : xk_C × Unit} (h : fX19_putBack N x0 σ = some r) : gx_T (gw_I w A) A l yX19_putBack iX19_putBack 6 [va_rf (some x0)] (xk_P A w σ) 0 0 (xk_P A w r.1) (.returned none) := by
  refine gx_T.of (gw_I.inv w A) (by decide) ⟨rfl, rfl⟩ (gx_kR gx_k0) (Nat.le_of_ble_eq_true rfl) (fun X hl hAx hX => ?_)
  subst hl
  subst hAx
  show gx_G X (xk_P (gx_A X) w (σ)) 0 0 [some (va_rf (some x0)), none, none] 0 []
  unfold fX19_putBack at h
  refine gx_aload_n hX dX19_putBack_0 rfl ?_
  refine xk_getr hX 100 q1163 (fun _ h => h) rfl dX19_putBack_1 h (fun v1 h => ?_)
  refine xk_getrN hX 3 q213 rfl dX19_putBack_4 h (fun v2 h => ?_)
  obtain ⟨b4, hb, h⟩ := gx_bs h
  obtain ⟨eb, hkb⟩ := xk_isS hb
  obtain ⟨r3, hr3, h⟩ := gx_bs h
  refine gx_cV (As := []) (rest := []) (b := b4) hX (tJ2_size w (gx_A X) (gx_l X) (b4) (σ)  hr3) (lw_V q1141 q315 q316 q89 q317) ⟨rfl, dsJ2_size⟩ (by decide) (Nat.le_of_ble_eq_true rfl) (xk_rc hX (ci := 20) (by decide) (by decide) hkb) (by rw [eb]; rfl) (gx_w8 gx_k0 (Nat.le_of_ble_eq_true rfl)) dX19_putBack_7 ⟨Nat.le_refl _, Nat.le_refl _⟩ rfl ?_
  refine gx_aload_n hX dX19_putBack_10 rfl ?_
  refine xk_geti hX 92 q1155 (fun _ h => h) rfl dX19_putBack_11 h (fun v5 h => ?_)
  refine gx_icmp_le (tgt := 43) hX dX19_putBack_14 (by decide) h (fun h => ?_) (fun h => ?_)
  · exact tX19_putBack_L43 hX  N _ h
  · refine gx_aload_n hX dX19_putBack_17 rfl ?_
    refine xk_getr hX 100 q1163 (fun _ h => h) rfl dX19_putBack_18 h (fun v100 h => ?_)
    refine xk_getrN hX 3 q213 rfl dX19_putBack_21 h (fun v101 h => ?_)
    refine gx_aload_n hX dX19_putBack_24 rfl ?_
    refine xk_getr hX 100 q1163 (fun _ h => h) rfl dX19_putBack_25 h (fun v102 h => ?_)
    refine xk_getrN hX 3 q213 rfl dX19_putBack_28 h (fun v103 h => ?_)
    obtain ⟨b105, hb, h⟩ := gx_bs h
    obtain ⟨eb, hkb⟩ := xk_isS hb
    obtain ⟨r104, hr104, h⟩ := gx_bs h
    refine gx_cV (As := []) (rest := [va_rf (v101)]) (b := b105) hX (tJ2_size w (gx_A X) (gx_l X) (b105) (σ)  hr104) (lw_V q1141 q315 q316 q89 q317) ⟨rfl, dsJ2_size⟩ (by decide) (Nat.le_of_ble_eq_true rfl) (xk_rc hX (ci := 20) (by decide) (by decide) hkb) (by rw [eb]; rfl) (gx_w8 (gx_kR gx_k0) (Nat.le_of_ble_eq_true rfl)) dX19_putBack_31 ⟨Nat.le_refl _, Nat.le_refl _⟩ rfl ?_
    refine gx_iconst (v := 1) hX dX19_putBack_34 (by decide) ?_
    refine gx_isub hX dX19_putBack_35 ?_
    obtain ⟨b107, hb, h⟩ := gx_bs h
    obtain ⟨eb, hkb⟩ := xk_isS hb
    obtain ⟨r106, hr106, h⟩ := gx_bs h
    refine gx_cV (As := [.int ((r104) - (1))]) (rest := []) (b := b107) hX (tJ2_remove w (gx_A X) (gx_l X) (b107) (σ) ((r104) - (1)) hr106) (lw_V q1194 q1195 q1196 q89 q1197) ⟨rfl, dsJ2_remove⟩ (by decide) (Nat.le_of_ble_eq_true rfl) (xk_rc hX (ci := 20) (by decide) (by decide) hkb) (by rw [eb]; rfl) (gx_w8 gx_k0 (Nat.le_of_ble_eq_true rfl)) dX19_putBack_36 ⟨Nat.le_refl _, Nat.le_refl _⟩ rfl ?_
    refine gx_pop hX dX19_putBack_39 (gx_cat _) ?_
    refine gx_goto (tgt := 0) hX dX19_putBack_40 (by decide) ?_
    exact tX19_putBack_L0 hX  N _ h
abbrev iX0_isEnough : gx_M := (RX0, "isEnough", cX0_isEnough, 5, some .boolean)
theorem dsX0_isEnough : gx_ds yX0_isEnough 3 := by decide +kernel
def fX0_isEnough_B32 (N : Nat) (x0 : Nat)   (σ : xk_C) (x1 : Option Nat) (y0 : Int32) : Option (xk_C × Int32) := (xk_is (σ) 20 (x1)).bind fun b4 => (fX19_putBack N (b4) (σ)).bind fun r3 => (gz (y0)).bind fun v5 => some (r3.1, v5)
set_option maxHeartbeats 4000000 in
theorem eX0_isEnough_B32 {r : xk_C × Int32} {N : Nat} {x0 : Nat}   {σ : xk_C} {x1 : Option Nat} {y0 : Int32} : xk_er r σ (fX0_isEnough_B32 N x0 σ x1 y0) := by
  unfold fX0_isEnough_B32
  exact (xk_er_rd (fun _ => (xk_er_ca (eX19_putBack) (fun _ => (xk_er_rd (fun _ => xk_er_ret))))))
set_option maxHeartbeats 4000000 in
theorem tX0_isEnough_B32 {w : gw_W} {X : gx_X} {N : Nat} {x0 : Nat} {r : xk_C × Int32} (hX : gx_O (gw_I w (gx_A X)) X iX0_isEnough 139 0 0 (xk_P (gx_A X) w r.1) (.returned (some (.int r.2))))  {σ : xk_C} {x1 : Option Nat} {y0 : Int32} (h : fX0_isEnough_B32 N x0 σ x1 y0 = some r) : gx_G X (xk_P (gx_A X) w (σ)) 0 0 [none, some (va_rf (x1)), none, none, none] 32 [.int (y0)] := by
  unfold fX0_isEnough_B32 at h
  refine gx_istore hX dX0_isEnough_32 (Nat.le_of_ble_eq_true rfl) gx_c1n (lv' := [none, some (va_rf (x1)), none, none, some (.int (y0))]) rfl ?_
  refine gx_aload_n hX dX0_isEnough_34 rfl ?_
  obtain ⟨b4, hb, h⟩ := gx_bs h
  obtain ⟨eb, hkb⟩ := xk_isS hb
  obtain ⟨r3, hr3, h⟩ := gx_bs h
  refine gx_cV (As := []) (rest := []) (b := b4) hX (tX19_putBack w (gx_A X) (gx_l X) N (b4) (σ)  hr3) (lw_V q1190 q1191 q1192 q120 q1193) ⟨rfl, dsX19_putBack⟩ (by decide) (Nat.le_of_ble_eq_true rfl) (xk_rc hX (ci := 19) (by decide) (by decide) hkb) (by rw [eb]; rfl) (gx_w8 gx_k0 (Nat.le_of_ble_eq_true rfl)) dX0_isEnough_35 ⟨Nat.le_refl _, Nat.le_refl _⟩ rfl ?_
  refine gx_iload hX dX0_isEnough_38 rfl ?_
  exact gx_zretP hX rfl dX0_isEnough_40 h (fun h => by cases h; rfl) ⟨rfl, rfl⟩ (fun h => by cases h; exact fun _ h => h)
def fX0_isEnough_L3 (N : Nat) (x0 : Nat)   : Nat → xk_C → Option Nat → Int32 → Int32 → Int32 → Option (xk_C × Int32)
  | 0, _, _, _, _, _ => none
  | k + 1, σ, x1, x2, x3, x4 => if (x2) ≤ x4 then (xk_is (σ) 1 (some x0)).bind fun b2 => (fX0_points N (b2) (σ)).bind fun r1 => if (r1) < x3 then fX0_isEnough_B32 N x0 (σ) (x1) (0) else fX0_isEnough_B32 N x0 (σ) (x1) (1) else (xk_is (σ) 1 (some x0)).bind fun b7 => (fX0_goTick N (b7) (σ)).bind fun r6 => (fX0_isEnough_L3 N x0 k) (r6.1) (x1) (x2) (x3) ((x4) + 1)
set_option maxHeartbeats 4000000 in
theorem eX0_isEnough_L3 {r : xk_C × Int32} {N : Nat} {x0 : Nat}   : ∀ (k : Nat) (σ : xk_C) (x1 : Option Nat) (x2 : Int32) (x3 : Int32) (x4 : Int32), xk_er r σ (fX0_isEnough_L3 N x0 k σ x1 x2 x3 x4) := by
  intro k
  induction k with
  | zero =>
    intro σ x1 x2 x3 x4
    unfold fX0_isEnough_L3
    exact xk_er_none
  | succ k hL3 =>
    intro σ x1 x2 x3 x4
    unfold fX0_isEnough_L3
    exact (xk_er_ite (xk_er_rd (fun _ => (xk_er_rd (fun _ => (xk_er_ite (eX0_isEnough_B32 ) (eX0_isEnough_B32 )))))) (xk_er_rd (fun _ => (xk_er_ca (eX0_goTick) (fun _ => (hL3 _ _ _ _ _))))))
set_option maxHeartbeats 4000000 in
theorem tX0_isEnough_L3 {w : gw_W} {X : gx_X} {N : Nat} {x0 : Nat} {r : xk_C × Int32} (hX : gx_O (gw_I w (gx_A X)) X iX0_isEnough 139 0 0 (xk_P (gx_A X) w r.1) (.returned (some (.int r.2))))  : ∀ (k : Nat) (σ : xk_C) (x1 : Option Nat) (x2 : Int32) (x3 : Int32) (x4 : Int32), fX0_isEnough_L3 N x0 k σ x1 x2 x3 x4 = some r → gx_G X (xk_P (gx_A X) w (σ)) 0 0 [some (va_rf (some x0)), some (va_rf (x1)), some (.int (x2)), some (.int (x3)), some (.int (x4))] 3 [] := by
  intro k
  induction k with
  | zero =>
    intro σ x1 x2 x3 x4 h
    unfold fX0_isEnough_L3 at h
    cases h
  | succ k ih =>
    intro σ x1 x2 x3 x4 h
    unfold fX0_isEnough_L3 at h
    refine gx_iload hX dX0_isEnough_3 rfl ?_
    refine gx_iload_n hX dX0_isEnough_5 rfl ?_
    refine gx_icmp_ge (tgt := 19) hX dX0_isEnough_6 (by decide) h (fun h => ?_) (fun h => ?_)
    · refine gx_aload_n hX dX0_isEnough_19 rfl ?_
      obtain ⟨b2, hb, h⟩ := gx_bs h
      obtain ⟨eb, hkb⟩ := xk_isS hb
      obtain ⟨r1, hr1, h⟩ := gx_bs h
      refine gx_cV (As := []) (rest := []) (b := b2) hX (tX0_points w (gx_A X) (gx_l X) N (b2) (σ)  hr1) (lw_V q1189 q1012 q1013 q86 q1014) ⟨rfl, dsX0_points⟩ (by decide) (Nat.le_of_ble_eq_true rfl) (xk_rc hX (ci := 0) (by decide) (by decide) hkb) (by rw [eb]; rfl) (gx_w8 gx_k0 (Nat.le_of_ble_eq_true rfl)) dX0_isEnough_20 ⟨Nat.le_refl _, Nat.le_refl _⟩ rfl ?_
      refine gx_iload_n hX dX0_isEnough_23 rfl ?_
      refine gx_icmp_lt (tgt := 31) hX dX0_isEnough_24 (by decide) h (fun h => ?_) (fun h => ?_)
      · refine gx_iconst (v := 0) hX dX0_isEnough_31 (by decide) ?_
        refine gx_sub hX (lv' := [none, some (va_rf (x1)), none, none, none]) ⟨Or.inl rfl, ⟨Or.inr rfl, ⟨Or.inl rfl, ⟨Or.inl rfl, ⟨Or.inl rfl, trivial⟩⟩⟩⟩⟩ ?_
        exact tX0_isEnough_B32 hX  h
      · refine gx_iconst (v := 1) hX dX0_isEnough_27 (by decide) ?_
        refine gx_goto (tgt := 32) hX dX0_isEnough_28 (by decide) ?_
        refine gx_sub hX (lv' := [none, some (va_rf (x1)), none, none, none]) ⟨Or.inl rfl, ⟨Or.inr rfl, ⟨Or.inl rfl, ⟨Or.inl rfl, ⟨Or.inl rfl, trivial⟩⟩⟩⟩⟩ ?_
        exact tX0_isEnough_B32 hX  h
    · refine gx_aload_n hX dX0_isEnough_9 rfl ?_
      obtain ⟨b7, hb, h⟩ := gx_bs h
      obtain ⟨eb, hkb⟩ := xk_isS hb
      obtain ⟨r6, hr6, h⟩ := gx_bs h
      refine gx_cV (As := []) (rest := []) (b := b7) hX (tX0_goTick w (gx_A X) (gx_l X) N (b7) (σ)  hr6) (lw_V q961 q963 qs17 q86 q964) ⟨rfl, dsX0_goTick⟩ (by decide) (Nat.le_of_ble_eq_true rfl) (xk_rc hX (ci := 0) (by decide) (by decide) hkb) (by rw [eb]; rfl) (gx_w8 gx_k0 (Nat.le_of_ble_eq_true rfl)) dX0_isEnough_10 ⟨Nat.le_refl _, Nat.le_refl _⟩ rfl ?_
      refine gx_iinc (v := 1) hX dX0_isEnough_13 rfl (by decide) gx_c1i (lv' := [some (va_rf (some x0)), some (va_rf (x1)), some (.int (x2)), some (.int (x3)), some (.int ((x4) + 1))]) rfl ?_
      refine gx_goto (tgt := 3) hX dX0_isEnough_16 (by decide) ?_
      exact ih _ _ _ _ _ h
def fX0_isEnough (N : Nat) (x0 : Nat) (σ : xk_C) (x1 : Option Nat) (x2 : Int32) (x3 : Int32) : Option (xk_C × Int32) := fX0_isEnough_L3 N x0 N (σ) (x1) (x2) (x3) (0)
set_option maxHeartbeats 4000000 in
theorem eX0_isEnough {N : Nat} {x0 : Nat} {σ : xk_C} {x1 : Option Nat} {x2 : Int32} {x3 : Int32} : ∀ p, fX0_isEnough N x0 σ x1 x2 x3 = some p → xk_n p.1 = xk_n σ ∧ xk_s p.1 = xk_s σ := fun r => show xk_er r σ (fX0_isEnough N x0 σ x1 x2 x3) from by
  unfold fX0_isEnough
  exact (eX0_isEnough_L3  N _ _ _ _ _)
theorem mX0_isEnough {N : Nat} {x0 : Nat} {σ : xk_C} {x1 : Option Nat} {x2 : Int32} {x3 : Int32} : ∀ p, fX0_isEnough N x0 σ x1 x2 x3 = some p → xk_n σ ≤ xk_n p.1 ∧ xk_s σ ≤ xk_s p.1 := fun p h => xk_le_of (eX0_isEnough p h)
set_option maxHeartbeats 4000000 in
theorem tX0_isEnough (w : gw_W) (A : Nat → Prop) (l : Launch) (N : Nat) (x0 : Nat) (σ : xk_C) (x1 : Option Nat) (x2 : Int32) (x3 : Int32) {r : xk_C × Int32} (h : fX0_isEnough N x0 σ x1 x2 x3 = some r) : gx_T (gw_I w A) A l yX0_isEnough iX0_isEnough 139 [va_rf (some x0), va_rf (x1), .int (x2), .int (x3)] (xk_P A w σ) 0 0 (xk_P A w r.1) (.returned (some (.int r.2))) := by
  refine gx_T.of (gw_I.inv w A) (by decide) ⟨rfl, rfl⟩ (gx_kR (gx_kR (gx_kI (gx_kI gx_k0)))) (Nat.le_of_ble_eq_true rfl) (fun X hl hAx hX => ?_)
  subst hl
  subst hAx
  show gx_G X (xk_P (gx_A X) w (σ)) 0 0 [some (va_rf (some x0)), some (va_rf (x1)), some (.int (x2)), some (.int (x3)), none] 0 []
  unfold fX0_isEnough at h
  refine gx_iconst (v := 0) hX dX0_isEnough_0 (by decide) ?_
  refine gx_istore hX dX0_isEnough_1 (Nat.le_of_ble_eq_true rfl) gx_c1i (lv' := [some (va_rf (some x0)), some (va_rf (x1)), some (.int (x2)), some (.int (x3)), some (.int (0))]) rfl ?_
  exact tX0_isEnough_L3 hX  N _ _ _ _ _ h
abbrev iX0_mends : gx_M := (RX0, "mends", cX0_mends, 9, some .boolean)
theorem dsX0_mends : gx_ds yX0_mends 6 := by decide +kernel
def fX0_mends (N : Nat) (x0 : Nat) (σ : xk_C) (x1 : Option Nat) (x2 : Option Nat) (x3 : Int32) (x4 : Int32) (x5 : Int32) (x6 : Int32) : Option (xk_C × Int32) := (xk_gr (σ) 68 (x2)).bind fun v1 => (xk_is (σ) 21 (v1)).bind fun b3 => (fJ2_get (b3) (σ) (x3)).bind fun r2 => (xk_ck (σ) 17 (r2)).bind fun u4 => (xk_gi (σ) 80 (r2)).bind fun v5 => (fX0_isNumber  ((v5) + (x4))).bind fun r6 => if r6 = 0 then some (σ, 0) else (xk_gi (σ) 80 (r2)).bind fun v7 => (xk_pi (σ) 80 (r2) ((v7) + (x4))).bind fun σ8 => (xk_is (σ8) 1 (some x0)).bind fun b10 => (fX0_isEnough N (b10) (σ8) (x1) (x5) (x6)).bind fun r9 => (xk_gi (r9.1) 80 (r2)).bind fun v11 => (xk_pi (r9.1) 80 (r2) ((v11) - (x4))).bind fun σ12 => (xk_pi (σ12) 24 (some x0) (x4)).bind fun σ13 => (xk_pi (σ13) 25 (some x0) (x3)).bind fun σ14 => (gz (r9.2)).bind fun v15 => some (σ14, v15)
set_option maxHeartbeats 4000000 in
theorem eX0_mends {N : Nat} {x0 : Nat} {σ : xk_C} {x1 : Option Nat} {x2 : Option Nat} {x3 : Int32} {x4 : Int32} {x5 : Int32} {x6 : Int32} : ∀ p, fX0_mends N x0 σ x1 x2 x3 x4 x5 x6 = some p → xk_n p.1 = xk_n σ ∧ xk_s p.1 = xk_s σ := fun r => show xk_er r σ (fX0_mends N x0 σ x1 x2 x3 x4 x5 x6) from by
  unfold fX0_mends
  exact (xk_er_rd (fun _ => (xk_er_rd (fun _ => (xk_er_rd (fun _ => (xk_er_rd (fun _ => (xk_er_rd (fun _ => (xk_er_rd (fun _ => (xk_er_ite xk_er_ret (xk_er_rd (fun _ => (xk_er_op xk_e_pi (fun _ => (xk_er_rd (fun _ => (xk_er_ca (eX0_isEnough) (fun _ => (xk_er_rd (fun _ => (xk_er_op xk_e_pi (fun _ => (xk_er_op xk_e_pi (fun _ => (xk_er_op xk_e_pi (fun _ => (xk_er_rd (fun _ => xk_er_ret)))))))))))))))))))))))))))))))
theorem mX0_mends {N : Nat} {x0 : Nat} {σ : xk_C} {x1 : Option Nat} {x2 : Option Nat} {x3 : Int32} {x4 : Int32} {x5 : Int32} {x6 : Int32} : ∀ p, fX0_mends N x0 σ x1 x2 x3 x4 x5 x6 = some p → xk_n σ ≤ xk_n p.1 ∧ xk_s σ ≤ xk_s p.1 := fun p h => xk_le_of (eX0_mends p h)
set_option maxHeartbeats 4000000 in
theorem tX0_mends (w : gw_W) (A : Nat → Prop) (l : Launch) (N : Nat) (x0 : Nat) (σ : xk_C) (x1 : Option Nat) (x2 : Option Nat) (x3 : Int32) (x4 : Int32) (x5 : Int32) (x6 : Int32) {r : xk_C × Int32} (h : fX0_mends N x0 σ x1 x2 x3 x4 x5 x6 = some r) : gx_T (gw_I w A) A l yX0_mends iX0_mends 140 [va_rf (some x0), va_rf (x1), va_rf (x2), .int (x3), .int (x4), .int (x5), .int (x6)] (xk_P A w σ) 0 0 (xk_P A w r.1) (.returned (some (.int r.2))) := by
  refine gx_T.of (gw_I.inv w A) (by decide) ⟨rfl, rfl⟩ (gx_kR (gx_kR (gx_kR (gx_kI (gx_kI (gx_kI (gx_kI gx_k0))))))) (Nat.le_of_ble_eq_true rfl) (fun X hl hAx hX => ?_)
  subst hl
  subst hAx
  show gx_G X (xk_P (gx_A X) w (σ)) 0 0 [some (va_rf (some x0)), some (va_rf (x1)), some (va_rf (x2)), some (.int (x3)), some (.int (x4)), some (.int (x5)), some (.int (x6)), none, none] 0 []
  unfold fX0_mends at h
  refine gx_aload_n hX dX0_mends_0 rfl ?_
  refine xk_getrN hX 68 q746 rfl dX0_mends_1 h (fun v1 h => ?_)
  refine gx_iload_n hX dX0_mends_4 rfl ?_
  obtain ⟨b3, hb, h⟩ := gx_bs h
  obtain ⟨eb, hkb⟩ := xk_isS hb
  obtain ⟨r2, hr2, h⟩ := gx_bs h
  refine gx_cV (As := [.int (x3)]) (rest := []) (b := b3) hX (tJ2_get w (gx_A X) (gx_l X) (b3) (σ) (x3) hr2) (lw_V q433 q434 q435 q89 q436) ⟨rfl, dsJ2_get⟩ (by decide) (Nat.le_of_ble_eq_true rfl) (xk_rc hX (ci := 20) (by decide) (by decide) hkb) (by rw [eb]; rfl) (gx_w8 gx_k0 (Nat.le_of_ble_eq_true rfl)) dX0_mends_5 ⟨Nat.le_refl _, Nat.le_refl _⟩ rfl ?_
  refine xk_castC hX 16 ⟨by decide, by decide⟩ q1211 dX0_mends_8 h (fun h => ?_)
  refine gx_astore hX dX0_mends_11 (Nat.le_of_ble_eq_true rfl) gx_c1i (lv' := [some (va_rf (some x0)), some (va_rf (x1)), some (va_rf (x2)), some (.int (x3)), some (.int (x4)), some (.int (x5)), some (.int (x6)), some (va_rf (r2)), none]) rfl ?_
  refine gx_aload hX dX0_mends_13 rfl ?_
  refine xk_getiN hX 80 q877 rfl dX0_mends_15 h (fun v5 h => ?_)
  refine gx_iload hX dX0_mends_18 rfl ?_
  refine gx_iadd hX dX0_mends_20 ?_
  obtain ⟨r6, hr6, h⟩ := gx_bs h
  refine gx_cS (As := [.int ((v5) + (x4))]) (rest := []) hX (tX0_isNumber w (gx_A X) (gx_l X) (xk_P (gx_A X) w (σ)) ((v5) + (x4)) hr6) (lw_S q909 q910 q86 q911) dsX0_isNumber (by decide) (Nat.le_of_ble_eq_true rfl) rfl (gx_w8 gx_k0 (Nat.le_of_ble_eq_true rfl)) dX0_mends_21 ⟨Nat.le_refl _, Nat.le_refl _⟩ rfl ?_
  refine gx_if_ne (tgt := 29) hX dX0_mends_24 (by decide) h (fun h => ?_) (fun h => ?_)
  · refine gx_iconst (v := 0) hX dX0_mends_27 (by decide) ?_
    cases h
    exact gx_zret hX rfl rfl dX0_mends_28 rfl ⟨rfl, rfl⟩ (fun _ h => h)
  · refine gx_aload hX dX0_mends_29 rfl ?_
    refine gx_dup hX dX0_mends_31 (gx_cat _) ?_
    refine xk_getiN hX 80 q877 rfl dX0_mends_32 h (fun v7 h => ?_)
    refine gx_iload hX dX0_mends_35 rfl ?_
    refine gx_iadd hX dX0_mends_37 ?_
    refine xk_putiN hX 80 xk_ty80 rfl q877 rfl rfl dX0_mends_38 h (fun σ8 hτ h => ?_)
    refine gx_aload_n hX dX0_mends_41 rfl ?_
    refine gx_aload_n hX dX0_mends_42 rfl ?_
    refine gx_iload hX dX0_mends_43 rfl ?_
    refine gx_iload hX dX0_mends_45 rfl ?_
    obtain ⟨b10, hb, h⟩ := gx_bs h
    obtain ⟨eb, hkb⟩ := xk_isS hb
    obtain ⟨r9, hr9, h⟩ := gx_bs h
    refine gx_cV (As := [va_rf (x1), .int (x5), .int (x6)]) (rest := []) (b := b10) hX (tX0_isEnough w (gx_A X) (gx_l X) N (b10) (σ8) (x1) (x5) (x6) hr9) (lw_V q1185 q1187 qs29 q86 q1188) ⟨rfl, dsX0_isEnough⟩ (by decide) (Nat.le_of_ble_eq_true rfl) (xk_rc hX (ci := 0) (by decide) (by decide) hkb) (by rw [eb]; rfl) (gx_w8 gx_k0 (Nat.le_of_ble_eq_true rfl)) dX0_mends_47 ⟨Nat.le_refl _, Nat.le_refl _⟩ rfl ?_
    refine gx_istore hX dX0_mends_50 (Nat.le_of_ble_eq_true rfl) gx_c1r (lv' := [some (va_rf (some x0)), some (va_rf (x1)), some (va_rf (x2)), some (.int (x3)), some (.int (x4)), some (.int (x5)), some (.int (x6)), some (va_rf (r2)), some (.int (r9.2))]) rfl ?_
    refine gx_aload hX dX0_mends_52 rfl ?_
    refine gx_dup hX dX0_mends_54 (gx_cat _) ?_
    refine xk_getiN hX 80 q877 rfl dX0_mends_55 h (fun v11 h => ?_)
    refine gx_iload hX dX0_mends_58 rfl ?_
    refine gx_isub hX dX0_mends_60 ?_
    refine xk_putiN hX 80 xk_ty80 rfl q877 rfl rfl dX0_mends_61 h (fun σ12 hτ h => ?_)
    refine gx_aload_n hX dX0_mends_64 rfl ?_
    refine gx_iload hX dX0_mends_65 rfl ?_
    refine xk_puti hX 24 xk_ty24 rfl q246 (fun _ h => h) rfl rfl dX0_mends_67 h (fun σ13 hτ h => ?_)
    refine gx_aload_n hX dX0_mends_70 rfl ?_
    refine gx_iload_n hX dX0_mends_71 rfl ?_
    refine xk_puti hX 25 xk_ty25 rfl q247 (fun _ h => h) rfl rfl dX0_mends_72 h (fun σ14 hτ h => ?_)
    refine gx_iload hX dX0_mends_75 rfl ?_
    exact gx_zretP hX rfl dX0_mends_77 h (fun h => by cases h; rfl) ⟨rfl, rfl⟩ (fun h => by cases h; exact fun _ h => h)
abbrev iX19_init : gx_M := (RX19, "<init>", cX19_init, 4, none)
theorem dsX19_init : gx_ds yX19_init 1 := by decide +kernel
def fX19_init_B409 (N : Nat) (x0 : Nat)  (K225 : xk_C → Option Nat → Int32 → Option (xk_C × Unit)) (σ : xk_C) (x1 : Option Nat) (x2 : Int32) (x3 : Option Nat) (y0 : Int32) (y1 : Int32) (y2 : Int32) (y3 : Option Nat) : Option (xk_C × Unit) := (xk_st (σ) 0 (y3) (y2) ((y1) + (y0))).bind fun σ76 => (xk_gr (σ76) 99 (some x0)).bind fun v77 => (xk_gr (σ76) 55 (x3)).bind fun v78 => (xk_sa (σ76) 8 (v77) (x2) (v78)).bind fun σ79 => K225 (σ79) (x1) ((x2) + 1)
set_option maxHeartbeats 4000000 in
theorem lX19_init_B409 {r : xk_C × Unit} {N : Nat} {x0 : Nat} {K225 : xk_C → Option Nat → Int32 → Option (xk_C × Unit)} (hL225 : ∀ (σ : xk_C) (x1 : Option Nat) (x2 : Int32), xk_lr r σ (K225 σ x1 x2)) {σ : xk_C} {x1 : Option Nat} {x2 : Int32} {x3 : Option Nat} {y0 : Int32} {y1 : Int32} {y2 : Int32} {y3 : Option Nat} : xk_lr r σ (fX19_init_B409 N x0 K225 σ x1 x2 x3 y0 y1 y2 y3) := by
  unfold fX19_init_B409
  exact (xk_lr_op xk_m_st (fun _ => (xk_lr_rd (fun _ => (xk_lr_rd (fun _ => (xk_lr_op xk_m_sa (fun _ => (hL225 _ _ _)))))))))
set_option maxHeartbeats 4000000 in
theorem tX19_init_B409 {w : gw_W} {X : gx_X} {N : Nat} {x0 : Nat} {n0 s0 : Nat} {r : xk_C × Unit} (hX : gx_O (gw_I w (gx_A X)) X iX19_init 5 (xk_n r.1 - n0) (xk_s r.1 - s0) (xk_P (gx_A X) w r.1) (.returned none)) {K225 : xk_C → Option Nat → Int32 → Option (xk_C × Unit)} (hK225 : ∀ (σ : xk_C) (x1 : Option Nat) (x2 : Int32), (n0 ≤ xk_n σ ∧ s0 ≤ xk_s σ) → K225 σ x1 x2 = some r → gx_G X (xk_P (gx_A X) w (σ)) (xk_n (σ) - n0) (xk_s (σ) - s0) [some (va_rf (some x0)), some (va_rf (x1)), some (.int (x2)), none] 225 []) (hL225 : ∀ (σ : xk_C) (x1 : Option Nat) (x2 : Int32), xk_lr r σ (K225 σ x1 x2)) {σ : xk_C} {x1 : Option Nat} {x2 : Int32} {x3 : Option Nat} {y0 : Int32} {y1 : Int32} {y2 : Int32} {y3 : Option Nat} (hm : n0 ≤ xk_n σ ∧ s0 ≤ xk_s σ) (h : fX19_init_B409 N x0 K225 σ x1 x2 x3 y0 y1 y2 y3 = some r) : gx_G X (xk_P (gx_A X) w (σ)) (xk_n (σ) - n0) (xk_s (σ) - s0) [some (va_rf (some x0)), some (va_rf (x1)), some (.int (x2)), some (va_rf (x3))] 409 [.int (y0), .int (y1), .int (y2), va_rf (y3)] := by
  have hu := lX19_init_B409 (r := r) hL225 h
  unfold fX19_init_B409 at h
  refine gx_iadd hX dX19_init_409 ?_
  refine xk_iastore hX dX19_init_410 h (fun σ76 hτ h => xk_Gt hτ ?_)
  have hm := xk_hme hm hτ
  have hu := xk_hue hu hτ
  refine gx_aload_n hX dX19_init_411 rfl ?_
  refine xk_getr hX 99 q1162 (fun _ h => h) rfl dX19_init_412 h (fun v77 h => ?_)
  refine gx_iload_n hX dX19_init_415 rfl ?_
  refine gx_aload_n hX dX19_init_416 rfl ?_
  refine xk_getrN hX 55 q579 rfl dX19_init_417 h (fun v78 h => ?_)
  refine xk_aastore hX 8 ⟨by decide, by decide⟩ dX19_init_420 h (fun σ79 hτ h => xk_Gt hτ ?_)
  have hm := xk_hme hm hτ
  have hu := xk_hue hu hτ
  refine gx_iinc (v := 1) hX dX19_init_421 rfl (by decide) gx_c1r (lv' := [some (va_rf (some x0)), some (va_rf (x1)), some (.int ((x2) + 1)), some (va_rf (x3))]) rfl ?_
  refine gx_goto (tgt := 225) hX dX19_init_424 (by decide) ?_
  refine gx_sub hX (lv' := [some (va_rf (some x0)), some (va_rf (x1)), some (.int ((x2) + 1)), none]) ⟨Or.inr rfl, ⟨Or.inr rfl, ⟨Or.inr rfl, ⟨Or.inl rfl, trivial⟩⟩⟩⟩ ?_
  exact hK225 _ _ _ hm h
def fX19_init_B396 (N : Nat) (x0 : Nat)  (K225 : xk_C → Option Nat → Int32 → Option (xk_C × Unit)) (σ : xk_C) (x1 : Option Nat) (x2 : Int32) (x3 : Option Nat) (y0 : Int32) (y1 : Int32) (y2 : Int32) (y3 : Option Nat) : Option (xk_C × Unit) := (xk_gi (σ) 52 (x3)).bind fun v75 => if v75 = 0 then fX19_init_B409 N x0 K225 (σ) (x1) (x2) (x3) (0) ((y1) + (y0)) (y2) (y3) else fX19_init_B409 N x0 K225 (σ) (x1) (x2) (x3) (4) ((y1) + (y0)) (y2) (y3)
set_option maxHeartbeats 4000000 in
theorem lX19_init_B396 {r : xk_C × Unit} {N : Nat} {x0 : Nat} {K225 : xk_C → Option Nat → Int32 → Option (xk_C × Unit)} (hL225 : ∀ (σ : xk_C) (x1 : Option Nat) (x2 : Int32), xk_lr r σ (K225 σ x1 x2)) {σ : xk_C} {x1 : Option Nat} {x2 : Int32} {x3 : Option Nat} {y0 : Int32} {y1 : Int32} {y2 : Int32} {y3 : Option Nat} : xk_lr r σ (fX19_init_B396 N x0 K225 σ x1 x2 x3 y0 y1 y2 y3) := by
  unfold fX19_init_B396
  exact (xk_lr_rd (fun _ => (xk_lr_ite (lX19_init_B409 hL225) (lX19_init_B409 hL225))))
set_option maxHeartbeats 4000000 in
theorem tX19_init_B396 {w : gw_W} {X : gx_X} {N : Nat} {x0 : Nat} {n0 s0 : Nat} {r : xk_C × Unit} (hX : gx_O (gw_I w (gx_A X)) X iX19_init 5 (xk_n r.1 - n0) (xk_s r.1 - s0) (xk_P (gx_A X) w r.1) (.returned none)) {K225 : xk_C → Option Nat → Int32 → Option (xk_C × Unit)} (hK225 : ∀ (σ : xk_C) (x1 : Option Nat) (x2 : Int32), (n0 ≤ xk_n σ ∧ s0 ≤ xk_s σ) → K225 σ x1 x2 = some r → gx_G X (xk_P (gx_A X) w (σ)) (xk_n (σ) - n0) (xk_s (σ) - s0) [some (va_rf (some x0)), some (va_rf (x1)), some (.int (x2)), none] 225 []) (hL225 : ∀ (σ : xk_C) (x1 : Option Nat) (x2 : Int32), xk_lr r σ (K225 σ x1 x2)) {σ : xk_C} {x1 : Option Nat} {x2 : Int32} {x3 : Option Nat} {y0 : Int32} {y1 : Int32} {y2 : Int32} {y3 : Option Nat} (hm : n0 ≤ xk_n σ ∧ s0 ≤ xk_s σ) (h : fX19_init_B396 N x0 K225 σ x1 x2 x3 y0 y1 y2 y3 = some r) : gx_G X (xk_P (gx_A X) w (σ)) (xk_n (σ) - n0) (xk_s (σ) - s0) [some (va_rf (some x0)), some (va_rf (x1)), some (.int (x2)), some (va_rf (x3))] 396 [.int (y0), .int (y1), .int (y2), va_rf (y3)] := by
  have hu := lX19_init_B396 (r := r) hL225 h
  unfold fX19_init_B396 at h
  refine gx_iadd hX dX19_init_396 ?_
  refine gx_aload_n hX dX19_init_397 rfl ?_
  refine xk_getiN hX 52 q570 rfl dX19_init_398 h (fun v75 h => ?_)
  refine gx_if_eq (tgt := 408) hX dX19_init_401 (by decide) h (fun h => ?_) (fun h => ?_)
  · refine gx_iconst (v := 0) hX dX19_init_408 (by decide) ?_
    exact tX19_init_B409 hX hK225 hL225 hm h
  · refine gx_iconst (v := 4) hX dX19_init_404 (by decide) ?_
    refine gx_goto (tgt := 409) hX dX19_init_405 (by decide) ?_
    exact tX19_init_B409 hX hK225 hL225 hm h
def fX19_init_B384 (N : Nat) (x0 : Nat)  (K225 : xk_C → Option Nat → Int32 → Option (xk_C × Unit)) (σ : xk_C) (x1 : Option Nat) (x2 : Int32) (x3 : Option Nat) (y0 : Int32) (y1 : Int32) (y2 : Option Nat) : Option (xk_C × Unit) := (xk_gi (σ) 51 (x3)).bind fun v74 => if v74 = 0 then fX19_init_B396 N x0 K225 (σ) (x1) (x2) (x3) (0) (y0) (y1) (y2) else fX19_init_B396 N x0 K225 (σ) (x1) (x2) (x3) (2) (y0) (y1) (y2)
set_option maxHeartbeats 4000000 in
theorem lX19_init_B384 {r : xk_C × Unit} {N : Nat} {x0 : Nat} {K225 : xk_C → Option Nat → Int32 → Option (xk_C × Unit)} (hL225 : ∀ (σ : xk_C) (x1 : Option Nat) (x2 : Int32), xk_lr r σ (K225 σ x1 x2)) {σ : xk_C} {x1 : Option Nat} {x2 : Int32} {x3 : Option Nat} {y0 : Int32} {y1 : Int32} {y2 : Option Nat} : xk_lr r σ (fX19_init_B384 N x0 K225 σ x1 x2 x3 y0 y1 y2) := by
  unfold fX19_init_B384
  exact (xk_lr_rd (fun _ => (xk_lr_ite (lX19_init_B396 hL225) (lX19_init_B396 hL225))))
set_option maxHeartbeats 4000000 in
theorem tX19_init_B384 {w : gw_W} {X : gx_X} {N : Nat} {x0 : Nat} {n0 s0 : Nat} {r : xk_C × Unit} (hX : gx_O (gw_I w (gx_A X)) X iX19_init 5 (xk_n r.1 - n0) (xk_s r.1 - s0) (xk_P (gx_A X) w r.1) (.returned none)) {K225 : xk_C → Option Nat → Int32 → Option (xk_C × Unit)} (hK225 : ∀ (σ : xk_C) (x1 : Option Nat) (x2 : Int32), (n0 ≤ xk_n σ ∧ s0 ≤ xk_s σ) → K225 σ x1 x2 = some r → gx_G X (xk_P (gx_A X) w (σ)) (xk_n (σ) - n0) (xk_s (σ) - s0) [some (va_rf (some x0)), some (va_rf (x1)), some (.int (x2)), none] 225 []) (hL225 : ∀ (σ : xk_C) (x1 : Option Nat) (x2 : Int32), xk_lr r σ (K225 σ x1 x2)) {σ : xk_C} {x1 : Option Nat} {x2 : Int32} {x3 : Option Nat} {y0 : Int32} {y1 : Int32} {y2 : Option Nat} (hm : n0 ≤ xk_n σ ∧ s0 ≤ xk_s σ) (h : fX19_init_B384 N x0 K225 σ x1 x2 x3 y0 y1 y2 = some r) : gx_G X (xk_P (gx_A X) w (σ)) (xk_n (σ) - n0) (xk_s (σ) - s0) [some (va_rf (some x0)), some (va_rf (x1)), some (.int (x2)), some (va_rf (x3))] 384 [.int (y0), .int (y1), va_rf (y2)] := by
  have hu := lX19_init_B384 (r := r) hL225 h
  unfold fX19_init_B384 at h
  refine gx_aload_n hX dX19_init_384 rfl ?_
  refine xk_getiN hX 51 q567 rfl dX19_init_385 h (fun v74 h => ?_)
  refine gx_if_eq (tgt := 395) hX dX19_init_388 (by decide) h (fun h => ?_) (fun h => ?_)
  · refine gx_iconst (v := 0) hX dX19_init_395 (by decide) ?_
    exact tX19_init_B396 hX hK225 hL225 hm h
  · refine gx_iconst (v := 2) hX dX19_init_391 (by decide) ?_
    refine gx_goto (tgt := 396) hX dX19_init_392 (by decide) ?_
    exact tX19_init_B396 hX hK225 hL225 hm h
def fX19_init_B360 (N : Nat) (x0 : Nat)  (K225 : xk_C → Option Nat → Int32 → Option (xk_C × Unit)) (σ : xk_C) (x1 : Option Nat) (x2 : Int32) (x3 : Option Nat) (y0 : Int32) (y1 : Int32) (y2 : Option Nat) : Option (xk_C × Unit) := (xk_st (σ) 0 (y2) (y1) (y0)).bind fun σ71 => (xk_gr (σ71) 98 (some x0)).bind fun v72 => (xk_gi (σ71) 50 (x3)).bind fun v73 => if v73 = 0 then fX19_init_B384 N x0 K225 (σ71) (x1) (x2) (x3) (0) (((nI 7) * (x2)) + (nI 6)) (v72) else fX19_init_B384 N x0 K225 (σ71) (x1) (x2) (x3) (1) (((nI 7) * (x2)) + (nI 6)) (v72)
set_option maxHeartbeats 4000000 in
theorem lX19_init_B360 {r : xk_C × Unit} {N : Nat} {x0 : Nat} {K225 : xk_C → Option Nat → Int32 → Option (xk_C × Unit)} (hL225 : ∀ (σ : xk_C) (x1 : Option Nat) (x2 : Int32), xk_lr r σ (K225 σ x1 x2)) {σ : xk_C} {x1 : Option Nat} {x2 : Int32} {x3 : Option Nat} {y0 : Int32} {y1 : Int32} {y2 : Option Nat} : xk_lr r σ (fX19_init_B360 N x0 K225 σ x1 x2 x3 y0 y1 y2) := by
  unfold fX19_init_B360
  exact (xk_lr_op xk_m_st (fun _ => (xk_lr_rd (fun _ => (xk_lr_rd (fun _ => (xk_lr_ite (lX19_init_B384 hL225) (lX19_init_B384 hL225))))))))
set_option maxHeartbeats 4000000 in
theorem tX19_init_B360 {w : gw_W} {X : gx_X} {N : Nat} {x0 : Nat} {n0 s0 : Nat} {r : xk_C × Unit} (hX : gx_O (gw_I w (gx_A X)) X iX19_init 5 (xk_n r.1 - n0) (xk_s r.1 - s0) (xk_P (gx_A X) w r.1) (.returned none)) {K225 : xk_C → Option Nat → Int32 → Option (xk_C × Unit)} (hK225 : ∀ (σ : xk_C) (x1 : Option Nat) (x2 : Int32), (n0 ≤ xk_n σ ∧ s0 ≤ xk_s σ) → K225 σ x1 x2 = some r → gx_G X (xk_P (gx_A X) w (σ)) (xk_n (σ) - n0) (xk_s (σ) - s0) [some (va_rf (some x0)), some (va_rf (x1)), some (.int (x2)), none] 225 []) (hL225 : ∀ (σ : xk_C) (x1 : Option Nat) (x2 : Int32), xk_lr r σ (K225 σ x1 x2)) {σ : xk_C} {x1 : Option Nat} {x2 : Int32} {x3 : Option Nat} {y0 : Int32} {y1 : Int32} {y2 : Option Nat} (hm : n0 ≤ xk_n σ ∧ s0 ≤ xk_s σ) (h : fX19_init_B360 N x0 K225 σ x1 x2 x3 y0 y1 y2 = some r) : gx_G X (xk_P (gx_A X) w (σ)) (xk_n (σ) - n0) (xk_s (σ) - s0) [some (va_rf (some x0)), some (va_rf (x1)), some (.int (x2)), some (va_rf (x3))] 360 [.int (y0), .int (y1), va_rf (y2)] := by
  have hu := lX19_init_B360 (r := r) hL225 h
  unfold fX19_init_B360 at h
  refine xk_iastore hX dX19_init_360 h (fun σ71 hτ h => xk_Gt hτ ?_)
  have hm := xk_hme hm hτ
  have hu := xk_hue hu hτ
  refine gx_aload_n hX dX19_init_361 rfl ?_
  refine xk_getr hX 98 q1161 (fun _ h => h) rfl dX19_init_362 h (fun v72 h => ?_)
  refine gx_bipush (v := nI 7) hX dX19_init_365 (by decide) ?_
  refine gx_iload_n hX dX19_init_367 rfl ?_
  refine gx_imul hX dX19_init_368 ?_
  refine gx_bipush (v := nI 6) hX dX19_init_369 (by decide) ?_
  refine gx_iadd hX dX19_init_371 ?_
  refine gx_aload_n hX dX19_init_372 rfl ?_
  refine xk_getiN hX 50 q564 rfl dX19_init_373 h (fun v73 h => ?_)
  refine gx_if_eq (tgt := 383) hX dX19_init_376 (by decide) h (fun h => ?_) (fun h => ?_)
  · refine gx_iconst (v := 0) hX dX19_init_383 (by decide) ?_
    exact tX19_init_B384 hX hK225 hL225 hm h
  · refine gx_iconst (v := 1) hX dX19_init_379 (by decide) ?_
    refine gx_goto (tgt := 384) hX dX19_init_380 (by decide) ?_
    exact tX19_init_B384 hX hK225 hL225 hm h
def fX19_init_B331 (N : Nat) (x0 : Nat)  (K225 : xk_C → Option Nat → Int32 → Option (xk_C × Unit)) (σ : xk_C) (x1 : Option Nat) (x2 : Int32) (x3 : Option Nat) (y0 : Int32) (y1 : Int32) (y2 : Option Nat) : Option (xk_C × Unit) := (xk_st (σ) 0 (y2) (y1) (y0)).bind fun σ66 => (xk_gr (σ66) 98 (some x0)).bind fun v67 => (xk_gr (σ66) 53 (x3)).bind fun v68 => if v68 = none then fX19_init_B360 N x0 K225 (σ66) (x1) (x2) (x3) ((-1)) (((nI 7) * (x2)) + (5)) (v67) else (xk_gr (σ66) 53 (x3)).bind fun v69 => (xk_gi (σ66) 37 (v69)).bind fun v70 => fX19_init_B360 N x0 K225 (σ66) (x1) (x2) (x3) (v70) (((nI 7) * (x2)) + (5)) (v67)
set_option maxHeartbeats 4000000 in
theorem lX19_init_B331 {r : xk_C × Unit} {N : Nat} {x0 : Nat} {K225 : xk_C → Option Nat → Int32 → Option (xk_C × Unit)} (hL225 : ∀ (σ : xk_C) (x1 : Option Nat) (x2 : Int32), xk_lr r σ (K225 σ x1 x2)) {σ : xk_C} {x1 : Option Nat} {x2 : Int32} {x3 : Option Nat} {y0 : Int32} {y1 : Int32} {y2 : Option Nat} : xk_lr r σ (fX19_init_B331 N x0 K225 σ x1 x2 x3 y0 y1 y2) := by
  unfold fX19_init_B331
  exact (xk_lr_op xk_m_st (fun _ => (xk_lr_rd (fun _ => (xk_lr_rd (fun _ => (xk_lr_ite (lX19_init_B360 hL225) (xk_lr_rd (fun _ => (xk_lr_rd (fun _ => (lX19_init_B360 hL225))))))))))))
set_option maxHeartbeats 4000000 in
theorem tX19_init_B331 {w : gw_W} {X : gx_X} {N : Nat} {x0 : Nat} {n0 s0 : Nat} {r : xk_C × Unit} (hX : gx_O (gw_I w (gx_A X)) X iX19_init 5 (xk_n r.1 - n0) (xk_s r.1 - s0) (xk_P (gx_A X) w r.1) (.returned none)) {K225 : xk_C → Option Nat → Int32 → Option (xk_C × Unit)} (hK225 : ∀ (σ : xk_C) (x1 : Option Nat) (x2 : Int32), (n0 ≤ xk_n σ ∧ s0 ≤ xk_s σ) → K225 σ x1 x2 = some r → gx_G X (xk_P (gx_A X) w (σ)) (xk_n (σ) - n0) (xk_s (σ) - s0) [some (va_rf (some x0)), some (va_rf (x1)), some (.int (x2)), none] 225 []) (hL225 : ∀ (σ : xk_C) (x1 : Option Nat) (x2 : Int32), xk_lr r σ (K225 σ x1 x2)) {σ : xk_C} {x1 : Option Nat} {x2 : Int32} {x3 : Option Nat} {y0 : Int32} {y1 : Int32} {y2 : Option Nat} (hm : n0 ≤ xk_n σ ∧ s0 ≤ xk_s σ) (h : fX19_init_B331 N x0 K225 σ x1 x2 x3 y0 y1 y2 = some r) : gx_G X (xk_P (gx_A X) w (σ)) (xk_n (σ) - n0) (xk_s (σ) - s0) [some (va_rf (some x0)), some (va_rf (x1)), some (.int (x2)), some (va_rf (x3))] 331 [.int (y0), .int (y1), va_rf (y2)] := by
  have hu := lX19_init_B331 (r := r) hL225 h
  unfold fX19_init_B331 at h
  refine xk_iastore hX dX19_init_331 h (fun σ66 hτ h => xk_Gt hτ ?_)
  have hm := xk_hme hm hτ
  have hu := xk_hue hu hτ
  refine gx_aload_n hX dX19_init_332 rfl ?_
  refine xk_getr hX 98 q1161 (fun _ h => h) rfl dX19_init_333 h (fun v67 h => ?_)
  refine gx_bipush (v := nI 7) hX dX19_init_336 (by decide) ?_
  refine gx_iload_n hX dX19_init_338 rfl ?_
  refine gx_imul hX dX19_init_339 ?_
  refine gx_iconst (v := 5) hX dX19_init_340 (by decide) ?_
  refine gx_iadd hX dX19_init_341 ?_
  refine gx_aload_n hX dX19_init_342 rfl ?_
  refine xk_getrN hX 53 q573 rfl dX19_init_343 h (fun v68 h => ?_)
  refine gx_ifnonnull (tgt := 353) hX dX19_init_346 (by decide) h (fun h => ?_) (fun h => ?_)
  · refine gx_iconst (v := (-1)) hX dX19_init_349 (by decide) ?_
    refine gx_goto (tgt := 360) hX dX19_init_350 (by decide) ?_
    exact tX19_init_B360 hX hK225 hL225 hm h
  · refine gx_aload_n hX dX19_init_353 rfl ?_
    refine xk_getrN hX 53 q573 rfl dX19_init_354 h (fun v69 h => ?_)
    refine xk_getiN hX 37 q324 rfl dX19_init_357 h (fun v70 h => ?_)
    exact tX19_init_B360 hX hK225 hL225 hm h
def fX19_init_L225 (N : Nat) (x0 : Nat)   : Nat → xk_C → Option Nat → Int32 → Option (xk_C × Unit)
  | 0, _, _, _ => none
  | k + 1, σ, x1, x2 => (xk_gi (σ) 92 (some x0)).bind fun v45 => if (v45) ≤ x2 then some (σ, ()) else (xk_gr (σ) 3 (x1)).bind fun v46 => (xk_is (σ) 21 (v46)).bind fun b48 => (fJ2_get (b48) (σ) (x2)).bind fun r47 => (xk_ck (σ) 6 (r47)).bind fun u49 => (xk_gr (σ) 98 (some x0)).bind fun v50 => (xk_gi (σ) 46 (r47)).bind fun v51 => (xk_st (σ) 0 (v50) ((nI 7) * (x2)) (v51)).bind fun σ52 => (xk_gr (σ52) 98 (some x0)).bind fun v53 => (xk_gi (σ52) 47 (r47)).bind fun v54 => (xk_st (σ52) 0 (v53) (((nI 7) * (x2)) + (1)) (v54)).bind fun σ55 => (xk_gr (σ55) 98 (some x0)).bind fun v56 => (xk_gi (σ55) 48 (r47)).bind fun v57 => (xk_st (σ55) 0 (v56) (((nI 7) * (x2)) + (2)) (v57)).bind fun σ58 => (xk_gr (σ58) 98 (some x0)).bind fun v59 => (xk_gi (σ58) 49 (r47)).bind fun v60 => (xk_st (σ58) 0 (v59) (((nI 7) * (x2)) + (3)) (v60)).bind fun σ61 => (xk_gr (σ61) 98 (some x0)).bind fun v62 => (xk_gr (σ61) 54 (r47)).bind fun v63 => if v63 = none then fX19_init_B331 N x0 (fX19_init_L225 N x0 k) (σ61) (x1) (x2) (r47) ((-1)) (((nI 7) * (x2)) + (4)) (v62) else (xk_gr (σ61) 54 (r47)).bind fun v64 => (xk_gi (σ61) 44 (v64)).bind fun v65 => fX19_init_B331 N x0 (fX19_init_L225 N x0 k) (σ61) (x1) (x2) (r47) (v65) (((nI 7) * (x2)) + (4)) (v62)
set_option maxHeartbeats 4000000 in
theorem lX19_init_L225 {r : xk_C × Unit} {N : Nat} {x0 : Nat}   : ∀ (k : Nat) (σ : xk_C) (x1 : Option Nat) (x2 : Int32), xk_lr r σ (fX19_init_L225 N x0 k σ x1 x2) := by
  intro k
  induction k with
  | zero =>
    intro σ x1 x2
    unfold fX19_init_L225
    exact xk_lr_none
  | succ k hL225 =>
    intro σ x1 x2
    unfold fX19_init_L225
    exact (xk_lr_rd (fun _ => (xk_lr_ite xk_lr_ret (xk_lr_rd (fun _ => (xk_lr_rd (fun _ => (xk_lr_rd (fun _ => (xk_lr_rd (fun _ => (xk_lr_rd (fun _ => (xk_lr_rd (fun _ => (xk_lr_op xk_m_st (fun _ => (xk_lr_rd (fun _ => (xk_lr_rd (fun _ => (xk_lr_op xk_m_st (fun _ => (xk_lr_rd (fun _ => (xk_lr_rd (fun _ => (xk_lr_op xk_m_st (fun _ => (xk_lr_rd (fun _ => (xk_lr_rd (fun _ => (xk_lr_op xk_m_st (fun _ => (xk_lr_rd (fun _ => (xk_lr_rd (fun _ => (xk_lr_ite (lX19_init_B331 hL225) (xk_lr_rd (fun _ => (xk_lr_rd (fun _ => (lX19_init_B331 hL225)))))))))))))))))))))))))))))))))))))))))))))
set_option maxHeartbeats 4000000 in
theorem tX19_init_L225 {w : gw_W} {X : gx_X} {N : Nat} {x0 : Nat} {n0 s0 : Nat} {r : xk_C × Unit} (hX : gx_O (gw_I w (gx_A X)) X iX19_init 5 (xk_n r.1 - n0) (xk_s r.1 - s0) (xk_P (gx_A X) w r.1) (.returned none))  : ∀ (k : Nat) (σ : xk_C) (x1 : Option Nat) (x2 : Int32), (n0 ≤ xk_n σ ∧ s0 ≤ xk_s σ) → fX19_init_L225 N x0 k σ x1 x2 = some r → gx_G X (xk_P (gx_A X) w (σ)) (xk_n (σ) - n0) (xk_s (σ) - s0) [some (va_rf (some x0)), some (va_rf (x1)), some (.int (x2)), none] 225 [] := by
  intro k
  induction k with
  | zero =>
    intro σ x1 x2 hm h
    unfold fX19_init_L225 at h
    cases h
  | succ k ih =>
    intro σ x1 x2 hm h
    have hu := lX19_init_L225 (r := r)  (k + 1) _ _ _ h
    unfold fX19_init_L225 at h
    have hL225 : ∀ (σ : xk_C) (x1 : Option Nat) (x2 : Int32), xk_lr r σ (fX19_init_L225 N x0 k σ x1 x2) := fun σ x1 x2 => lX19_init_L225  k σ x1 x2
    refine gx_iload_n hX dX19_init_225 rfl ?_
    refine gx_aload_n hX dX19_init_226 rfl ?_
    refine xk_geti hX 92 q1155 (fun _ h => h) rfl dX19_init_227 h (fun v45 h => ?_)
    refine gx_icmp_ge (tgt := 427) hX dX19_init_230 (by decide) h (fun h => ?_) (fun h => ?_)
    · cases h
      exact gx_vret hX rfl dX19_init_427 rfl ⟨rfl, rfl⟩ (fun _ h => h)
    · refine gx_aload_n hX dX19_init_233 rfl ?_
      refine xk_getrN hX 3 q213 rfl dX19_init_234 h (fun v46 h => ?_)
      refine gx_iload_n hX dX19_init_237 rfl ?_
      obtain ⟨b48, hb, h⟩ := gx_bs h
      obtain ⟨eb, hkb⟩ := xk_isS hb
      obtain ⟨r47, hr47, h⟩ := gx_bs h
      refine gx_cV (As := [.int (x2)]) (rest := []) (b := b48) hX (tJ2_get w (gx_A X) (gx_l X) (b48) (σ) (x2) hr47) (lw_V q1151 q434 q435 q89 q436) ⟨rfl, dsJ2_get⟩ (by decide) (Nat.le_of_ble_eq_true rfl) (xk_rc hX (ci := 20) (by decide) (by decide) hkb) (by rw [eb]; rfl) (gx_w8 gx_k0 (Nat.le_of_ble_eq_true rfl)) dX19_init_238 (xk_hfe hu) rfl (xk_Gz ?_)
      refine xk_castC hX 5 ⟨by decide, by decide⟩ q1153 dX19_init_241 h (fun h => ?_)
      refine gx_astore_n hX dX19_init_244 (Nat.le_of_ble_eq_true rfl) gx_c1i (lv' := [some (va_rf (some x0)), some (va_rf (x1)), some (.int (x2)), some (va_rf (r47))]) rfl ?_
      refine gx_aload_n hX dX19_init_245 rfl ?_
      refine xk_getr hX 98 q1161 (fun _ h => h) rfl dX19_init_246 h (fun v50 h => ?_)
      refine gx_bipush (v := nI 7) hX dX19_init_249 (by decide) ?_
      refine gx_iload_n hX dX19_init_251 rfl ?_
      refine gx_imul hX dX19_init_252 ?_
      refine gx_aload_n hX dX19_init_253 rfl ?_
      refine xk_getiN hX 46 q552 rfl dX19_init_254 h (fun v51 h => ?_)
      refine xk_iastore hX dX19_init_257 h (fun σ52 hτ h => xk_Gt hτ ?_)
      have hm := xk_hme hm hτ
      have hu := xk_hue hu hτ
      refine gx_aload_n hX dX19_init_258 rfl ?_
      refine xk_getr hX 98 q1161 (fun _ h => h) rfl dX19_init_259 h (fun v53 h => ?_)
      refine gx_bipush (v := nI 7) hX dX19_init_262 (by decide) ?_
      refine gx_iload_n hX dX19_init_264 rfl ?_
      refine gx_imul hX dX19_init_265 ?_
      refine gx_iconst (v := 1) hX dX19_init_266 (by decide) ?_
      refine gx_iadd hX dX19_init_267 ?_
      refine gx_aload_n hX dX19_init_268 rfl ?_
      refine xk_getiN hX 47 q555 rfl dX19_init_269 h (fun v54 h => ?_)
      refine xk_iastore hX dX19_init_272 h (fun σ55 hτ h => xk_Gt hτ ?_)
      have hm := xk_hme hm hτ
      have hu := xk_hue hu hτ
      refine gx_aload_n hX dX19_init_273 rfl ?_
      refine xk_getr hX 98 q1161 (fun _ h => h) rfl dX19_init_274 h (fun v56 h => ?_)
      refine gx_bipush (v := nI 7) hX dX19_init_277 (by decide) ?_
      refine gx_iload_n hX dX19_init_279 rfl ?_
      refine gx_imul hX dX19_init_280 ?_
      refine gx_iconst (v := 2) hX dX19_init_281 (by decide) ?_
      refine gx_iadd hX dX19_init_282 ?_
      refine gx_aload_n hX dX19_init_283 rfl ?_
      refine xk_getiN hX 48 q558 rfl dX19_init_284 h (fun v57 h => ?_)
      refine xk_iastore hX dX19_init_287 h (fun σ58 hτ h => xk_Gt hτ ?_)
      have hm := xk_hme hm hτ
      have hu := xk_hue hu hτ
      refine gx_aload_n hX dX19_init_288 rfl ?_
      refine xk_getr hX 98 q1161 (fun _ h => h) rfl dX19_init_289 h (fun v59 h => ?_)
      refine gx_bipush (v := nI 7) hX dX19_init_292 (by decide) ?_
      refine gx_iload_n hX dX19_init_294 rfl ?_
      refine gx_imul hX dX19_init_295 ?_
      refine gx_iconst (v := 3) hX dX19_init_296 (by decide) ?_
      refine gx_iadd hX dX19_init_297 ?_
      refine gx_aload_n hX dX19_init_298 rfl ?_
      refine xk_getiN hX 49 q561 rfl dX19_init_299 h (fun v60 h => ?_)
      refine xk_iastore hX dX19_init_302 h (fun σ61 hτ h => xk_Gt hτ ?_)
      have hm := xk_hme hm hτ
      have hu := xk_hue hu hτ
      refine gx_aload_n hX dX19_init_303 rfl ?_
      refine xk_getr hX 98 q1161 (fun _ h => h) rfl dX19_init_304 h (fun v62 h => ?_)
      refine gx_bipush (v := nI 7) hX dX19_init_307 (by decide) ?_
      refine gx_iload_n hX dX19_init_309 rfl ?_
      refine gx_imul hX dX19_init_310 ?_
      refine gx_iconst (v := 4) hX dX19_init_311 (by decide) ?_
      refine gx_iadd hX dX19_init_312 ?_
      refine gx_aload_n hX dX19_init_313 rfl ?_
      refine xk_getrN hX 54 q576 rfl dX19_init_314 h (fun v63 h => ?_)
      refine gx_ifnonnull (tgt := 324) hX dX19_init_317 (by decide) h (fun h => ?_) (fun h => ?_)
      · refine gx_iconst (v := (-1)) hX dX19_init_320 (by decide) ?_
        refine gx_goto (tgt := 331) hX dX19_init_321 (by decide) ?_
        exact tX19_init_B331 hX ih hL225 hm h
      · refine gx_aload_n hX dX19_init_324 rfl ?_
        refine xk_getrN hX 54 q576 rfl dX19_init_325 h (fun v64 h => ?_)
        refine xk_getiN hX 44 q547 rfl dX19_init_328 h (fun v65 h => ?_)
        exact tX19_init_B331 hX ih hL225 hm h
def fX19_init_B216 (N : Nat) (x0 : Nat)  (K143 : xk_C → Option Nat → Int32 → Option (xk_C × Unit)) (σ : xk_C) (x1 : Option Nat) (x2 : Int32) (y0 : Int32) (y1 : Int32) (y2 : Option Nat) : Option (xk_C × Unit) := (xk_st (σ) 0 (y2) (y1) (y0)).bind fun σ94 => K143 (σ94) (x1) ((x2) + 1)
set_option maxHeartbeats 4000000 in
theorem lX19_init_B216 {r : xk_C × Unit} {N : Nat} {x0 : Nat} {K143 : xk_C → Option Nat → Int32 → Option (xk_C × Unit)} (hL143 : ∀ (σ : xk_C) (x1 : Option Nat) (x2 : Int32), xk_lr r σ (K143 σ x1 x2)) {σ : xk_C} {x1 : Option Nat} {x2 : Int32} {y0 : Int32} {y1 : Int32} {y2 : Option Nat} : xk_lr r σ (fX19_init_B216 N x0 K143 σ x1 x2 y0 y1 y2) := by
  unfold fX19_init_B216
  exact (xk_lr_op xk_m_st (fun _ => (hL143 _ _ _)))
set_option maxHeartbeats 4000000 in
theorem tX19_init_B216 {w : gw_W} {X : gx_X} {N : Nat} {x0 : Nat} {n0 s0 : Nat} {r : xk_C × Unit} (hX : gx_O (gw_I w (gx_A X)) X iX19_init 5 (xk_n r.1 - n0) (xk_s r.1 - s0) (xk_P (gx_A X) w r.1) (.returned none)) {K143 : xk_C → Option Nat → Int32 → Option (xk_C × Unit)} (hK143 : ∀ (σ : xk_C) (x1 : Option Nat) (x2 : Int32), (n0 ≤ xk_n σ ∧ s0 ≤ xk_s σ) → K143 σ x1 x2 = some r → gx_G X (xk_P (gx_A X) w (σ)) (xk_n (σ) - n0) (xk_s (σ) - s0) [some (va_rf (some x0)), some (va_rf (x1)), some (.int (x2)), none] 143 []) (hL143 : ∀ (σ : xk_C) (x1 : Option Nat) (x2 : Int32), xk_lr r σ (K143 σ x1 x2)) {σ : xk_C} {x1 : Option Nat} {x2 : Int32} {y0 : Int32} {y1 : Int32} {y2 : Option Nat} (hm : n0 ≤ xk_n σ ∧ s0 ≤ xk_s σ) (h : fX19_init_B216 N x0 K143 σ x1 x2 y0 y1 y2 = some r) : gx_G X (xk_P (gx_A X) w (σ)) (xk_n (σ) - n0) (xk_s (σ) - s0) [some (va_rf (some x0)), some (va_rf (x1)), some (.int (x2)), none] 216 [.int (y0), .int (y1), va_rf (y2)] := by
  have hu := lX19_init_B216 (r := r) hL143 h
  unfold fX19_init_B216 at h
  refine xk_iastore hX dX19_init_216 h (fun σ94 hτ h => xk_Gt hτ ?_)
  have hm := xk_hme hm hτ
  have hu := xk_hue hu hτ
  refine gx_iinc (v := 1) hX dX19_init_217 rfl (by decide) gx_c1r (lv' := [some (va_rf (some x0)), some (va_rf (x1)), some (.int ((x2) + 1)), none]) rfl ?_
  refine gx_goto (tgt := 143) hX dX19_init_220 (by decide) ?_
  exact hK143 _ _ _ hm h
def fX19_init_L143 (N : Nat) (x0 : Nat)   : Nat → xk_C → Option Nat → Int32 → Option (xk_C × Unit)
  | 0, _, _, _ => none
  | k + 1, σ, x1, x2 => (xk_gi (σ) 91 (some x0)).bind fun v44 => if (v44) ≤ x2 then fX19_init_L225 N x0 N (σ) (x1) (0) else (xk_gr (σ) 0 (x1)).bind fun v80 => (xk_is (σ) 21 (v80)).bind fun b82 => (fJ2_get (b82) (σ) (x2)).bind fun r81 => (xk_ck (σ) 5 (r81)).bind fun u83 => (xk_gr (σ) 97 (some x0)).bind fun v84 => (xk_gi (σ) 41 (r81)).bind fun v85 => (xk_st (σ) 0 (v84) ((3) * (x2)) (v85)).bind fun σ86 => (xk_gr (σ86) 97 (some x0)).bind fun v87 => (xk_gi (σ86) 42 (r81)).bind fun v88 => (xk_st (σ86) 0 (v87) (((3) * (x2)) + (1)) (v88)).bind fun σ89 => (xk_gr (σ89) 97 (some x0)).bind fun v90 => (xk_gr (σ89) 43 (r81)).bind fun v91 => if v91 = none then fX19_init_B216 N x0 (fX19_init_L143 N x0 k) (σ89) (x1) (x2) ((-1)) (((3) * (x2)) + (2)) (v90) else (xk_gr (σ89) 43 (r81)).bind fun v92 => (xk_gi (σ89) 44 (v92)).bind fun v93 => fX19_init_B216 N x0 (fX19_init_L143 N x0 k) (σ89) (x1) (x2) (v93) (((3) * (x2)) + (2)) (v90)
set_option maxHeartbeats 4000000 in
theorem lX19_init_L143 {r : xk_C × Unit} {N : Nat} {x0 : Nat}   : ∀ (k : Nat) (σ : xk_C) (x1 : Option Nat) (x2 : Int32), xk_lr r σ (fX19_init_L143 N x0 k σ x1 x2) := by
  intro k
  induction k with
  | zero =>
    intro σ x1 x2
    unfold fX19_init_L143
    exact xk_lr_none
  | succ k hL143 =>
    intro σ x1 x2
    unfold fX19_init_L143
    exact (xk_lr_rd (fun _ => (xk_lr_ite (lX19_init_L225  N _ _ _) (xk_lr_rd (fun _ => (xk_lr_rd (fun _ => (xk_lr_rd (fun _ => (xk_lr_rd (fun _ => (xk_lr_rd (fun _ => (xk_lr_rd (fun _ => (xk_lr_op xk_m_st (fun _ => (xk_lr_rd (fun _ => (xk_lr_rd (fun _ => (xk_lr_op xk_m_st (fun _ => (xk_lr_rd (fun _ => (xk_lr_rd (fun _ => (xk_lr_ite (lX19_init_B216 hL143) (xk_lr_rd (fun _ => (xk_lr_rd (fun _ => (lX19_init_B216 hL143)))))))))))))))))))))))))))))))))
set_option maxHeartbeats 4000000 in
theorem tX19_init_L143 {w : gw_W} {X : gx_X} {N : Nat} {x0 : Nat} {n0 s0 : Nat} {r : xk_C × Unit} (hX : gx_O (gw_I w (gx_A X)) X iX19_init 5 (xk_n r.1 - n0) (xk_s r.1 - s0) (xk_P (gx_A X) w r.1) (.returned none))  : ∀ (k : Nat) (σ : xk_C) (x1 : Option Nat) (x2 : Int32), (n0 ≤ xk_n σ ∧ s0 ≤ xk_s σ) → fX19_init_L143 N x0 k σ x1 x2 = some r → gx_G X (xk_P (gx_A X) w (σ)) (xk_n (σ) - n0) (xk_s (σ) - s0) [some (va_rf (some x0)), some (va_rf (x1)), some (.int (x2)), none] 143 [] := by
  intro k
  induction k with
  | zero =>
    intro σ x1 x2 hm h
    unfold fX19_init_L143 at h
    cases h
  | succ k ih =>
    intro σ x1 x2 hm h
    have hu := lX19_init_L143 (r := r)  (k + 1) _ _ _ h
    unfold fX19_init_L143 at h
    have hL143 : ∀ (σ : xk_C) (x1 : Option Nat) (x2 : Int32), xk_lr r σ (fX19_init_L143 N x0 k σ x1 x2) := fun σ x1 x2 => lX19_init_L143  k σ x1 x2
    refine gx_iload_n hX dX19_init_143 rfl ?_
    refine gx_aload_n hX dX19_init_144 rfl ?_
    refine xk_geti hX 91 q1154 (fun _ h => h) rfl dX19_init_145 h (fun v44 h => ?_)
    refine gx_icmp_ge (tgt := 223) hX dX19_init_148 (by decide) h (fun h => ?_) (fun h => ?_)
    · refine gx_iconst (v := 0) hX dX19_init_223 (by decide) ?_
      refine gx_istore_n hX dX19_init_224 (Nat.le_of_ble_eq_true rfl) gx_c1r (lv' := [some (va_rf (some x0)), some (va_rf (x1)), some (.int (0)), none]) rfl ?_
      exact tX19_init_L225 hX  N _ _ _ hm h
    · refine gx_aload_n hX dX19_init_151 rfl ?_
      refine xk_getrN hX 0 q208 rfl dX19_init_152 h (fun v80 h => ?_)
      refine gx_iload_n hX dX19_init_155 rfl ?_
      obtain ⟨b82, hb, h⟩ := gx_bs h
      obtain ⟨eb, hkb⟩ := xk_isS hb
      obtain ⟨r81, hr81, h⟩ := gx_bs h
      refine gx_cV (As := [.int (x2)]) (rest := []) (b := b82) hX (tJ2_get w (gx_A X) (gx_l X) (b82) (σ) (x2) hr81) (lw_V q1151 q434 q435 q89 q436) ⟨rfl, dsJ2_get⟩ (by decide) (Nat.le_of_ble_eq_true rfl) (xk_rc hX (ci := 20) (by decide) (by decide) hkb) (by rw [eb]; rfl) (gx_w8 gx_k0 (Nat.le_of_ble_eq_true rfl)) dX19_init_156 (xk_hfe hu) rfl (xk_Gz ?_)
      refine xk_castC hX 4 ⟨by decide, by decide⟩ q1152 dX19_init_159 h (fun h => ?_)
      refine gx_astore_n hX dX19_init_162 (Nat.le_of_ble_eq_true rfl) gx_c1i (lv' := [some (va_rf (some x0)), some (va_rf (x1)), some (.int (x2)), some (va_rf (r81))]) rfl ?_
      refine gx_aload_n hX dX19_init_163 rfl ?_
      refine xk_getr hX 97 q1160 (fun _ h => h) rfl dX19_init_164 h (fun v84 h => ?_)
      refine gx_iconst (v := 3) hX dX19_init_167 (by decide) ?_
      refine gx_iload_n hX dX19_init_168 rfl ?_
      refine gx_imul hX dX19_init_169 ?_
      refine gx_aload_n hX dX19_init_170 rfl ?_
      refine xk_getiN hX 41 q333 rfl dX19_init_171 h (fun v85 h => ?_)
      refine xk_iastore hX dX19_init_174 h (fun σ86 hτ h => xk_Gt hτ ?_)
      have hm := xk_hme hm hτ
      have hu := xk_hue hu hτ
      refine gx_aload_n hX dX19_init_175 rfl ?_
      refine xk_getr hX 97 q1160 (fun _ h => h) rfl dX19_init_176 h (fun v87 h => ?_)
      refine gx_iconst (v := 3) hX dX19_init_179 (by decide) ?_
      refine gx_iload_n hX dX19_init_180 rfl ?_
      refine gx_imul hX dX19_init_181 ?_
      refine gx_iconst (v := 1) hX dX19_init_182 (by decide) ?_
      refine gx_iadd hX dX19_init_183 ?_
      refine gx_aload_n hX dX19_init_184 rfl ?_
      refine xk_getiN hX 42 q335 rfl dX19_init_185 h (fun v88 h => ?_)
      refine xk_iastore hX dX19_init_188 h (fun σ89 hτ h => xk_Gt hτ ?_)
      have hm := xk_hme hm hτ
      have hu := xk_hue hu hτ
      refine gx_aload_n hX dX19_init_189 rfl ?_
      refine xk_getr hX 97 q1160 (fun _ h => h) rfl dX19_init_190 h (fun v90 h => ?_)
      refine gx_iconst (v := 3) hX dX19_init_193 (by decide) ?_
      refine gx_iload_n hX dX19_init_194 rfl ?_
      refine gx_imul hX dX19_init_195 ?_
      refine gx_iconst (v := 2) hX dX19_init_196 (by decide) ?_
      refine gx_iadd hX dX19_init_197 ?_
      refine gx_aload_n hX dX19_init_198 rfl ?_
      refine xk_getrN hX 43 q339 rfl dX19_init_199 h (fun v91 h => ?_)
      refine gx_ifnonnull (tgt := 209) hX dX19_init_202 (by decide) h (fun h => ?_) (fun h => ?_)
      · refine gx_iconst (v := (-1)) hX dX19_init_205 (by decide) ?_
        refine gx_goto (tgt := 216) hX dX19_init_206 (by decide) ?_
        refine gx_sub hX (lv' := [some (va_rf (some x0)), some (va_rf (x1)), some (.int (x2)), none]) ⟨Or.inr rfl, ⟨Or.inr rfl, ⟨Or.inr rfl, ⟨Or.inl rfl, trivial⟩⟩⟩⟩ ?_
        exact tX19_init_B216 hX ih hL143 hm h
      · refine gx_aload_n hX dX19_init_209 rfl ?_
        refine xk_getrN hX 43 q339 rfl dX19_init_210 h (fun v92 h => ?_)
        refine xk_getiN hX 44 q547 rfl dX19_init_213 h (fun v93 h => ?_)
        refine gx_sub hX (lv' := [some (va_rf (some x0)), some (va_rf (x1)), some (.int (x2)), none]) ⟨Or.inr rfl, ⟨Or.inr rfl, ⟨Or.inr rfl, ⟨Or.inl rfl, trivial⟩⟩⟩⟩ ?_
        exact tX19_init_B216 hX ih hL143 hm h
def fX19_init (N : Nat) (x0 : Nat) (σ : xk_C) (x1 : Option Nat) : Option (xk_C × Unit) := (xk_pr (σ) 100 (some x0) (x1)).bind fun σ1 => (xk_gr (σ1) 100 (some x0)).bind fun v2 => (xk_gr (σ1) 0 (v2)).bind fun v3 => (xk_is (σ1) 21 (v3)).bind fun b5 => (fJ2_size (b5) (σ1)).bind fun r4 => (xk_pi (σ1) 91 (some x0) (r4)).bind fun σ6 => (xk_gr (σ6) 100 (some x0)).bind fun v7 => (xk_gr (σ6) 3 (v7)).bind fun v8 => (xk_is (σ6) 21 (v8)).bind fun b10 => (fJ2_size (b10) (σ6)).bind fun r9 => (xk_pi (σ6) 92 (some x0) (r9)).bind fun σ11 => (xk_gr (σ11) 100 (some x0)).bind fun v12 => (xk_gi (σ11) 4 (v12)).bind fun v13 => (xk_pi (σ11) 93 (some x0) (v13)).bind fun σ14 => (xk_gr (σ14) 100 (some x0)).bind fun v15 => (xk_gi (σ14) 5 (v15)).bind fun v16 => (xk_pi (σ14) 94 (some x0) (v16)).bind fun σ17 => (xk_gr (σ17) 100 (some x0)).bind fun v18 => (xk_gi (σ17) 6 (v18)).bind fun v19 => (xk_pi (σ17) 95 (some x0) (v19)).bind fun σ20 => (xk_gr (σ20) 100 (some x0)).bind fun v21 => (xk_gr (σ20) 7 (v21)).bind fun v22 => (xk_cln (σ20) (v22)).bind fun σ23 => (xk_ck (σ23) 30 (some (xk_n (σ20)))).bind fun u24 => (xk_pr (σ23) 96 (some x0) (some (xk_n (σ20)))).bind fun σ25 => (xk_gr (σ25) 100 (some x0)).bind fun v26 => (xk_gr (σ25) 0 (v26)).bind fun v27 => (xk_is (σ25) 21 (v27)).bind fun b29 => (fJ2_size (b29) (σ25)).bind fun r28 => (xk_na (σ25) 0 ((3) * (r28))).bind fun σ30 => (xk_pr (σ30) 97 (some x0) (some (xk_n (σ25)))).bind fun σ31 => (xk_gr (σ31) 100 (some x0)).bind fun v32 => (xk_gr (σ31) 3 (v32)).bind fun v33 => (xk_is (σ31) 21 (v33)).bind fun b35 => (fJ2_size (b35) (σ31)).bind fun r34 => (xk_na (σ31) 0 ((nI 7) * (r34))).bind fun σ36 => (xk_pr (σ36) 98 (some x0) (some (xk_n (σ31)))).bind fun σ37 => (xk_gr (σ37) 100 (some x0)).bind fun v38 => (xk_gr (σ37) 3 (v38)).bind fun v39 => (xk_is (σ37) 21 (v39)).bind fun b41 => (fJ2_size (b41) (σ37)).bind fun r40 => (xk_na (σ37) 8 (r40)).bind fun σ42 => (xk_pr (σ42) 99 (some x0) (some (xk_n (σ37)))).bind fun σ43 => fX19_init_L143 N x0 N (σ43) (x1) (0)
set_option maxHeartbeats 4000000 in
theorem mX19_init {N : Nat} {x0 : Nat} {σ : xk_C} {x1 : Option Nat} : ∀ p, fX19_init N x0 σ x1 = some p → xk_n σ ≤ xk_n p.1 ∧ xk_s σ ≤ xk_s p.1 := fun r => show xk_lr r σ (fX19_init N x0 σ x1) from by
  unfold fX19_init
  exact (xk_lr_op xk_m_pr (fun _ => (xk_lr_rd (fun _ => (xk_lr_rd (fun _ => (xk_lr_rd (fun _ => (xk_lr_rd (fun _ => (xk_lr_op xk_m_pi (fun _ => (xk_lr_rd (fun _ => (xk_lr_rd (fun _ => (xk_lr_rd (fun _ => (xk_lr_rd (fun _ => (xk_lr_op xk_m_pi (fun _ => (xk_lr_rd (fun _ => (xk_lr_rd (fun _ => (xk_lr_op xk_m_pi (fun _ => (xk_lr_rd (fun _ => (xk_lr_rd (fun _ => (xk_lr_op xk_m_pi (fun _ => (xk_lr_rd (fun _ => (xk_lr_rd (fun _ => (xk_lr_op xk_m_pi (fun _ => (xk_lr_rd (fun _ => (xk_lr_rd (fun _ => (xk_lr_op xk_m_cln (fun _ => (xk_lr_rd (fun _ => (xk_lr_op xk_m_pr (fun _ => (xk_lr_rd (fun _ => (xk_lr_rd (fun _ => (xk_lr_rd (fun _ => (xk_lr_rd (fun _ => (xk_lr_op xk_m_na (fun _ => (xk_lr_op xk_m_pr (fun _ => (xk_lr_rd (fun _ => (xk_lr_rd (fun _ => (xk_lr_rd (fun _ => (xk_lr_rd (fun _ => (xk_lr_op xk_m_na (fun _ => (xk_lr_op xk_m_pr (fun _ => (xk_lr_rd (fun _ => (xk_lr_rd (fun _ => (xk_lr_rd (fun _ => (xk_lr_rd (fun _ => (xk_lr_op xk_m_na (fun _ => (xk_lr_op xk_m_pr (fun _ => (lX19_init_L143  N _ _ _)))))))))))))))))))))))))))))))))))))))))))))))))))))))))))))))))))))))))))))))))))))))
set_option maxHeartbeats 4000000 in
theorem tX19_init (w : gw_W) (A : Nat → Prop) (l : Launch) (N : Nat) (x0 : Nat) (σ : xk_C) (x1 : Option Nat) {r : xk_C × Unit} (h : fX19_init N x0 σ x1 = some r) : gx_T (gw_I w A) A l yX19_init iX19_init 5 [va_rf (some x0), va_rf (x1)] (xk_P A w σ) (xk_n r.1 - xk_n σ) (xk_s r.1 - xk_s σ) (xk_P A w r.1) (.returned none) := by
  refine gx_T.of (gw_I.inv w A) (by decide) ⟨rfl, rfl⟩ (gx_kR (gx_kR gx_k0)) (Nat.le_of_ble_eq_true rfl) (fun X hl hAx hX => ?_)
  subst hl
  subst hAx
  show gx_G X (xk_P (gx_A X) w (σ)) 0 0 [some (va_rf (some x0)), some (va_rf (x1)), none, none] 0 []
  have hu := mX19_init _ h
  unfold fX19_init at h
  refine xk_G0 (a := xk_n σ) (b := xk_s σ) ?_
  have hm : xk_n σ ≤ xk_n σ ∧ xk_s σ ≤ xk_s σ := ⟨Nat.le_refl _, Nat.le_refl _⟩
  refine gx_aload_n hX dX19_init_0 rfl ?_
  refine gx_aload_n hX dX19_init_1 rfl ?_
  refine xk_putrF hX 100 xk_ty100 (Or.inl ⟨_, rfl⟩) q1163 rfl ⟨rfl, rfl, rfl⟩ dX19_init_2 h (fun σ1 hτ h => xk_Gt hτ ?_)
  have hm := xk_hme hm hτ
  have hu := xk_hue hu hτ
  refine gx_aload_n hX dX19_init_5 rfl ?_
  refine gx_obj (b := x0) hX ⟨q1140, q127, q128⟩ (by decide) (gx_w8 gx_k0 (Nat.le_of_ble_eq_true rfl)) dX19_init_6 rfl ?_
  refine gx_aload_n hX dX19_init_9 rfl ?_
  refine gx_aload_n hX dX19_init_10 rfl ?_
  refine xk_getr hX 100 q1163 (fun _ h => h) rfl dX19_init_11 h (fun v2 h => ?_)
  refine xk_getrN hX 0 q208 rfl dX19_init_14 h (fun v3 h => ?_)
  obtain ⟨b5, hb, h⟩ := gx_bs h
  obtain ⟨eb, hkb⟩ := xk_isS hb
  obtain ⟨r4, hr4, h⟩ := gx_bs h
  refine gx_cV (As := []) (rest := [va_rf (some x0)]) (b := b5) hX (tJ2_size w (gx_A X) (gx_l X) (b5) (σ1)  hr4) (lw_V q1141 q315 q316 q89 q317) ⟨rfl, dsJ2_size⟩ (by decide) (Nat.le_of_ble_eq_true rfl) (xk_rc hX (ci := 20) (by decide) (by decide) hkb) (by rw [eb]; rfl) (gx_w8 (gx_kR gx_k0) (Nat.le_of_ble_eq_true rfl)) dX19_init_17 (xk_hfe hu) rfl (xk_Gz ?_)
  refine xk_putiF hX 91 xk_ty91 rfl q1154 rfl ⟨rfl, rfl, rfl⟩ dX19_init_20 h (fun σ6 hτ h => xk_Gt hτ ?_)
  have hm := xk_hme hm hτ
  have hu := xk_hue hu hτ
  refine gx_aload_n hX dX19_init_23 rfl ?_
  refine gx_aload_n hX dX19_init_24 rfl ?_
  refine xk_getr hX 100 q1163 (fun _ h => h) rfl dX19_init_25 h (fun v7 h => ?_)
  refine xk_getrN hX 3 q213 rfl dX19_init_28 h (fun v8 h => ?_)
  obtain ⟨b10, hb, h⟩ := gx_bs h
  obtain ⟨eb, hkb⟩ := xk_isS hb
  obtain ⟨r9, hr9, h⟩ := gx_bs h
  refine gx_cV (As := []) (rest := [va_rf (some x0)]) (b := b10) hX (tJ2_size w (gx_A X) (gx_l X) (b10) (σ6)  hr9) (lw_V q1141 q315 q316 q89 q317) ⟨rfl, dsJ2_size⟩ (by decide) (Nat.le_of_ble_eq_true rfl) (xk_rc hX (ci := 20) (by decide) (by decide) hkb) (by rw [eb]; rfl) (gx_w8 (gx_kR gx_k0) (Nat.le_of_ble_eq_true rfl)) dX19_init_31 (xk_hfe hu) rfl (xk_Gz ?_)
  refine xk_putiF hX 92 xk_ty92 rfl q1155 rfl ⟨rfl, rfl, rfl⟩ dX19_init_34 h (fun σ11 hτ h => xk_Gt hτ ?_)
  have hm := xk_hme hm hτ
  have hu := xk_hue hu hτ
  refine gx_aload_n hX dX19_init_37 rfl ?_
  refine gx_aload_n hX dX19_init_38 rfl ?_
  refine xk_getr hX 100 q1163 (fun _ h => h) rfl dX19_init_39 h (fun v12 h => ?_)
  refine xk_getiN hX 4 q216 rfl dX19_init_42 h (fun v13 h => ?_)
  refine xk_putiF hX 93 xk_ty93 rfl q1156 rfl ⟨rfl, rfl, rfl⟩ dX19_init_45 h (fun σ14 hτ h => xk_Gt hτ ?_)
  have hm := xk_hme hm hτ
  have hu := xk_hue hu hτ
  refine gx_aload_n hX dX19_init_48 rfl ?_
  refine gx_aload_n hX dX19_init_49 rfl ?_
  refine xk_getr hX 100 q1163 (fun _ h => h) rfl dX19_init_50 h (fun v15 h => ?_)
  refine xk_getiN hX 5 q218 rfl dX19_init_53 h (fun v16 h => ?_)
  refine xk_putiF hX 94 xk_ty94 rfl q1157 rfl ⟨rfl, rfl, rfl⟩ dX19_init_56 h (fun σ17 hτ h => xk_Gt hτ ?_)
  have hm := xk_hme hm hτ
  have hu := xk_hue hu hτ
  refine gx_aload_n hX dX19_init_59 rfl ?_
  refine gx_aload_n hX dX19_init_60 rfl ?_
  refine xk_getr hX 100 q1163 (fun _ h => h) rfl dX19_init_61 h (fun v18 h => ?_)
  refine xk_getiN hX 6 q221 rfl dX19_init_64 h (fun v19 h => ?_)
  refine xk_putiF hX 95 xk_ty95 rfl q1158 rfl ⟨rfl, rfl, rfl⟩ dX19_init_67 h (fun σ20 hτ h => xk_Gt hτ ?_)
  have hm := xk_hme hm hτ
  have hu := xk_hue hu hτ
  refine gx_aload_n hX dX19_init_70 rfl ?_
  refine gx_aload_n hX dX19_init_71 rfl ?_
  refine xk_getr hX 100 q1163 (fun _ h => h) rfl dX19_init_72 h (fun v21 h => ?_)
  refine xk_getrN hX 7 q223 rfl dX19_init_75 h (fun v22 h => ?_)
  refine xk_clone hX ⟨q1142, q1143, q1144, q1145, q1146⟩ q1147 (by decide) (gx_w8 (gx_kR gx_k0) (Nat.le_of_ble_eq_true rfl)) rfl dX19_init_78 h (fun _ _ σ23 hτ h => ?_)
  have hu := xk_use (C := σ23) h (xk_lr_rd (fun _ => (xk_lr_op xk_m_pr (fun _ => (xk_lr_rd (fun _ => (xk_lr_rd (fun _ => (xk_lr_rd (fun _ => (xk_lr_rd (fun _ => (xk_lr_op xk_m_na (fun _ => (xk_lr_op xk_m_pr (fun _ => (xk_lr_rd (fun _ => (xk_lr_rd (fun _ => (xk_lr_rd (fun _ => (xk_lr_rd (fun _ => (xk_lr_op xk_m_na (fun _ => (xk_lr_op xk_m_pr (fun _ => (xk_lr_rd (fun _ => (xk_lr_rd (fun _ => (xk_lr_rd (fun _ => (xk_lr_rd (fun _ => (xk_lr_op xk_m_na (fun _ => (xk_lr_op xk_m_pr (fun _ => (lX19_init_L143  N _ _ _)))))))))))))))))))))))))))))))))))))))))
  refine ⟨xk_hfm hm hτ hu, xk_Gm hm hτ ?_⟩
  have hm := xk_hmm hm hτ
  refine xk_castA hX 0 (by decide) (xk_intf hX) q1148 dX19_init_81 h (fun h => ?_)
  refine xk_putrF hX 96 xk_ty96 (Or.inr ⟨_, rfl⟩) q1159 rfl ⟨rfl, rfl, rfl⟩ dX19_init_84 h (fun σ25 hτ h => xk_Gt hτ ?_)
  have hm := xk_hme hm hτ
  have hu := xk_hue hu hτ
  refine gx_aload_n hX dX19_init_87 rfl ?_
  refine gx_iconst (v := 3) hX dX19_init_88 (by decide) ?_
  refine gx_aload_n hX dX19_init_89 rfl ?_
  refine xk_getr hX 100 q1163 (fun _ h => h) rfl dX19_init_90 h (fun v26 h => ?_)
  refine xk_getrN hX 0 q208 rfl dX19_init_93 h (fun v27 h => ?_)
  obtain ⟨b29, hb, h⟩ := gx_bs h
  obtain ⟨eb, hkb⟩ := xk_isS hb
  obtain ⟨r28, hr28, h⟩ := gx_bs h
  refine gx_cV (As := []) (rest := [.int (3), va_rf (some x0)]) (b := b29) hX (tJ2_size w (gx_A X) (gx_l X) (b29) (σ25)  hr28) (lw_V q1141 q315 q316 q89 q317) ⟨rfl, dsJ2_size⟩ (by decide) (Nat.le_of_ble_eq_true rfl) (xk_rc hX (ci := 20) (by decide) (by decide) hkb) (by rw [eb]; rfl) (gx_w8 (gx_kI (gx_kR gx_k0)) (Nat.le_of_ble_eq_true rfl)) dX19_init_96 (xk_hfe hu) rfl (xk_Gz ?_)
  refine gx_imul hX dX19_init_99 ?_
  refine xk_newa (atype := .int) hX 0 ⟨by decide, rfl, by decide, rfl, fun _ => rfl⟩ q177 dX19_init_100 h (fun σ30 hτ h => ?_)
  have hu := xk_use (C := σ30) h (xk_lr_op xk_m_pr (fun _ => (xk_lr_rd (fun _ => (xk_lr_rd (fun _ => (xk_lr_rd (fun _ => (xk_lr_rd (fun _ => (xk_lr_op xk_m_na (fun _ => (xk_lr_op xk_m_pr (fun _ => (xk_lr_rd (fun _ => (xk_lr_rd (fun _ => (xk_lr_rd (fun _ => (xk_lr_rd (fun _ => (xk_lr_op xk_m_na (fun _ => (xk_lr_op xk_m_pr (fun _ => (lX19_init_L143  N _ _ _)))))))))))))))))))))))))))
  refine ⟨xk_hfm hm hτ hu, xk_Gm hm hτ ?_⟩
  have hm := xk_hmm hm hτ
  refine xk_putrF hX 97 xk_ty97 (Or.inr ⟨_, rfl⟩) q1160 rfl ⟨rfl, rfl, rfl⟩ dX19_init_102 h (fun σ31 hτ h => xk_Gt hτ ?_)
  have hm := xk_hme hm hτ
  have hu := xk_hue hu hτ
  refine gx_aload_n hX dX19_init_105 rfl ?_
  refine gx_bipush (v := nI 7) hX dX19_init_106 (by decide) ?_
  refine gx_aload_n hX dX19_init_108 rfl ?_
  refine xk_getr hX 100 q1163 (fun _ h => h) rfl dX19_init_109 h (fun v32 h => ?_)
  refine xk_getrN hX 3 q213 rfl dX19_init_112 h (fun v33 h => ?_)
  obtain ⟨b35, hb, h⟩ := gx_bs h
  obtain ⟨eb, hkb⟩ := xk_isS hb
  obtain ⟨r34, hr34, h⟩ := gx_bs h
  refine gx_cV (As := []) (rest := [.int (nI 7), va_rf (some x0)]) (b := b35) hX (tJ2_size w (gx_A X) (gx_l X) (b35) (σ31)  hr34) (lw_V q1141 q315 q316 q89 q317) ⟨rfl, dsJ2_size⟩ (by decide) (Nat.le_of_ble_eq_true rfl) (xk_rc hX (ci := 20) (by decide) (by decide) hkb) (by rw [eb]; rfl) (gx_w8 (gx_kI (gx_kR gx_k0)) (Nat.le_of_ble_eq_true rfl)) dX19_init_115 (xk_hfe hu) rfl (xk_Gz ?_)
  refine gx_imul hX dX19_init_118 ?_
  refine xk_newa (atype := .int) hX 0 ⟨by decide, rfl, by decide, rfl, fun _ => rfl⟩ q177 dX19_init_119 h (fun σ36 hτ h => ?_)
  have hu := xk_use (C := σ36) h (xk_lr_op xk_m_pr (fun _ => (xk_lr_rd (fun _ => (xk_lr_rd (fun _ => (xk_lr_rd (fun _ => (xk_lr_rd (fun _ => (xk_lr_op xk_m_na (fun _ => (xk_lr_op xk_m_pr (fun _ => (lX19_init_L143  N _ _ _)))))))))))))))
  refine ⟨xk_hfm hm hτ hu, xk_Gm hm hτ ?_⟩
  have hm := xk_hmm hm hτ
  refine xk_putrF hX 98 xk_ty98 (Or.inr ⟨_, rfl⟩) q1161 rfl ⟨rfl, rfl, rfl⟩ dX19_init_121 h (fun σ37 hτ h => xk_Gt hτ ?_)
  have hm := xk_hme hm hτ
  have hu := xk_hue hu hτ
  refine gx_aload_n hX dX19_init_124 rfl ?_
  refine gx_aload_n hX dX19_init_125 rfl ?_
  refine xk_getr hX 100 q1163 (fun _ h => h) rfl dX19_init_126 h (fun v38 h => ?_)
  refine xk_getrN hX 3 q213 rfl dX19_init_129 h (fun v39 h => ?_)
  obtain ⟨b41, hb, h⟩ := gx_bs h
  obtain ⟨eb, hkb⟩ := xk_isS hb
  obtain ⟨r40, hr40, h⟩ := gx_bs h
  refine gx_cV (As := []) (rest := [va_rf (some x0)]) (b := b41) hX (tJ2_size w (gx_A X) (gx_l X) (b41) (σ37)  hr40) (lw_V q1141 q315 q316 q89 q317) ⟨rfl, dsJ2_size⟩ (by decide) (Nat.le_of_ble_eq_true rfl) (xk_rc hX (ci := 20) (by decide) (by decide) hkb) (by rw [eb]; rfl) (gx_w8 (gx_kR gx_k0) (Nat.le_of_ble_eq_true rfl)) dX19_init_132 (xk_hfe hu) rfl (xk_Gz ?_)
  refine xk_anew hX 8 ⟨by decide, by decide⟩ q1149 dX19_init_135 h (fun σ42 hτ h => ?_)
  have hu := xk_use (C := σ42) h (xk_lr_op xk_m_pr (fun _ => (lX19_init_L143  N _ _ _)))
  refine ⟨xk_hfm hm hτ hu, xk_Gm hm hτ ?_⟩
  have hm := xk_hmm hm hτ
  refine xk_putrF hX 99 xk_ty99 (Or.inr ⟨_, rfl⟩) q1162 rfl ⟨rfl, rfl, rfl⟩ dX19_init_138 h (fun σ43 hτ h => xk_Gt hτ ?_)
  have hm := xk_hme hm hτ
  have hu := xk_hue hu hτ
  refine gx_iconst (v := 0) hX dX19_init_141 (by decide) ?_
  refine gx_istore_n hX dX19_init_142 (Nat.le_of_ble_eq_true rfl) gx_c1r (lv' := [some (va_rf (some x0)), some (va_rf (x1)), some (.int (0)), none]) rfl ?_
  exact tX19_init_L143 hX  N _ _ _ hm h
abbrev iX0_findMend : gx_M := (RX0, "findMend", cX0_findMend, 7, some .boolean)
theorem dsX0_findMend : gx_ds yX0_findMend 3 := by decide +kernel
def fX0_findMend_L46 (N : Nat) (x0 : Nat)  (K37 : xk_C → Option Nat → Int32 → Int32 → Option Nat → Int32 → Option (xk_C × Int32)) : Nat → xk_C → Option Nat → Int32 → Int32 → Option Nat → Int32 → Int32 → Option (xk_C × Int32)
  | 0, _, _, _, _, _, _, _ => none
  | k + 1, σ, x1, x2, x3, x4, x5, x6 => (xk_gr (σ) 68 (x1)).bind fun v7 => (xk_is (σ) 21 (v7)).bind fun b9 => (fJ2_size (b9) (σ)).bind fun r8 => if (r8) ≤ x6 then K37 (σ) (x1) (x2) (x3) (x4) ((x5) + 1) else (xk_is (σ) 1 (some x0)).bind fun b11 => (fX0_mends N (b11) (σ) (x4) (x1) (x6) (-(x5)) (x2) (x3)).bind fun r10 => if r10.2 = 0 then (xk_is (r10.1) 1 (some x0)).bind fun b13 => (fX0_mends N (b13) (r10.1) (x4) (x1) (x6) (x5) (x2) (x3)).bind fun r12 => if r12.2 = 0 then (fX0_findMend_L46 N x0 K37 k) (r12.1) (x1) (x2) (x3) (x4) (x5) ((x6) + 1) else some (r12.1, 1) else some (r10.1, 1)
set_option maxHeartbeats 4000000 in
theorem lX0_findMend_L46 {r : xk_C × Int32} {N : Nat} {x0 : Nat} {K37 : xk_C → Option Nat → Int32 → Int32 → Option Nat → Int32 → Option (xk_C × Int32)} (hL37 : ∀ (σ : xk_C) (x1 : Option Nat) (x2 : Int32) (x3 : Int32) (x4 : Option Nat) (x5 : Int32), xk_lr r σ (K37 σ x1 x2 x3 x4 x5)) : ∀ (k : Nat) (σ : xk_C) (x1 : Option Nat) (x2 : Int32) (x3 : Int32) (x4 : Option Nat) (x5 : Int32) (x6 : Int32), xk_lr r σ (fX0_findMend_L46 N x0 K37 k σ x1 x2 x3 x4 x5 x6) := by
  intro k
  induction k with
  | zero =>
    intro σ x1 x2 x3 x4 x5 x6
    unfold fX0_findMend_L46
    exact xk_lr_none
  | succ k hL46 =>
    intro σ x1 x2 x3 x4 x5 x6
    unfold fX0_findMend_L46
    exact (xk_lr_rd (fun _ => (xk_lr_rd (fun _ => (xk_lr_rd (fun _ => (xk_lr_ite (hL37 _ _ _ _ _ _) (xk_lr_rd (fun _ => (xk_lr_ca (mX0_mends) (fun _ => (xk_lr_ite (xk_lr_rd (fun _ => (xk_lr_ca (mX0_mends) (fun _ => (xk_lr_ite (hL46 _ _ _ _ _ _ _) xk_lr_ret))))) xk_lr_ret))))))))))))
set_option maxHeartbeats 4000000 in
theorem tX0_findMend_L46 {w : gw_W} {X : gx_X} {N : Nat} {x0 : Nat} {n0 s0 : Nat} {r : xk_C × Int32} (hX : gx_O (gw_I w (gx_A X)) X iX0_findMend 141 (xk_n r.1 - n0) (xk_s r.1 - s0) (xk_P (gx_A X) w r.1) (.returned (some (.int r.2)))) {K37 : xk_C → Option Nat → Int32 → Int32 → Option Nat → Int32 → Option (xk_C × Int32)} (hK37 : ∀ (σ : xk_C) (x1 : Option Nat) (x2 : Int32) (x3 : Int32) (x4 : Option Nat) (x5 : Int32), (n0 ≤ xk_n σ ∧ s0 ≤ xk_s σ) → K37 σ x1 x2 x3 x4 x5 = some r → gx_G X (xk_P (gx_A X) w (σ)) (xk_n (σ) - n0) (xk_s (σ) - s0) [some (va_rf (some x0)), some (va_rf (x1)), some (.int (x2)), some (.int (x3)), some (va_rf (x4)), some (.int (x5)), none] 37 []) (hL37 : ∀ (σ : xk_C) (x1 : Option Nat) (x2 : Int32) (x3 : Int32) (x4 : Option Nat) (x5 : Int32), xk_lr r σ (K37 σ x1 x2 x3 x4 x5)) : ∀ (k : Nat) (σ : xk_C) (x1 : Option Nat) (x2 : Int32) (x3 : Int32) (x4 : Option Nat) (x5 : Int32) (x6 : Int32), (n0 ≤ xk_n σ ∧ s0 ≤ xk_s σ) → fX0_findMend_L46 N x0 K37 k σ x1 x2 x3 x4 x5 x6 = some r → gx_G X (xk_P (gx_A X) w (σ)) (xk_n (σ) - n0) (xk_s (σ) - s0) [some (va_rf (some x0)), some (va_rf (x1)), some (.int (x2)), some (.int (x3)), some (va_rf (x4)), some (.int (x5)), some (.int (x6))] 46 [] := by
  intro k
  induction k with
  | zero =>
    intro σ x1 x2 x3 x4 x5 x6 hm h
    unfold fX0_findMend_L46 at h
    cases h
  | succ k ih =>
    intro σ x1 x2 x3 x4 x5 x6 hm h
    have hu := lX0_findMend_L46 (r := r) hL37 (k + 1) _ _ _ _ _ _ _ h
    unfold fX0_findMend_L46 at h
    have hL46 : ∀ (σ : xk_C) (x1 : Option Nat) (x2 : Int32) (x3 : Int32) (x4 : Option Nat) (x5 : Int32) (x6 : Int32), xk_lr r σ (fX0_findMend_L46 N x0 K37 k σ x1 x2 x3 x4 x5 x6) := fun σ x1 x2 x3 x4 x5 x6 => lX0_findMend_L46 hL37 k σ x1 x2 x3 x4 x5 x6
    refine gx_iload hX dX0_findMend_46 rfl ?_
    refine gx_aload_n hX dX0_findMend_48 rfl ?_
    refine xk_getrN hX 68 q746 rfl dX0_findMend_49 h (fun v7 h => ?_)
    obtain ⟨b9, hb, h⟩ := gx_bs h
    obtain ⟨eb, hkb⟩ := xk_isS hb
    obtain ⟨r8, hr8, h⟩ := gx_bs h
    refine gx_cV (As := []) (rest := [.int (x6)]) (b := b9) hX (tJ2_size w (gx_A X) (gx_l X) (b9) (σ)  hr8) (lw_V q314 q315 q316 q89 q317) ⟨rfl, dsJ2_size⟩ (by decide) (Nat.le_of_ble_eq_true rfl) (xk_rc hX (ci := 20) (by decide) (by decide) hkb) (by rw [eb]; rfl) (gx_w8 (gx_kI gx_k0) (Nat.le_of_ble_eq_true rfl)) dX0_findMend_52 (xk_hfe hu) rfl (xk_Gz ?_)
    refine gx_icmp_ge (tgt := 99) hX dX0_findMend_55 (by decide) h (fun h => ?_) (fun h => ?_)
    · refine gx_iinc (v := 1) hX dX0_findMend_99 rfl (by decide) gx_c1r (lv' := [some (va_rf (some x0)), some (va_rf (x1)), some (.int (x2)), some (.int (x3)), some (va_rf (x4)), some (.int ((x5) + 1)), some (.int (x6))]) rfl ?_
      refine gx_goto (tgt := 37) hX dX0_findMend_102 (by decide) ?_
      refine gx_sub hX (lv' := [some (va_rf (some x0)), some (va_rf (x1)), some (.int (x2)), some (.int (x3)), some (va_rf (x4)), some (.int ((x5) + 1)), none]) ⟨Or.inr rfl, ⟨Or.inr rfl, ⟨Or.inr rfl, ⟨Or.inr rfl, ⟨Or.inr rfl, ⟨Or.inr rfl, ⟨Or.inl rfl, trivial⟩⟩⟩⟩⟩⟩⟩ ?_
      exact hK37 _ _ _ _ _ _ hm h
    · refine gx_aload_n hX dX0_findMend_58 rfl ?_
      refine gx_aload hX dX0_findMend_59 rfl ?_
      refine gx_aload_n hX dX0_findMend_61 rfl ?_
      refine gx_iload hX dX0_findMend_62 rfl ?_
      refine gx_iload hX dX0_findMend_64 rfl ?_
      refine gx_ineg hX dX0_findMend_66 ?_
      refine gx_iload_n hX dX0_findMend_67 rfl ?_
      refine gx_iload_n hX dX0_findMend_68 rfl ?_
      obtain ⟨b11, hb, h⟩ := gx_bs h
      obtain ⟨eb, hkb⟩ := xk_isS hb
      obtain ⟨r10, hr10, h⟩ := gx_bs h
      have he := eX0_mends _ hr10
      refine gx_cV (As := [va_rf (x4), va_rf (x1), .int (x6), .int (-(x5)), .int (x2), .int (x3)]) (rest := []) (b := b11) hX (tX0_mends w (gx_A X) (gx_l X) N (b11) (σ) (x4) (x1) (x6) (-(x5)) (x2) (x3) hr10) (lw_V q1207 q1209 qs31 q86 q1210) ⟨rfl, dsX0_mends⟩ (by decide) (Nat.le_of_ble_eq_true rfl) (xk_rc hX (ci := 0) (by decide) (by decide) hkb) (by rw [eb]; rfl) (gx_w8 gx_k0 (Nat.le_of_ble_eq_true rfl)) dX0_findMend_69 (xk_hfe hu) rfl (xk_Ge he ?_)
      have hm := xk_hme hm he
      have hu := xk_hue hu he
      refine gx_if_ne (tgt := 91) hX dX0_findMend_72 (by decide) h (fun h => ?_) (fun h => ?_)
      · refine gx_aload_n hX dX0_findMend_75 rfl ?_
        refine gx_aload hX dX0_findMend_76 rfl ?_
        refine gx_aload_n hX dX0_findMend_78 rfl ?_
        refine gx_iload hX dX0_findMend_79 rfl ?_
        refine gx_iload hX dX0_findMend_81 rfl ?_
        refine gx_iload_n hX dX0_findMend_83 rfl ?_
        refine gx_iload_n hX dX0_findMend_84 rfl ?_
        obtain ⟨b13, hb, h⟩ := gx_bs h
        obtain ⟨eb, hkb⟩ := xk_isS hb
        obtain ⟨r12, hr12, h⟩ := gx_bs h
        have he := eX0_mends _ hr12
        refine gx_cV (As := [va_rf (x4), va_rf (x1), .int (x6), .int (x5), .int (x2), .int (x3)]) (rest := []) (b := b13) hX (tX0_mends w (gx_A X) (gx_l X) N (b13) (r10.1) (x4) (x1) (x6) (x5) (x2) (x3) hr12) (lw_V q1207 q1209 qs31 q86 q1210) ⟨rfl, dsX0_mends⟩ (by decide) (Nat.le_of_ble_eq_true rfl) (xk_rc hX (ci := 0) (by decide) (by decide) hkb) (by rw [eb]; rfl) (gx_w8 gx_k0 (Nat.le_of_ble_eq_true rfl)) dX0_findMend_85 (xk_hfe hu) rfl (xk_Ge he ?_)
        have hm := xk_hme hm he
        have hu := xk_hue hu he
        refine gx_if_eq (tgt := 93) hX dX0_findMend_88 (by decide) h (fun h => ?_) (fun h => ?_)
        · refine gx_iinc (v := 1) hX dX0_findMend_93 rfl (by decide) gx_c1i (lv' := [some (va_rf (some x0)), some (va_rf (x1)), some (.int (x2)), some (.int (x3)), some (va_rf (x4)), some (.int (x5)), some (.int ((x6) + 1))]) rfl ?_
          refine gx_goto (tgt := 46) hX dX0_findMend_96 (by decide) ?_
          exact ih _ _ _ _ _ _ _ hm h
        · refine gx_iconst (v := 1) hX dX0_findMend_91 (by decide) ?_
          cases h
          exact gx_zret hX rfl rfl dX0_findMend_92 rfl ⟨rfl, rfl⟩ (fun _ h => h)
      · refine gx_iconst (v := 1) hX dX0_findMend_91 (by decide) ?_
        cases h
        exact gx_zret hX rfl rfl dX0_findMend_92 rfl ⟨rfl, rfl⟩ (fun _ h => h)
def fX0_findMend_L37 (N : Nat) (x0 : Nat)   : Nat → xk_C → Option Nat → Int32 → Int32 → Option Nat → Int32 → Option (xk_C × Int32)
  | 0, _, _, _, _, _, _ => none
  | k + 1, σ, x1, x2, x3, x4, x5 => if (5) < x5 then some (σ, 0) else fX0_findMend_L46 N x0 (fX0_findMend_L37 N x0 k) N (σ) (x1) (x2) (x3) (x4) (x5) (0)
set_option maxHeartbeats 4000000 in
theorem lX0_findMend_L37 {r : xk_C × Int32} {N : Nat} {x0 : Nat}   : ∀ (k : Nat) (σ : xk_C) (x1 : Option Nat) (x2 : Int32) (x3 : Int32) (x4 : Option Nat) (x5 : Int32), xk_lr r σ (fX0_findMend_L37 N x0 k σ x1 x2 x3 x4 x5) := by
  intro k
  induction k with
  | zero =>
    intro σ x1 x2 x3 x4 x5
    unfold fX0_findMend_L37
    exact xk_lr_none
  | succ k hL37 =>
    intro σ x1 x2 x3 x4 x5
    unfold fX0_findMend_L37
    exact (xk_lr_ite xk_lr_ret (lX0_findMend_L46 hL37 N _ _ _ _ _ _ _))
set_option maxHeartbeats 4000000 in
theorem tX0_findMend_L37 {w : gw_W} {X : gx_X} {N : Nat} {x0 : Nat} {n0 s0 : Nat} {r : xk_C × Int32} (hX : gx_O (gw_I w (gx_A X)) X iX0_findMend 141 (xk_n r.1 - n0) (xk_s r.1 - s0) (xk_P (gx_A X) w r.1) (.returned (some (.int r.2))))  : ∀ (k : Nat) (σ : xk_C) (x1 : Option Nat) (x2 : Int32) (x3 : Int32) (x4 : Option Nat) (x5 : Int32), (n0 ≤ xk_n σ ∧ s0 ≤ xk_s σ) → fX0_findMend_L37 N x0 k σ x1 x2 x3 x4 x5 = some r → gx_G X (xk_P (gx_A X) w (σ)) (xk_n (σ) - n0) (xk_s (σ) - s0) [some (va_rf (some x0)), some (va_rf (x1)), some (.int (x2)), some (.int (x3)), some (va_rf (x4)), some (.int (x5)), none] 37 [] := by
  intro k
  induction k with
  | zero =>
    intro σ x1 x2 x3 x4 x5 hm h
    unfold fX0_findMend_L37 at h
    cases h
  | succ k ih =>
    intro σ x1 x2 x3 x4 x5 hm h
    have hu := lX0_findMend_L37 (r := r)  (k + 1) _ _ _ _ _ _ h
    unfold fX0_findMend_L37 at h
    have hL37 : ∀ (σ : xk_C) (x1 : Option Nat) (x2 : Int32) (x3 : Int32) (x4 : Option Nat) (x5 : Int32), xk_lr r σ (fX0_findMend_L37 N x0 k σ x1 x2 x3 x4 x5) := fun σ x1 x2 x3 x4 x5 => lX0_findMend_L37  k σ x1 x2 x3 x4 x5
    refine gx_iload hX dX0_findMend_37 rfl ?_
    refine gx_iconst (v := 5) hX dX0_findMend_39 (by decide) ?_
    refine gx_icmp_gt (tgt := 105) hX dX0_findMend_40 (by decide) h (fun h => ?_) (fun h => ?_)
    · refine gx_iconst (v := 0) hX dX0_findMend_105 (by decide) ?_
      cases h
      exact gx_zret hX rfl rfl dX0_findMend_106 rfl ⟨rfl, rfl⟩ (fun _ h => h)
    · refine gx_iconst (v := 0) hX dX0_findMend_43 (by decide) ?_
      refine gx_istore hX dX0_findMend_44 (Nat.le_of_ble_eq_true rfl) gx_c1i (lv' := [some (va_rf (some x0)), some (va_rf (x1)), some (.int (x2)), some (.int (x3)), some (va_rf (x4)), some (.int (x5)), some (.int (0))]) rfl ?_
      exact tX0_findMend_L46 hX ih hL37 N _ _ _ _ _ _ _ hm h
def fX0_findMend (N : Nat) (x0 : Nat) (σ : xk_C) (x1 : Option Nat) (x2 : Int32) (x3 : Int32) : Option (xk_C × Int32) := (xk_nw (σ) 19).bind fun σ1 => (fX19_init N ((xk_n (σ))) (σ1) (some x0)).bind fun r2 => (xk_pi (r2.1) 24 (some x0) (0)).bind fun σ3 => (xk_pi (σ3) 25 (some x0) ((-5))).bind fun σ4 => (xk_is (σ4) 1 (some x0)).bind fun b6 => (fX0_isEnough N (b6) (σ4) (some (xk_n (σ))) (x2) (x3)).bind fun r5 => if r5.2 = 0 then fX0_findMend_L37 N x0 N (r5.1) (x1) (x2) (x3) (some (xk_n (σ))) (1) else some (r5.1, 1)
set_option maxHeartbeats 4000000 in
theorem mX0_findMend {N : Nat} {x0 : Nat} {σ : xk_C} {x1 : Option Nat} {x2 : Int32} {x3 : Int32} : ∀ p, fX0_findMend N x0 σ x1 x2 x3 = some p → xk_n σ ≤ xk_n p.1 ∧ xk_s σ ≤ xk_s p.1 := fun r => show xk_lr r σ (fX0_findMend N x0 σ x1 x2 x3) from by
  unfold fX0_findMend
  exact (xk_lr_op xk_m_nw (fun _ => (xk_lr_ca (mX19_init) (fun _ => (xk_lr_op xk_m_pi (fun _ => (xk_lr_op xk_m_pi (fun _ => (xk_lr_rd (fun _ => (xk_lr_ca (mX0_isEnough) (fun _ => (xk_lr_ite (lX0_findMend_L37  N _ _ _ _ _ _) xk_lr_ret)))))))))))))
set_option maxHeartbeats 4000000 in
theorem tX0_findMend (w : gw_W) (A : Nat → Prop) (l : Launch) (N : Nat) (x0 : Nat) (σ : xk_C) (x1 : Option Nat) (x2 : Int32) (x3 : Int32) {r : xk_C × Int32} (h : fX0_findMend N x0 σ x1 x2 x3 = some r) : gx_T (gw_I w A) A l yX0_findMend iX0_findMend 141 [va_rf (some x0), va_rf (x1), .int (x2), .int (x3)] (xk_P A w σ) (xk_n r.1 - xk_n σ) (xk_s r.1 - xk_s σ) (xk_P A w r.1) (.returned (some (.int r.2))) := by
  refine gx_T.of (gw_I.inv w A) (by decide) ⟨rfl, rfl⟩ (gx_kR (gx_kR (gx_kI (gx_kI gx_k0)))) (Nat.le_of_ble_eq_true rfl) (fun X hl hAx hX => ?_)
  subst hl
  subst hAx
  show gx_G X (xk_P (gx_A X) w (σ)) 0 0 [some (va_rf (some x0)), some (va_rf (x1)), some (.int (x2)), some (.int (x3)), none, none, none] 0 []
  have hu := mX0_findMend _ h
  unfold fX0_findMend at h
  refine xk_G0 (a := xk_n σ) (b := xk_s σ) ?_
  have hm : xk_n σ ≤ xk_n σ ∧ xk_s σ ≤ xk_s σ := ⟨Nat.le_refl _, Nat.le_refl _⟩
  refine xk_new hX 19 ⟨by decide, by decide⟩ ⟨q1135, q1136, q120⟩ dX0_findMend_0 h (fun σ1 hτ h => ?_)
  have hu := xk_use (C := σ1) h (xk_lr_ca (mX19_init) (fun _ => (xk_lr_op xk_m_pi (fun _ => (xk_lr_op xk_m_pi (fun _ => (xk_lr_rd (fun _ => (xk_lr_ca (mX0_isEnough) (fun _ => (xk_lr_ite (lX0_findMend_L37  N _ _ _ _ _ _) xk_lr_ret)))))))))))
  refine ⟨xk_hfm hm hτ hu, xk_Gm hm hτ ?_⟩
  have hm := xk_hmm hm hτ
  refine gx_dup hX dX0_findMend_3 (gx_cat _) ?_
  refine gx_aload_n hX dX0_findMend_4 rfl ?_
  obtain ⟨r2, hr2, h⟩ := gx_bs h
  have hl := (mX19_init) _ hr2
  have hu := xk_use (C := r2.1) h (xk_lr_op xk_m_pi (fun _ => (xk_lr_op xk_m_pi (fun _ => (xk_lr_rd (fun _ => (xk_lr_ca (mX0_isEnough) (fun _ => (xk_lr_ite (lX0_findMend_L37  N _ _ _ _ _ _) xk_lr_ret)))))))))
  refine gx_cI (As := [va_rf (some x0)]) (rest := [va_rf (some (xk_n (σ)))]) (b := (xk_n (σ))) (C2 := RX19) (nm2 := "<init>") hX (tX19_init w (gx_A X) (gx_l X) N ((xk_n (σ))) (σ1) (some x0) hr2) (lw_meth q1139) ⟨q120, q1137, q1138⟩ ⟨rfl, dsX19_init⟩ (by decide) (Nat.le_of_ble_eq_true rfl) rfl (gx_w8 (gx_kR gx_k0) (Nat.le_of_ble_eq_true rfl)) dX0_findMend_5 (xk_hfc hm hl hu) rfl (xk_Gc hm hl ?_)
  have hm := xk_hmc hm hl
  refine gx_astore hX dX0_findMend_8 (Nat.le_of_ble_eq_true rfl) gx_c1i (lv' := [some (va_rf (some x0)), some (va_rf (x1)), some (.int (x2)), some (.int (x3)), some (va_rf (some (xk_n (σ)))), none, none]) rfl ?_
  refine gx_aload_n hX dX0_findMend_10 rfl ?_
  refine gx_iconst (v := 0) hX dX0_findMend_11 (by decide) ?_
  refine xk_puti hX 24 xk_ty24 rfl q246 (fun _ h => h) rfl rfl dX0_findMend_12 h (fun σ3 hτ h => xk_Gt hτ ?_)
  have hm := xk_hme hm hτ
  have hu := xk_hue hu hτ
  refine gx_aload_n hX dX0_findMend_15 rfl ?_
  refine gx_bipush (v := (-5)) hX dX0_findMend_16 (by decide) ?_
  refine xk_puti hX 25 xk_ty25 rfl q247 (fun _ h => h) rfl rfl dX0_findMend_18 h (fun σ4 hτ h => xk_Gt hτ ?_)
  have hm := xk_hme hm hτ
  have hu := xk_hue hu hτ
  refine gx_aload_n hX dX0_findMend_21 rfl ?_
  refine gx_aload hX dX0_findMend_22 rfl ?_
  refine gx_iload_n hX dX0_findMend_24 rfl ?_
  refine gx_iload_n hX dX0_findMend_25 rfl ?_
  obtain ⟨b6, hb, h⟩ := gx_bs h
  obtain ⟨eb, hkb⟩ := xk_isS hb
  obtain ⟨r5, hr5, h⟩ := gx_bs h
  have he := eX0_isEnough _ hr5
  refine gx_cV (As := [va_rf (some (xk_n (σ))), .int (x2), .int (x3)]) (rest := []) (b := b6) hX (tX0_isEnough w (gx_A X) (gx_l X) N (b6) (σ4) (some (xk_n (σ))) (x2) (x3) hr5) (lw_V q1185 q1187 qs29 q86 q1188) ⟨rfl, dsX0_isEnough⟩ (by decide) (Nat.le_of_ble_eq_true rfl) (xk_rc hX (ci := 0) (by decide) (by decide) hkb) (by rw [eb]; rfl) (gx_w8 gx_k0 (Nat.le_of_ble_eq_true rfl)) dX0_findMend_26 (xk_hfe hu) rfl (xk_Ge he ?_)
  have hm := xk_hme hm he
  have hu := xk_hue hu he
  refine gx_if_eq (tgt := 34) hX dX0_findMend_29 (by decide) h (fun h => ?_) (fun h => ?_)
  · refine gx_iconst (v := 1) hX dX0_findMend_34 (by decide) ?_
    refine gx_istore hX dX0_findMend_35 (Nat.le_of_ble_eq_true rfl) gx_c1r (lv' := [some (va_rf (some x0)), some (va_rf (x1)), some (.int (x2)), some (.int (x3)), some (va_rf (some (xk_n (σ)))), some (.int (1)), none]) rfl ?_
    exact tX0_findMend_L37 hX  N _ _ _ _ _ _ hm h
  · refine gx_iconst (v := 1) hX dX0_findMend_32 (by decide) ?_
    cases h
    exact gx_zret hX rfl rfl dX0_findMend_33 rfl ⟨rfl, rfl⟩ (fun _ h => h)
