set_option maxRecDepth 100000
def fX2_fact_B176 (F : xk_C → Nat → Option (xk_C × (Nat ⊕ Option Nat))) (N : Nat) (x0 : Nat)   (σ : xk_C) (x1 : Int32) (x4 : Int32) : Option (xk_C × (Nat ⊕ Option Nat)) := (xk_gi (σ) 33 (some x0)).bind fun v38 => (xk_pi (σ) 33 (some x0) ((v38) + (1))).bind fun σ39 => (xk_nw (σ39) 16).bind fun σ40 => (xk_is (σ40) 3 (some x0)).bind fun b42 => (fX2_number N (b42) (σ40)).bind fun r43 => xk_th r43 fun σ44 v45 => (fX16_init ((xk_n (σ39))) (σ44) (x1) (x4) (v45)).bind fun r46 => (xk_gr (r46.1) 35 (some x0)).bind fun v47 => (xk_gr (r46.1) 68 (v47)).bind fun v48 => (xk_is (r46.1) 21 (v48)).bind fun b50 => (fJ2_add (b50) (r46.1) (some (xk_n (σ39)))).bind fun r49 => some (r49.1, .inr (some (xk_n (σ39))))
set_option maxHeartbeats 4000000 in
theorem lX2_fact_B176 {r : xk_C × (Nat ⊕ Option Nat)} {F : xk_C → Nat → Option (xk_C × (Nat ⊕ Option Nat))} (hFg : ∀ (σ : xk_C) (b : Nat) , ∀ p, F σ b  = some p → xk_n σ ≤ xk_n p.1 ∧ xk_s σ ≤ xk_s p.1) {N : Nat} {x0 : Nat}   {σ : xk_C} {x1 : Int32} {x4 : Int32} : xk_lr r σ (fX2_fact_B176 F N x0 σ x1 x4) := by
  unfold fX2_fact_B176
  exact (xk_lr_rd (fun _ => (xk_lr_op xk_m_pi (fun _ => (xk_lr_op xk_m_nw (fun _ => (xk_lr_rd (fun _ => (xk_lr_th (mX2_number) (fun _ _ => (xk_lr_ca (mX16_init) (fun _ => (xk_lr_rd (fun _ => (xk_lr_rd (fun _ => (xk_lr_rd (fun _ => (xk_lr_ca (mJ2_add) (fun _ => xk_lr_ret))))))))))))))))))))
set_option maxHeartbeats 4000000 in
theorem tX2_fact_B176 {w : gw_W} {X : gx_X} {F : xk_C → Nat → Option (xk_C × (Nat ⊕ Option Nat))} {lF : Nat} (hlF : 7 ≤ lF) {N : Nat} {x0 : Nat} {n0 s0 : Nat} {r : xk_C × (Nat ⊕ Option Nat)} (hF : ∀ (σ : xk_C) (b : Nat)  {r : xk_C × (Nat ⊕ Option Nat)}, F σ b  = some r → gx_TG (gw_I w (gx_A X)) (gx_A X) (gx_l X) yX2_fact iX2_fact lF [va_rf (some b)] (xk_P (gx_A X) w σ) (xk_n r.1 - xk_n σ) (xk_s r.1 - xk_s σ) (xk_P (gx_A X) w r.1) (xk_oR r.2)) (hFg : ∀ (σ : xk_C) (b : Nat) , ∀ p, F σ b  = some p → xk_n σ ≤ xk_n p.1 ∧ xk_s σ ≤ xk_s p.1) (hX : gx_O (gw_I w (gx_A X)) X iX2_fact (lF + 3) (xk_n r.1 - n0) (xk_s r.1 - s0) (xk_P (gx_A X) w r.1) (xk_oR r.2)) (hE : (gx_c X).exceptionTable.isEmpty = true)  {σ : xk_C} {x1 : Int32} {x4 : Int32} (hm : n0 ≤ xk_n σ ∧ s0 ≤ xk_s σ) (h : fX2_fact_B176 F N x0 σ x1 x4 = some r) : gx_G X (xk_P (gx_A X) w (σ)) (xk_n (σ) - n0) (xk_s (σ) - s0) [some (va_rf (some x0)), some (.int (x1)), none, none, some (.int (x4)), none] 176 [] := by
  have hu := lX2_fact_B176 (r := r) hFg  h
  unfold fX2_fact_B176 at h
  refine gx_aload_n hX dX2_fact_176 rfl ?_
  refine gx_dup hX dX2_fact_177 (gx_cat _) ?_
  refine xk_geti hX 33 q188 (fun _ h => h) rfl dX2_fact_178 h (fun v38 h => ?_)
  refine gx_iconst (v := 1) hX dX2_fact_181 (by decide) ?_
  refine gx_iadd hX dX2_fact_182 ?_
  refine xk_puti hX 33 xk_ty33 rfl q188 (fun _ h => h) rfl rfl dX2_fact_183 h (fun σ39 hτ h => xk_Gt hτ ?_)
  have hm := xk_hme hm hτ
  have hu := xk_hue hu hτ
  refine xk_new hX 16 ⟨by decide, by decide⟩ ⟨q864, q865, q113⟩ dX2_fact_186 h (fun σ40 hτ h => ?_)
  have hu := xk_use (C := σ40) h (xk_lr_rd (fun _ => (xk_lr_th (mX2_number) (fun _ _ => (xk_lr_ca (mX16_init) (fun _ => (xk_lr_rd (fun _ => (xk_lr_rd (fun _ => (xk_lr_rd (fun _ => (xk_lr_ca (mJ2_add) (fun _ => xk_lr_ret))))))))))))))
  refine ⟨xk_hfm hm hτ hu, xk_Gm hm hτ ?_⟩
  have hm := xk_hmm hm hτ
  refine gx_dup hX dX2_fact_189 (gx_cat _) ?_
  refine gx_iload_n hX dX2_fact_190 rfl ?_
  refine gx_iload hX dX2_fact_191 rfl ?_
  refine gx_aload_n hX dX2_fact_193 rfl ?_
  obtain ⟨b42, hb, h⟩ := gx_bs h
  obtain ⟨eb, hkb⟩ := xk_isS hb
  obtain ⟨r43, hr43, h⟩ := gx_bs h
  obtain ⟨σ44, s0σ44⟩ := r43
  have hl := (mX2_number) _ hr43
  dsimp only at hl
  cases s0σ44 with
  | inl e9 =>
    cases xk_thL h
    exact gx_cVX (As := []) (rest := [.int (x4), .int (x1), va_rf (some (xk_n (σ39))), va_rf (some (xk_n (σ39)))]) (b := b42) (x := e9) (P2 := xk_P (gx_A X) w σ44) hX hE (tX2_number w (gx_A X) (gx_l X) N (b42) (σ40)  hr43) (lw_V q866 q868 qs16 q91 q869) ⟨rfl, dsX2_number⟩ (by omega) (Nat.le_of_ble_eq_true rfl) (xk_rc hX (ci := 2) (by decide) (by decide) hkb) (by rw [eb]; rfl) (gx_w8 (gx_kI (gx_kI (gx_kR (gx_kR gx_k0)))) (Nat.le_of_ble_eq_true rfl)) dX2_fact_194 (xk_hfx hm hl) rfl rfl (fun _ h => h)
  | inr v45 =>
    have h := xk_thR h
    have hu := xk_use (C := σ44) h (xk_lr_ca (mX16_init) (fun _ => (xk_lr_rd (fun _ => (xk_lr_rd (fun _ => (xk_lr_rd (fun _ => (xk_lr_ca (mJ2_add) (fun _ => xk_lr_ret))))))))))
    refine gx_cV (As := []) (rest := [.int (x4), .int (x1), va_rf (some (xk_n (σ39))), va_rf (some (xk_n (σ39)))]) (b := b42) (P2 := xk_P (gx_A X) w σ44) hX (gx_TG.toT (tX2_number w (gx_A X) (gx_l X) N (b42) (σ40)  hr43)) (lw_V q866 q868 qs16 q91 q869) ⟨rfl, dsX2_number⟩ (by omega) (Nat.le_of_ble_eq_true rfl) (xk_rc hX (ci := 2) (by decide) (by decide) hkb) (by rw [eb]; rfl) (gx_w8 (gx_kI (gx_kI (gx_kR (gx_kR gx_k0)))) (Nat.le_of_ble_eq_true rfl)) dX2_fact_194 (xk_hfc hm hl hu) rfl (xk_Gc hm hl ?_)
    have hm := xk_hmc hm hl
    obtain ⟨r46, hr46, h⟩ := gx_bs h
    have he := eX16_init _ hr46
    refine gx_cI (As := [.int (x1), .int (x4), .int (v45)]) (rest := [va_rf (some (xk_n (σ39)))]) (b := (xk_n (σ39))) (C2 := RX16) (nm2 := "<init>") hX (tX16_init w (gx_A X) (gx_l X) ((xk_n (σ39))) (σ44) (x1) (x4) (v45) hr46) (lw_meth q872) ⟨q113, q870, q871⟩ ⟨rfl, dsX16_init⟩ (by omega) (Nat.le_of_ble_eq_true rfl) rfl (gx_w8 (gx_kR gx_k0) (Nat.le_of_ble_eq_true rfl)) dX2_fact_197 (xk_hfe hu) rfl (xk_Ge he ?_)
    have hm := xk_hme hm he
    have hu := xk_hue hu he
    refine gx_astore hX dX2_fact_200 (Nat.le_of_ble_eq_true rfl) gx_c1i (lv' := [some (va_rf (some x0)), some (.int (x1)), none, none, some (.int (x4)), some (va_rf (some (xk_n (σ39))))]) rfl ?_
    refine gx_aload_n hX dX2_fact_202 rfl ?_
    refine xk_getr hX 35 q190 (fun _ h => h) rfl dX2_fact_203 h (fun v47 h => ?_)
    refine xk_getrN hX 68 q745 rfl dX2_fact_206 h (fun v48 h => ?_)
    refine gx_aload hX dX2_fact_209 rfl ?_
    obtain ⟨b50, hb, h⟩ := gx_bs h
    obtain ⟨eb, hkb⟩ := xk_isS hb
    obtain ⟨r49, hr49, h⟩ := gx_bs h
    have hl := (mJ2_add) _ hr49
    have hu := xk_use (C := r49.1) h xk_lr_ret
    refine gx_cV (As := [va_rf (some (xk_n (σ39)))]) (rest := []) (b := b50) hX (tJ2_add w (gx_A X) (gx_l X) (b50) (r46.1) (some (xk_n (σ39))) hr49) (lw_V q885 q358 q359 q89 q360) ⟨rfl, dsJ2_add⟩ (by omega) (Nat.le_of_ble_eq_true rfl) (xk_rc hX (ci := 20) (by decide) (by decide) hkb) (by rw [eb]; rfl) (gx_w8 gx_k0 (Nat.le_of_ble_eq_true rfl)) dX2_fact_211 (xk_hfc hm hl hu) rfl (xk_Gc hm hl ?_)
    have hm := xk_hmc hm hl
    refine gx_pop hX dX2_fact_214 rfl ?_
    refine gx_aload hX dX2_fact_215 rfl ?_
    cases h
    exact gx_aret hX rfl (Or.inl ⟨_, rfl⟩) dX2_fact_217 rfl ⟨rfl, rfl⟩ (fun _ h => h)
def fX2_factB (F : xk_C → Nat → Option (xk_C × (Nat ⊕ Option Nat))) (N : Nat) (x0 : Nat) (σ : xk_C)  : Option (xk_C × (Nat ⊕ Option Nat)) := (xk_is (σ) 3 (some x0)).bind fun b2 => (fX2_next (b2) (σ)).bind fun r1 => if r1 = nI 33 then (xk_is (σ) 3 (some x0)).bind fun b4 => (fX2_opens (b4) (σ)).bind fun r5 => xk_th r5 fun σ6 v7 => (xk_is (σ6) 3 (some x0)).bind fun b9 => (F (σ6) b9).bind fun r10 => xk_th r10 fun σ11 v12 => (xk_gi (σ11) 34 (some x0)).bind fun v13 => (xk_pi (σ11) 34 (some x0) ((v13) - (1))).bind fun σ14 => (xk_nw (σ14) 15).bind fun σ15 => (fX15_init ((xk_n (σ14))) (σ15) (v12)).bind fun r16 => some (r16.1, .inr (some (xk_n (σ14)))) else if r1 = nI 40 then (xk_is (σ) 3 (some x0)).bind fun b18 => (fX2_opens (b18) (σ)).bind fun r19 => xk_th r19 fun σ20 v21 => (xk_is (σ20) 3 (some x0)).bind fun b23 => (fX2_some F N (b23) (σ20)).bind fun r24 => xk_th r24 fun σ25 v26 => (xk_is (σ25) 3 (some x0)).bind fun b28 => (fX2_sign (b28) (σ25) (nI 41)).bind fun r29 => xk_th r29 fun σ30 v31 => (xk_gi (σ30) 34 (some x0)).bind fun v32 => (xk_pi (σ30) 34 (some x0) ((v32) - (1))).bind fun σ33 => some (σ33, .inr (v26)) else if r1 = nI 102 then (xk_gi (σ) 33 (some x0)).bind fun v34 => (xk_pi (σ) 33 (some x0) ((v34) + (1))).bind fun σ35 => (xk_is (σ35) 3 (some x0)).bind fun b37 => (fX2_next (b37) (σ35)).bind fun r36 => if r36 = nI 60 then fX2_fact_B176 F N x0 (σ35) (r1) (r36) else if r36 = nI 61 then fX2_fact_B176 F N x0 (σ35) (r1) (r36) else if r36 = nI 62 then fX2_fact_B176 F N x0 (σ35) (r1) (r36) else (xk_nw (σ35) 14).bind fun σ51 => (xk_gi (σ51) 33 (some x0)).bind fun v52 => (fX14_init ((xk_n (σ35))) (σ51) (v52)).bind fun r53 => some (r53.1, .inl ((xk_n (σ35)))) else if r1 = nI 103 then (xk_gi (σ) 33 (some x0)).bind fun v54 => (xk_pi (σ) 33 (some x0) ((v54) + (1))).bind fun σ55 => (xk_is (σ55) 3 (some x0)).bind fun b57 => (fX2_next (b57) (σ55)).bind fun r56 => if r56 = nI 60 then fX2_fact_B176 F N x0 (σ55) (r1) (r56) else if r56 = nI 61 then fX2_fact_B176 F N x0 (σ55) (r1) (r56) else if r56 = nI 62 then fX2_fact_B176 F N x0 (σ55) (r1) (r56) else (xk_nw (σ55) 14).bind fun σ58 => (xk_gi (σ58) 33 (some x0)).bind fun v59 => (fX14_init ((xk_n (σ55))) (σ58) (v59)).bind fun r60 => some (r60.1, .inl ((xk_n (σ55)))) else if r1 = nI 110 then (xk_gi (σ) 33 (some x0)).bind fun v61 => (xk_pi (σ) 33 (some x0) ((v61) + (1))).bind fun σ62 => (xk_is (σ62) 3 (some x0)).bind fun b64 => (fX2_next (b64) (σ62)).bind fun r63 => if r63 = nI 60 then fX2_fact_B176 F N x0 (σ62) (r1) (r63) else if r63 = nI 61 then fX2_fact_B176 F N x0 (σ62) (r1) (r63) else if r63 = nI 62 then fX2_fact_B176 F N x0 (σ62) (r1) (r63) else (xk_nw (σ62) 14).bind fun σ65 => (xk_gi (σ65) 33 (some x0)).bind fun v66 => (fX14_init ((xk_n (σ62))) (σ65) (v66)).bind fun r67 => some (r67.1, .inl ((xk_n (σ62)))) else if r1 = nI 111 then (xk_gi (σ) 33 (some x0)).bind fun v68 => (xk_pi (σ) 33 (some x0) ((v68) + (1))).bind fun σ69 => (xk_is (σ69) 3 (some x0)).bind fun b71 => (fX2_next (b71) (σ69)).bind fun r70 => if r70 = nI 60 then fX2_fact_B176 F N x0 (σ69) (r1) (r70) else if r70 = nI 61 then fX2_fact_B176 F N x0 (σ69) (r1) (r70) else if r70 = nI 62 then fX2_fact_B176 F N x0 (σ69) (r1) (r70) else (xk_nw (σ69) 14).bind fun σ72 => (xk_gi (σ72) 33 (some x0)).bind fun v73 => (fX14_init ((xk_n (σ69))) (σ72) (v73)).bind fun r74 => some (r74.1, .inl ((xk_n (σ69)))) else if r1 = nI 115 then (xk_gi (σ) 33 (some x0)).bind fun v75 => (xk_pi (σ) 33 (some x0) ((v75) + (1))).bind fun σ76 => (xk_is (σ76) 3 (some x0)).bind fun b78 => (fX2_next (b78) (σ76)).bind fun r77 => if r77 = nI 60 then fX2_fact_B176 F N x0 (σ76) (r1) (r77) else if r77 = nI 61 then fX2_fact_B176 F N x0 (σ76) (r1) (r77) else if r77 = nI 62 then fX2_fact_B176 F N x0 (σ76) (r1) (r77) else (xk_nw (σ76) 14).bind fun σ79 => (xk_gi (σ79) 33 (some x0)).bind fun v80 => (fX14_init ((xk_n (σ76))) (σ79) (v80)).bind fun r81 => some (r81.1, .inl ((xk_n (σ76)))) else (xk_nw (σ) 14).bind fun σ82 => (xk_gi (σ82) 33 (some x0)).bind fun v83 => (fX14_init ((xk_n (σ))) (σ82) (v83)).bind fun r84 => some (r84.1, .inl ((xk_n (σ))))
set_option maxHeartbeats 4000000 in
theorem mX2_factB {F : xk_C → Nat → Option (xk_C × (Nat ⊕ Option Nat))} (hFg : ∀ (σ : xk_C) (b : Nat) , ∀ p, F σ b  = some p → xk_n σ ≤ xk_n p.1 ∧ xk_s σ ≤ xk_s p.1) {N : Nat} {x0 : Nat} {σ : xk_C}  : ∀ p, fX2_factB F N x0 σ = some p → xk_n σ ≤ xk_n p.1 ∧ xk_s σ ≤ xk_s p.1 := fun r => show xk_lr r σ (fX2_factB F N x0 σ) from by
  unfold fX2_factB
  exact (xk_lr_rd (fun _ => (xk_lr_rd (fun _ => (xk_lr_ite (xk_lr_rd (fun _ => (xk_lr_th (mX2_opens) (fun _ _ => (xk_lr_rd (fun _ => (xk_lr_th (hFg _ _) (fun _ _ => (xk_lr_rd (fun _ => (xk_lr_op xk_m_pi (fun _ => (xk_lr_op xk_m_nw (fun _ => (xk_lr_ca (mX15_init) (fun _ => xk_lr_ret)))))))))))))))) (xk_lr_ite (xk_lr_rd (fun _ => (xk_lr_th (mX2_opens) (fun _ _ => (xk_lr_rd (fun _ => (xk_lr_th (mX2_some hFg) (fun _ _ => (xk_lr_rd (fun _ => (xk_lr_th (mX2_sign) (fun _ _ => (xk_lr_rd (fun _ => (xk_lr_op xk_m_pi (fun _ => xk_lr_ret)))))))))))))))) (xk_lr_ite (xk_lr_rd (fun _ => (xk_lr_op xk_m_pi (fun _ => (xk_lr_rd (fun _ => (xk_lr_rd (fun _ => (xk_lr_ite (lX2_fact_B176 hFg ) (xk_lr_ite (lX2_fact_B176 hFg ) (xk_lr_ite (lX2_fact_B176 hFg ) (xk_lr_op xk_m_nw (fun _ => (xk_lr_rd (fun _ => (xk_lr_ca (mX14_init) (fun _ => xk_lr_ret))))))))))))))))) (xk_lr_ite (xk_lr_rd (fun _ => (xk_lr_op xk_m_pi (fun _ => (xk_lr_rd (fun _ => (xk_lr_rd (fun _ => (xk_lr_ite (lX2_fact_B176 hFg ) (xk_lr_ite (lX2_fact_B176 hFg ) (xk_lr_ite (lX2_fact_B176 hFg ) (xk_lr_op xk_m_nw (fun _ => (xk_lr_rd (fun _ => (xk_lr_ca (mX14_init) (fun _ => xk_lr_ret))))))))))))))))) (xk_lr_ite (xk_lr_rd (fun _ => (xk_lr_op xk_m_pi (fun _ => (xk_lr_rd (fun _ => (xk_lr_rd (fun _ => (xk_lr_ite (lX2_fact_B176 hFg ) (xk_lr_ite (lX2_fact_B176 hFg ) (xk_lr_ite (lX2_fact_B176 hFg ) (xk_lr_op xk_m_nw (fun _ => (xk_lr_rd (fun _ => (xk_lr_ca (mX14_init) (fun _ => xk_lr_ret))))))))))))))))) (xk_lr_ite (xk_lr_rd (fun _ => (xk_lr_op xk_m_pi (fun _ => (xk_lr_rd (fun _ => (xk_lr_rd (fun _ => (xk_lr_ite (lX2_fact_B176 hFg ) (xk_lr_ite (lX2_fact_B176 hFg ) (xk_lr_ite (lX2_fact_B176 hFg ) (xk_lr_op xk_m_nw (fun _ => (xk_lr_rd (fun _ => (xk_lr_ca (mX14_init) (fun _ => xk_lr_ret))))))))))))))))) (xk_lr_ite (xk_lr_rd (fun _ => (xk_lr_op xk_m_pi (fun _ => (xk_lr_rd (fun _ => (xk_lr_rd (fun _ => (xk_lr_ite (lX2_fact_B176 hFg ) (xk_lr_ite (lX2_fact_B176 hFg ) (xk_lr_ite (lX2_fact_B176 hFg ) (xk_lr_op xk_m_nw (fun _ => (xk_lr_rd (fun _ => (xk_lr_ca (mX14_init) (fun _ => xk_lr_ret))))))))))))))))) (xk_lr_op xk_m_nw (fun _ => (xk_lr_rd (fun _ => (xk_lr_ca (mX14_init) (fun _ => xk_lr_ret)))))))))))))))))
set_option maxHeartbeats 4000000 in
theorem tX2_factB (w : gw_W) (A : Nat → Prop) (l : Launch) {F : xk_C → Nat → Option (xk_C × (Nat ⊕ Option Nat))} {lF : Nat} (hlF : 7 ≤ lF) (hF : ∀ (σ : xk_C) (b : Nat)  {r : xk_C × (Nat ⊕ Option Nat)}, F σ b  = some r → gx_TG (gw_I w A) A l yX2_fact iX2_fact lF [va_rf (some b)] (xk_P A w σ) (xk_n r.1 - xk_n σ) (xk_s r.1 - xk_s σ) (xk_P A w r.1) (xk_oR r.2)) (hFg : ∀ (σ : xk_C) (b : Nat) , ∀ p, F σ b  = some p → xk_n σ ≤ xk_n p.1 ∧ xk_s σ ≤ xk_s p.1) (N : Nat) (x0 : Nat) (σ : xk_C)  {r : xk_C × (Nat ⊕ Option Nat)} (h : fX2_factB F N x0 σ = some r) : gx_TG (gw_I w A) A l yX2_fact iX2_fact (lF + 3) [va_rf (some x0)] (xk_P A w σ) (xk_n r.1 - xk_n σ) (xk_s r.1 - xk_s σ) (xk_P A w r.1) (xk_oR r.2) := by
  refine gx_TG.of (gw_I.inv w A) (by decide) ⟨rfl, rfl⟩ (gx_kR gx_k0) (Nat.le_of_ble_eq_true rfl) (fun X hl hAx hX hE => ?_)
  subst hl
  subst hAx
  show gx_G X (xk_P (gx_A X) w (σ)) 0 0 [some (va_rf (some x0)), none, none, none, none, none] 0 []
  have hu := mX2_factB hFg _ h
  unfold fX2_factB at h
  refine xk_G0 (a := xk_n σ) (b := xk_s σ) ?_
  have hm : xk_n σ ≤ xk_n σ ∧ xk_s σ ≤ xk_s σ := ⟨Nat.le_refl _, Nat.le_refl _⟩
  refine gx_aload_n hX dX2_fact_0 rfl ?_
  obtain ⟨b2, hb, h⟩ := gx_bs h
  obtain ⟨eb, hkb⟩ := xk_isS hb
  obtain ⟨r1, hr1, h⟩ := gx_bs h
  refine gx_cV (As := []) (rest := []) (b := b2) hX (tX2_next w (gx_A X) (gx_l X) (b2) (σ)  hr1) (lw_V q767 q769 qs9 q91 q770) ⟨rfl, dsX2_next⟩ (by omega) (Nat.le_of_ble_eq_true rfl) (xk_rc hX (ci := 2) (by decide) (by decide) hkb) (by rw [eb]; rfl) (gx_w8 gx_k0 (Nat.le_of_ble_eq_true rfl)) dX2_fact_1 (xk_hfe hu) rfl (xk_Gz ?_)
  refine gx_istore_n hX dX2_fact_4 (Nat.le_of_ble_eq_true rfl) gx_c1r (lv' := [some (va_rf (some x0)), some (.int (r1)), none, none, none, none]) rfl ?_
  refine gx_iload_n hX dX2_fact_5 rfl ?_
  by_cases c0 : r1 = nI 33
  · rw [if_pos c0] at h
    refine gx_lsw (off := 66) (tgt := 72) hX dX2_fact_6 (by decide) (by rw [c0]; decide) (by decide) ?_
    refine gx_aload_n hX dX2_fact_72 rfl ?_
    obtain ⟨b4, hb, h⟩ := gx_bs h
    obtain ⟨eb, hkb⟩ := xk_isS hb
    obtain ⟨r5, hr5, h⟩ := gx_bs h
    obtain ⟨σ6, s0σ6⟩ := r5
    have hl := (mX2_opens) _ hr5
    dsimp only at hl
    cases s0σ6 with
    | inl e9 =>
      cases xk_thL h
      exact gx_cVX (As := []) (rest := []) (b := b4) (x := e9) (P2 := xk_P (gx_A X) w σ6) hX hE (tX2_opens w (gx_A X) (gx_l X) (b4) (σ)  hr5) (lw_V q850 q852 qs15 q91 q853) ⟨rfl, dsX2_opens⟩ (by omega) (Nat.le_of_ble_eq_true rfl) (xk_rc hX (ci := 2) (by decide) (by decide) hkb) (by rw [eb]; rfl) (gx_w8 gx_k0 (Nat.le_of_ble_eq_true rfl)) dX2_fact_73 (xk_hfx hm hl) rfl rfl (fun _ h => h)
    | inr v7 =>
      have h := xk_thR h
      have hu := xk_use (C := σ6) h (xk_lr_rd (fun _ => (xk_lr_th (hFg _ _) (fun _ _ => (xk_lr_rd (fun _ => (xk_lr_op xk_m_pi (fun _ => (xk_lr_op xk_m_nw (fun _ => (xk_lr_ca (mX15_init) (fun _ => xk_lr_ret))))))))))))
      refine gx_cV (As := []) (rest := []) (b := b4) (P2 := xk_P (gx_A X) w σ6) hX (gx_TG.toT (tX2_opens w (gx_A X) (gx_l X) (b4) (σ)  hr5)) (lw_V q850 q852 qs15 q91 q853) ⟨rfl, dsX2_opens⟩ (by omega) (Nat.le_of_ble_eq_true rfl) (xk_rc hX (ci := 2) (by decide) (by decide) hkb) (by rw [eb]; rfl) (gx_w8 gx_k0 (Nat.le_of_ble_eq_true rfl)) dX2_fact_73 (xk_hfc hm hl hu) rfl (xk_Gc hm hl ?_)
      have hm := xk_hmc hm hl
      refine gx_aload_n hX dX2_fact_76 rfl ?_
      obtain ⟨b9, hb, h⟩ := gx_bs h
      obtain ⟨eb, hkb⟩ := xk_isS hb
      obtain ⟨r10, hr10, h⟩ := gx_bs h
      obtain ⟨σ11, s0σ11⟩ := r10
      have hl := (hFg _ _) _ hr10
      dsimp only at hl
      cases s0σ11 with
      | inl e9 =>
        cases xk_thL h
        exact gx_cVX (As := []) (rest := []) (b := b9) (x := e9) (P2 := xk_P (gx_A X) w σ11) hX hE (hF _ _ hr10) (lw_V q846 q848 qs14 q91 q849) ⟨rfl, dsX2_fact⟩ (by omega) (Nat.le_of_ble_eq_true rfl) (xk_rc hX (ci := 2) (by decide) (by decide) hkb) (by rw [eb]; rfl) (gx_w8 gx_k0 (Nat.le_of_ble_eq_true rfl)) dX2_fact_77 (xk_hfx hm hl) rfl rfl (fun _ h => h)
      | inr v12 =>
        have h := xk_thR h
        have hu := xk_use (C := σ11) h (xk_lr_rd (fun _ => (xk_lr_op xk_m_pi (fun _ => (xk_lr_op xk_m_nw (fun _ => (xk_lr_ca (mX15_init) (fun _ => xk_lr_ret))))))))
        refine gx_cV (As := []) (rest := []) (b := b9) (P2 := xk_P (gx_A X) w σ11) hX (gx_TG.toT (hF _ _ hr10)) (lw_V q846 q848 qs14 q91 q849) ⟨rfl, dsX2_fact⟩ (by omega) (Nat.le_of_ble_eq_true rfl) (xk_rc hX (ci := 2) (by decide) (by decide) hkb) (by rw [eb]; rfl) (gx_w8 gx_k0 (Nat.le_of_ble_eq_true rfl)) dX2_fact_77 (xk_hfc hm hl hu) rfl (xk_Gc hm hl ?_)
        have hm := xk_hmc hm hl
        refine gx_astore_n hX dX2_fact_80 (Nat.le_of_ble_eq_true rfl) gx_c1i (lv' := [some (va_rf (some x0)), some (.int (r1)), some (va_rf (v12)), none, none, none]) rfl ?_
        refine gx_aload_n hX dX2_fact_81 rfl ?_
        refine gx_dup hX dX2_fact_82 (gx_cat _) ?_
        refine xk_geti hX 34 q189 (fun _ h => h) rfl dX2_fact_83 h (fun v13 h => ?_)
        refine gx_iconst (v := 1) hX dX2_fact_86 (by decide) ?_
        refine gx_isub hX dX2_fact_87 ?_
        refine xk_puti hX 34 xk_ty34 rfl q189 (fun _ h => h) rfl rfl dX2_fact_88 h (fun σ14 hτ h => xk_Gt hτ ?_)
        have hm := xk_hme hm hτ
        have hu := xk_hue hu hτ
        refine xk_new hX 15 ⟨by decide, by decide⟩ ⟨q854, q855, q112⟩ dX2_fact_91 h (fun σ15 hτ h => ?_)
        have hu := xk_use (C := σ15) h (xk_lr_ca (mX15_init) (fun _ => xk_lr_ret))
        refine ⟨xk_hfm hm hτ hu, xk_Gm hm hτ ?_⟩
        have hm := xk_hmm hm hτ
        refine gx_dup hX dX2_fact_94 (gx_cat _) ?_
        refine gx_aload_n hX dX2_fact_95 rfl ?_
        obtain ⟨r16, hr16, h⟩ := gx_bs h
        have he := eX15_init _ hr16
        refine gx_cI (As := [va_rf (v12)]) (rest := [va_rf (some (xk_n (σ14)))]) (b := (xk_n (σ14))) (C2 := RX15) (nm2 := "<init>") hX (tX15_init w (gx_A X) (gx_l X) ((xk_n (σ14))) (σ15) (v12) hr16) (lw_meth q858) ⟨q112, q856, q857⟩ ⟨rfl, dsX15_init⟩ (by omega) (Nat.le_of_ble_eq_true rfl) rfl (gx_w8 (gx_kR gx_k0) (Nat.le_of_ble_eq_true rfl)) dX2_fact_96 (xk_hfe hu) rfl (xk_Ge he ?_)
        have hm := xk_hme hm he
        have hu := xk_hue hu he
        cases h
        exact gx_aret hX rfl (Or.inl ⟨_, rfl⟩) dX2_fact_99 rfl ⟨rfl, rfl⟩ (fun _ h => h)
  · rw [if_neg c0] at h
    by_cases c1 : r1 = nI 40
    · rw [if_pos c1] at h
      refine gx_lsw (off := 94) (tgt := 100) hX dX2_fact_6 (by decide) (by rw [c1]; decide) (by decide) ?_
      refine gx_aload_n hX dX2_fact_100 rfl ?_
      obtain ⟨b18, hb, h⟩ := gx_bs h
      obtain ⟨eb, hkb⟩ := xk_isS hb
      obtain ⟨r19, hr19, h⟩ := gx_bs h
      obtain ⟨σ20, s0σ20⟩ := r19
      have hl := (mX2_opens) _ hr19
      dsimp only at hl
      cases s0σ20 with
      | inl e9 =>
        cases xk_thL h
        exact gx_cVX (As := []) (rest := []) (b := b18) (x := e9) (P2 := xk_P (gx_A X) w σ20) hX hE (tX2_opens w (gx_A X) (gx_l X) (b18) (σ)  hr19) (lw_V q850 q852 qs15 q91 q853) ⟨rfl, dsX2_opens⟩ (by omega) (Nat.le_of_ble_eq_true rfl) (xk_rc hX (ci := 2) (by decide) (by decide) hkb) (by rw [eb]; rfl) (gx_w8 gx_k0 (Nat.le_of_ble_eq_true rfl)) dX2_fact_101 (xk_hfx hm hl) rfl rfl (fun _ h => h)
      | inr v21 =>
        have h := xk_thR h
        have hu := xk_use (C := σ20) h (xk_lr_rd (fun _ => (xk_lr_th (mX2_some hFg) (fun _ _ => (xk_lr_rd (fun _ => (xk_lr_th (mX2_sign) (fun _ _ => (xk_lr_rd (fun _ => (xk_lr_op xk_m_pi (fun _ => xk_lr_ret))))))))))))
        refine gx_cV (As := []) (rest := []) (b := b18) (P2 := xk_P (gx_A X) w σ20) hX (gx_TG.toT (tX2_opens w (gx_A X) (gx_l X) (b18) (σ)  hr19)) (lw_V q850 q852 qs15 q91 q853) ⟨rfl, dsX2_opens⟩ (by omega) (Nat.le_of_ble_eq_true rfl) (xk_rc hX (ci := 2) (by decide) (by decide) hkb) (by rw [eb]; rfl) (gx_w8 gx_k0 (Nat.le_of_ble_eq_true rfl)) dX2_fact_101 (xk_hfc hm hl hu) rfl (xk_Gc hm hl ?_)
        have hm := xk_hmc hm hl
        refine gx_aload_n hX dX2_fact_104 rfl ?_
        obtain ⟨b23, hb, h⟩ := gx_bs h
        obtain ⟨eb, hkb⟩ := xk_isS hb
        obtain ⟨r24, hr24, h⟩ := gx_bs h
        obtain ⟨σ25, s0σ25⟩ := r24
        have hl := (mX2_some hFg) _ hr24
        dsimp only at hl
        cases s0σ25 with
        | inl e9 =>
          cases xk_thL h
          exact gx_cVX (As := []) (rest := []) (b := b23) (x := e9) (P2 := xk_P (gx_A X) w σ25) hX hE (tX2_some w (gx_A X) (gx_l X) hlF hF hFg N (b23) (σ20)  hr24) (lw_V q838 q840 qs12 q91 q841) ⟨rfl, dsX2_some⟩ (by omega) (Nat.le_of_ble_eq_true rfl) (xk_rc hX (ci := 2) (by decide) (by decide) hkb) (by rw [eb]; rfl) (gx_w8 gx_k0 (Nat.le_of_ble_eq_true rfl)) dX2_fact_105 (xk_hfx hm hl) rfl rfl (fun _ h => h)
        | inr v26 =>
          have h := xk_thR h
          have hu := xk_use (C := σ25) h (xk_lr_rd (fun _ => (xk_lr_th (mX2_sign) (fun _ _ => (xk_lr_rd (fun _ => (xk_lr_op xk_m_pi (fun _ => xk_lr_ret))))))))
          refine gx_cV (As := []) (rest := []) (b := b23) (P2 := xk_P (gx_A X) w σ25) hX (gx_TG.toT (tX2_some w (gx_A X) (gx_l X) hlF hF hFg N (b23) (σ20)  hr24)) (lw_V q838 q840 qs12 q91 q841) ⟨rfl, dsX2_some⟩ (by omega) (Nat.le_of_ble_eq_true rfl) (xk_rc hX (ci := 2) (by decide) (by decide) hkb) (by rw [eb]; rfl) (gx_w8 gx_k0 (Nat.le_of_ble_eq_true rfl)) dX2_fact_105 (xk_hfc hm hl hu) rfl (xk_Gc hm hl ?_)
          have hm := xk_hmc hm hl
          refine gx_astore_n hX dX2_fact_108 (Nat.le_of_ble_eq_true rfl) gx_c1n (lv' := [some (va_rf (some x0)), some (.int (r1)), none, some (va_rf (v26)), none, none]) rfl ?_
          refine gx_aload_n hX dX2_fact_109 rfl ?_
          refine gx_bipush (v := nI 41) hX dX2_fact_110 (by decide) ?_
          obtain ⟨b28, hb, h⟩ := gx_bs h
          obtain ⟨eb, hkb⟩ := xk_isS hb
          obtain ⟨r29, hr29, h⟩ := gx_bs h
          obtain ⟨σ30, s0σ30⟩ := r29
          have hl := (mX2_sign) _ hr29
          dsimp only at hl
          cases s0σ30 with
          | inl e9 =>
            cases xk_thL h
            exact gx_cVX (As := [.int (nI 41)]) (rest := []) (b := b28) (x := e9) (P2 := xk_P (gx_A X) w σ30) hX hE (tX2_sign w (gx_A X) (gx_l X) (b28) (σ25) (nI 41) hr29) (lw_V q834 q836 qs11 q91 q837) ⟨rfl, dsX2_sign⟩ (by omega) (Nat.le_of_ble_eq_true rfl) (xk_rc hX (ci := 2) (by decide) (by decide) hkb) (by rw [eb]; rfl) (gx_w8 gx_k0 (Nat.le_of_ble_eq_true rfl)) dX2_fact_112 (xk_hfx hm hl) rfl rfl (fun _ h => h)
          | inr v31 =>
            have h := xk_thR h
            have hu := xk_use (C := σ30) h (xk_lr_rd (fun _ => (xk_lr_op xk_m_pi (fun _ => xk_lr_ret))))
            refine gx_cV (As := [.int (nI 41)]) (rest := []) (b := b28) (P2 := xk_P (gx_A X) w σ30) hX (gx_TG.toT (tX2_sign w (gx_A X) (gx_l X) (b28) (σ25) (nI 41) hr29)) (lw_V q834 q836 qs11 q91 q837) ⟨rfl, dsX2_sign⟩ (by omega) (Nat.le_of_ble_eq_true rfl) (xk_rc hX (ci := 2) (by decide) (by decide) hkb) (by rw [eb]; rfl) (gx_w8 gx_k0 (Nat.le_of_ble_eq_true rfl)) dX2_fact_112 (xk_hfc hm hl hu) rfl (xk_Gc hm hl ?_)
            have hm := xk_hmc hm hl
            refine gx_aload_n hX dX2_fact_115 rfl ?_
            refine gx_dup hX dX2_fact_116 (gx_cat _) ?_
            refine xk_geti hX 34 q189 (fun _ h => h) rfl dX2_fact_117 h (fun v32 h => ?_)
            refine gx_iconst (v := 1) hX dX2_fact_120 (by decide) ?_
            refine gx_isub hX dX2_fact_121 ?_
            refine xk_puti hX 34 xk_ty34 rfl q189 (fun _ h => h) rfl rfl dX2_fact_122 h (fun σ33 hτ h => xk_Gt hτ ?_)
            have hm := xk_hme hm hτ
            have hu := xk_hue hu hτ
            refine gx_aload_n hX dX2_fact_125 rfl ?_
            cases h
            exact gx_aret hX rfl (Or.inl ⟨_, rfl⟩) dX2_fact_126 rfl ⟨rfl, rfl⟩ (fun _ h => h)
    · rw [if_neg c1] at h
      by_cases c2 : r1 = nI 102
      · rw [if_pos c2] at h
        refine gx_lsw (off := 121) (tgt := 127) hX dX2_fact_6 (by decide) (by rw [c2]; decide) (by decide) ?_
        refine gx_aload_n hX dX2_fact_127 rfl ?_
        refine gx_dup hX dX2_fact_128 (gx_cat _) ?_
        refine xk_geti hX 33 q188 (fun _ h => h) rfl dX2_fact_129 h (fun v34 h => ?_)
        refine gx_iconst (v := 1) hX dX2_fact_132 (by decide) ?_
        refine gx_iadd hX dX2_fact_133 ?_
        refine xk_puti hX 33 xk_ty33 rfl q188 (fun _ h => h) rfl rfl dX2_fact_134 h (fun σ35 hτ h => xk_Gt hτ ?_)
        have hm := xk_hme hm hτ
        have hu := xk_hue hu hτ
        refine gx_aload_n hX dX2_fact_137 rfl ?_
        obtain ⟨b37, hb, h⟩ := gx_bs h
        obtain ⟨eb, hkb⟩ := xk_isS hb
        obtain ⟨r36, hr36, h⟩ := gx_bs h
        refine gx_cV (As := []) (rest := []) (b := b37) hX (tX2_next w (gx_A X) (gx_l X) (b37) (σ35)  hr36) (lw_V q767 q769 qs9 q91 q770) ⟨rfl, dsX2_next⟩ (by omega) (Nat.le_of_ble_eq_true rfl) (xk_rc hX (ci := 2) (by decide) (by decide) hkb) (by rw [eb]; rfl) (gx_w8 gx_k0 (Nat.le_of_ble_eq_true rfl)) dX2_fact_138 (xk_hfe hu) rfl (xk_Gz ?_)
        refine gx_istore hX dX2_fact_141 (Nat.le_of_ble_eq_true rfl) gx_c1n (lv' := [some (va_rf (some x0)), some (.int (r1)), none, none, some (.int (r36)), none]) rfl ?_
        refine gx_iload hX dX2_fact_143 rfl ?_
        refine gx_bipush (v := nI 60) hX dX2_fact_145 (by decide) ?_
        refine gx_icmp_eq (tgt := 176) hX dX2_fact_147 (by decide) h (fun h => ?_) (fun h => ?_)
        · exact tX2_fact_B176 hlF hF hFg hX hE  hm h
        · refine gx_iload hX dX2_fact_150 rfl ?_
          refine gx_bipush (v := nI 61) hX dX2_fact_152 (by decide) ?_
          refine gx_icmp_eq (tgt := 176) hX dX2_fact_154 (by decide) h (fun h => ?_) (fun h => ?_)
          · exact tX2_fact_B176 hlF hF hFg hX hE  hm h
          · refine gx_iload hX dX2_fact_157 rfl ?_
            refine gx_bipush (v := nI 62) hX dX2_fact_159 (by decide) ?_
            refine gx_icmp_eq (tgt := 176) hX dX2_fact_161 (by decide) h (fun h => ?_) (fun h => ?_)
            · exact tX2_fact_B176 hlF hF hFg hX hE  hm h
            · refine xk_new hX 14 ⟨by decide, by decide⟩ ⟨q771, q772, q111⟩ dX2_fact_164 h (fun σ51 hτ h => ?_)
              have hu := xk_use (C := σ51) h (xk_lr_rd (fun _ => (xk_lr_ca (mX14_init) (fun _ => xk_lr_ret))))
              refine ⟨xk_hfm hm hτ hu, xk_Gm hm hτ ?_⟩
              have hm := xk_hmm hm hτ
              refine gx_dup hX dX2_fact_167 (gx_cat _) ?_
              refine gx_aload_n hX dX2_fact_168 rfl ?_
              refine xk_geti hX 33 q188 (fun _ h => h) rfl dX2_fact_169 h (fun v52 h => ?_)
              obtain ⟨r53, hr53, h⟩ := gx_bs h
              have he := eX14_init _ hr53
              refine gx_cI (As := [.int (v52)]) (rest := [va_rf (some (xk_n (σ35)))]) (b := (xk_n (σ35))) (C2 := RX14) (nm2 := "<init>") hX (tX14_init w (gx_A X) (gx_l X) ((xk_n (σ35))) (σ51) (v52) hr53) (lw_meth q810) ⟨q111, q808, q809⟩ ⟨rfl, dsX14_init⟩ (by omega) (Nat.le_of_ble_eq_true rfl) rfl (gx_w8 (gx_kR gx_k0) (Nat.le_of_ble_eq_true rfl)) dX2_fact_172 (xk_hfe hu) rfl (xk_Ge he ?_)
              have hm := xk_hme hm he
              have hu := xk_hue hu he
              cases h
              exact gx_athrow hX hE dX2_fact_175 rfl ⟨rfl, rfl⟩ (fun _ h => h)
      · rw [if_neg c2] at h
        by_cases c3 : r1 = nI 103
        · rw [if_pos c3] at h
          refine gx_lsw (off := 121) (tgt := 127) hX dX2_fact_6 (by decide) (by rw [c3]; decide) (by decide) ?_
          refine gx_aload_n hX dX2_fact_127 rfl ?_
          refine gx_dup hX dX2_fact_128 (gx_cat _) ?_
          refine xk_geti hX 33 q188 (fun _ h => h) rfl dX2_fact_129 h (fun v54 h => ?_)
          refine gx_iconst (v := 1) hX dX2_fact_132 (by decide) ?_
          refine gx_iadd hX dX2_fact_133 ?_
          refine xk_puti hX 33 xk_ty33 rfl q188 (fun _ h => h) rfl rfl dX2_fact_134 h (fun σ55 hτ h => xk_Gt hτ ?_)
          have hm := xk_hme hm hτ
          have hu := xk_hue hu hτ
          refine gx_aload_n hX dX2_fact_137 rfl ?_
          obtain ⟨b57, hb, h⟩ := gx_bs h
          obtain ⟨eb, hkb⟩ := xk_isS hb
          obtain ⟨r56, hr56, h⟩ := gx_bs h
          refine gx_cV (As := []) (rest := []) (b := b57) hX (tX2_next w (gx_A X) (gx_l X) (b57) (σ55)  hr56) (lw_V q767 q769 qs9 q91 q770) ⟨rfl, dsX2_next⟩ (by omega) (Nat.le_of_ble_eq_true rfl) (xk_rc hX (ci := 2) (by decide) (by decide) hkb) (by rw [eb]; rfl) (gx_w8 gx_k0 (Nat.le_of_ble_eq_true rfl)) dX2_fact_138 (xk_hfe hu) rfl (xk_Gz ?_)
          refine gx_istore hX dX2_fact_141 (Nat.le_of_ble_eq_true rfl) gx_c1n (lv' := [some (va_rf (some x0)), some (.int (r1)), none, none, some (.int (r56)), none]) rfl ?_
          refine gx_iload hX dX2_fact_143 rfl ?_
          refine gx_bipush (v := nI 60) hX dX2_fact_145 (by decide) ?_
          refine gx_icmp_eq (tgt := 176) hX dX2_fact_147 (by decide) h (fun h => ?_) (fun h => ?_)
          · exact tX2_fact_B176 hlF hF hFg hX hE  hm h
          · refine gx_iload hX dX2_fact_150 rfl ?_
            refine gx_bipush (v := nI 61) hX dX2_fact_152 (by decide) ?_
            refine gx_icmp_eq (tgt := 176) hX dX2_fact_154 (by decide) h (fun h => ?_) (fun h => ?_)
            · exact tX2_fact_B176 hlF hF hFg hX hE  hm h
            · refine gx_iload hX dX2_fact_157 rfl ?_
              refine gx_bipush (v := nI 62) hX dX2_fact_159 (by decide) ?_
              refine gx_icmp_eq (tgt := 176) hX dX2_fact_161 (by decide) h (fun h => ?_) (fun h => ?_)
              · exact tX2_fact_B176 hlF hF hFg hX hE  hm h
              · refine xk_new hX 14 ⟨by decide, by decide⟩ ⟨q771, q772, q111⟩ dX2_fact_164 h (fun σ58 hτ h => ?_)
                have hu := xk_use (C := σ58) h (xk_lr_rd (fun _ => (xk_lr_ca (mX14_init) (fun _ => xk_lr_ret))))
                refine ⟨xk_hfm hm hτ hu, xk_Gm hm hτ ?_⟩
                have hm := xk_hmm hm hτ
                refine gx_dup hX dX2_fact_167 (gx_cat _) ?_
                refine gx_aload_n hX dX2_fact_168 rfl ?_
                refine xk_geti hX 33 q188 (fun _ h => h) rfl dX2_fact_169 h (fun v59 h => ?_)
                obtain ⟨r60, hr60, h⟩ := gx_bs h
                have he := eX14_init _ hr60
                refine gx_cI (As := [.int (v59)]) (rest := [va_rf (some (xk_n (σ55)))]) (b := (xk_n (σ55))) (C2 := RX14) (nm2 := "<init>") hX (tX14_init w (gx_A X) (gx_l X) ((xk_n (σ55))) (σ58) (v59) hr60) (lw_meth q810) ⟨q111, q808, q809⟩ ⟨rfl, dsX14_init⟩ (by omega) (Nat.le_of_ble_eq_true rfl) rfl (gx_w8 (gx_kR gx_k0) (Nat.le_of_ble_eq_true rfl)) dX2_fact_172 (xk_hfe hu) rfl (xk_Ge he ?_)
                have hm := xk_hme hm he
                have hu := xk_hue hu he
                cases h
                exact gx_athrow hX hE dX2_fact_175 rfl ⟨rfl, rfl⟩ (fun _ h => h)
        · rw [if_neg c3] at h
          by_cases c4 : r1 = nI 110
          · rw [if_pos c4] at h
            refine gx_lsw (off := 121) (tgt := 127) hX dX2_fact_6 (by decide) (by rw [c4]; decide) (by decide) ?_
            refine gx_aload_n hX dX2_fact_127 rfl ?_
            refine gx_dup hX dX2_fact_128 (gx_cat _) ?_
            refine xk_geti hX 33 q188 (fun _ h => h) rfl dX2_fact_129 h (fun v61 h => ?_)
            refine gx_iconst (v := 1) hX dX2_fact_132 (by decide) ?_
            refine gx_iadd hX dX2_fact_133 ?_
            refine xk_puti hX 33 xk_ty33 rfl q188 (fun _ h => h) rfl rfl dX2_fact_134 h (fun σ62 hτ h => xk_Gt hτ ?_)
            have hm := xk_hme hm hτ
            have hu := xk_hue hu hτ
            refine gx_aload_n hX dX2_fact_137 rfl ?_
            obtain ⟨b64, hb, h⟩ := gx_bs h
            obtain ⟨eb, hkb⟩ := xk_isS hb
            obtain ⟨r63, hr63, h⟩ := gx_bs h
            refine gx_cV (As := []) (rest := []) (b := b64) hX (tX2_next w (gx_A X) (gx_l X) (b64) (σ62)  hr63) (lw_V q767 q769 qs9 q91 q770) ⟨rfl, dsX2_next⟩ (by omega) (Nat.le_of_ble_eq_true rfl) (xk_rc hX (ci := 2) (by decide) (by decide) hkb) (by rw [eb]; rfl) (gx_w8 gx_k0 (Nat.le_of_ble_eq_true rfl)) dX2_fact_138 (xk_hfe hu) rfl (xk_Gz ?_)
            refine gx_istore hX dX2_fact_141 (Nat.le_of_ble_eq_true rfl) gx_c1n (lv' := [some (va_rf (some x0)), some (.int (r1)), none, none, some (.int (r63)), none]) rfl ?_
            refine gx_iload hX dX2_fact_143 rfl ?_
            refine gx_bipush (v := nI 60) hX dX2_fact_145 (by decide) ?_
            refine gx_icmp_eq (tgt := 176) hX dX2_fact_147 (by decide) h (fun h => ?_) (fun h => ?_)
            · exact tX2_fact_B176 hlF hF hFg hX hE  hm h
            · refine gx_iload hX dX2_fact_150 rfl ?_
              refine gx_bipush (v := nI 61) hX dX2_fact_152 (by decide) ?_
              refine gx_icmp_eq (tgt := 176) hX dX2_fact_154 (by decide) h (fun h => ?_) (fun h => ?_)
              · exact tX2_fact_B176 hlF hF hFg hX hE  hm h
              · refine gx_iload hX dX2_fact_157 rfl ?_
                refine gx_bipush (v := nI 62) hX dX2_fact_159 (by decide) ?_
                refine gx_icmp_eq (tgt := 176) hX dX2_fact_161 (by decide) h (fun h => ?_) (fun h => ?_)
                · exact tX2_fact_B176 hlF hF hFg hX hE  hm h
                · refine xk_new hX 14 ⟨by decide, by decide⟩ ⟨q771, q772, q111⟩ dX2_fact_164 h (fun σ65 hτ h => ?_)
                  have hu := xk_use (C := σ65) h (xk_lr_rd (fun _ => (xk_lr_ca (mX14_init) (fun _ => xk_lr_ret))))
                  refine ⟨xk_hfm hm hτ hu, xk_Gm hm hτ ?_⟩
                  have hm := xk_hmm hm hτ
                  refine gx_dup hX dX2_fact_167 (gx_cat _) ?_
                  refine gx_aload_n hX dX2_fact_168 rfl ?_
                  refine xk_geti hX 33 q188 (fun _ h => h) rfl dX2_fact_169 h (fun v66 h => ?_)
                  obtain ⟨r67, hr67, h⟩ := gx_bs h
                  have he := eX14_init _ hr67
                  refine gx_cI (As := [.int (v66)]) (rest := [va_rf (some (xk_n (σ62)))]) (b := (xk_n (σ62))) (C2 := RX14) (nm2 := "<init>") hX (tX14_init w (gx_A X) (gx_l X) ((xk_n (σ62))) (σ65) (v66) hr67) (lw_meth q810) ⟨q111, q808, q809⟩ ⟨rfl, dsX14_init⟩ (by omega) (Nat.le_of_ble_eq_true rfl) rfl (gx_w8 (gx_kR gx_k0) (Nat.le_of_ble_eq_true rfl)) dX2_fact_172 (xk_hfe hu) rfl (xk_Ge he ?_)
                  have hm := xk_hme hm he
                  have hu := xk_hue hu he
                  cases h
                  exact gx_athrow hX hE dX2_fact_175 rfl ⟨rfl, rfl⟩ (fun _ h => h)
          · rw [if_neg c4] at h
            by_cases c5 : r1 = nI 111
            · rw [if_pos c5] at h
              refine gx_lsw (off := 121) (tgt := 127) hX dX2_fact_6 (by decide) (by rw [c5]; decide) (by decide) ?_
              refine gx_aload_n hX dX2_fact_127 rfl ?_
              refine gx_dup hX dX2_fact_128 (gx_cat _) ?_
              refine xk_geti hX 33 q188 (fun _ h => h) rfl dX2_fact_129 h (fun v68 h => ?_)
              refine gx_iconst (v := 1) hX dX2_fact_132 (by decide) ?_
              refine gx_iadd hX dX2_fact_133 ?_
              refine xk_puti hX 33 xk_ty33 rfl q188 (fun _ h => h) rfl rfl dX2_fact_134 h (fun σ69 hτ h => xk_Gt hτ ?_)
              have hm := xk_hme hm hτ
              have hu := xk_hue hu hτ
              refine gx_aload_n hX dX2_fact_137 rfl ?_
              obtain ⟨b71, hb, h⟩ := gx_bs h
              obtain ⟨eb, hkb⟩ := xk_isS hb
              obtain ⟨r70, hr70, h⟩ := gx_bs h
              refine gx_cV (As := []) (rest := []) (b := b71) hX (tX2_next w (gx_A X) (gx_l X) (b71) (σ69)  hr70) (lw_V q767 q769 qs9 q91 q770) ⟨rfl, dsX2_next⟩ (by omega) (Nat.le_of_ble_eq_true rfl) (xk_rc hX (ci := 2) (by decide) (by decide) hkb) (by rw [eb]; rfl) (gx_w8 gx_k0 (Nat.le_of_ble_eq_true rfl)) dX2_fact_138 (xk_hfe hu) rfl (xk_Gz ?_)
              refine gx_istore hX dX2_fact_141 (Nat.le_of_ble_eq_true rfl) gx_c1n (lv' := [some (va_rf (some x0)), some (.int (r1)), none, none, some (.int (r70)), none]) rfl ?_
              refine gx_iload hX dX2_fact_143 rfl ?_
              refine gx_bipush (v := nI 60) hX dX2_fact_145 (by decide) ?_
              refine gx_icmp_eq (tgt := 176) hX dX2_fact_147 (by decide) h (fun h => ?_) (fun h => ?_)
              · exact tX2_fact_B176 hlF hF hFg hX hE  hm h
              · refine gx_iload hX dX2_fact_150 rfl ?_
                refine gx_bipush (v := nI 61) hX dX2_fact_152 (by decide) ?_
                refine gx_icmp_eq (tgt := 176) hX dX2_fact_154 (by decide) h (fun h => ?_) (fun h => ?_)
                · exact tX2_fact_B176 hlF hF hFg hX hE  hm h
                · refine gx_iload hX dX2_fact_157 rfl ?_
                  refine gx_bipush (v := nI 62) hX dX2_fact_159 (by decide) ?_
                  refine gx_icmp_eq (tgt := 176) hX dX2_fact_161 (by decide) h (fun h => ?_) (fun h => ?_)
                  · exact tX2_fact_B176 hlF hF hFg hX hE  hm h
                  · refine xk_new hX 14 ⟨by decide, by decide⟩ ⟨q771, q772, q111⟩ dX2_fact_164 h (fun σ72 hτ h => ?_)
                    have hu := xk_use (C := σ72) h (xk_lr_rd (fun _ => (xk_lr_ca (mX14_init) (fun _ => xk_lr_ret))))
                    refine ⟨xk_hfm hm hτ hu, xk_Gm hm hτ ?_⟩
                    have hm := xk_hmm hm hτ
                    refine gx_dup hX dX2_fact_167 (gx_cat _) ?_
                    refine gx_aload_n hX dX2_fact_168 rfl ?_
                    refine xk_geti hX 33 q188 (fun _ h => h) rfl dX2_fact_169 h (fun v73 h => ?_)
                    obtain ⟨r74, hr74, h⟩ := gx_bs h
                    have he := eX14_init _ hr74
                    refine gx_cI (As := [.int (v73)]) (rest := [va_rf (some (xk_n (σ69)))]) (b := (xk_n (σ69))) (C2 := RX14) (nm2 := "<init>") hX (tX14_init w (gx_A X) (gx_l X) ((xk_n (σ69))) (σ72) (v73) hr74) (lw_meth q810) ⟨q111, q808, q809⟩ ⟨rfl, dsX14_init⟩ (by omega) (Nat.le_of_ble_eq_true rfl) rfl (gx_w8 (gx_kR gx_k0) (Nat.le_of_ble_eq_true rfl)) dX2_fact_172 (xk_hfe hu) rfl (xk_Ge he ?_)
                    have hm := xk_hme hm he
                    have hu := xk_hue hu he
                    cases h
                    exact gx_athrow hX hE dX2_fact_175 rfl ⟨rfl, rfl⟩ (fun _ h => h)
            · rw [if_neg c5] at h
              by_cases c6 : r1 = nI 115
              · rw [if_pos c6] at h
                refine gx_lsw (off := 121) (tgt := 127) hX dX2_fact_6 (by decide) (by rw [c6]; decide) (by decide) ?_
                refine gx_aload_n hX dX2_fact_127 rfl ?_
                refine gx_dup hX dX2_fact_128 (gx_cat _) ?_
                refine xk_geti hX 33 q188 (fun _ h => h) rfl dX2_fact_129 h (fun v75 h => ?_)
                refine gx_iconst (v := 1) hX dX2_fact_132 (by decide) ?_
                refine gx_iadd hX dX2_fact_133 ?_
                refine xk_puti hX 33 xk_ty33 rfl q188 (fun _ h => h) rfl rfl dX2_fact_134 h (fun σ76 hτ h => xk_Gt hτ ?_)
                have hm := xk_hme hm hτ
                have hu := xk_hue hu hτ
                refine gx_aload_n hX dX2_fact_137 rfl ?_
                obtain ⟨b78, hb, h⟩ := gx_bs h
                obtain ⟨eb, hkb⟩ := xk_isS hb
                obtain ⟨r77, hr77, h⟩ := gx_bs h
                refine gx_cV (As := []) (rest := []) (b := b78) hX (tX2_next w (gx_A X) (gx_l X) (b78) (σ76)  hr77) (lw_V q767 q769 qs9 q91 q770) ⟨rfl, dsX2_next⟩ (by omega) (Nat.le_of_ble_eq_true rfl) (xk_rc hX (ci := 2) (by decide) (by decide) hkb) (by rw [eb]; rfl) (gx_w8 gx_k0 (Nat.le_of_ble_eq_true rfl)) dX2_fact_138 (xk_hfe hu) rfl (xk_Gz ?_)
                refine gx_istore hX dX2_fact_141 (Nat.le_of_ble_eq_true rfl) gx_c1n (lv' := [some (va_rf (some x0)), some (.int (r1)), none, none, some (.int (r77)), none]) rfl ?_
                refine gx_iload hX dX2_fact_143 rfl ?_
                refine gx_bipush (v := nI 60) hX dX2_fact_145 (by decide) ?_
                refine gx_icmp_eq (tgt := 176) hX dX2_fact_147 (by decide) h (fun h => ?_) (fun h => ?_)
                · exact tX2_fact_B176 hlF hF hFg hX hE  hm h
                · refine gx_iload hX dX2_fact_150 rfl ?_
                  refine gx_bipush (v := nI 61) hX dX2_fact_152 (by decide) ?_
                  refine gx_icmp_eq (tgt := 176) hX dX2_fact_154 (by decide) h (fun h => ?_) (fun h => ?_)
                  · exact tX2_fact_B176 hlF hF hFg hX hE  hm h
                  · refine gx_iload hX dX2_fact_157 rfl ?_
                    refine gx_bipush (v := nI 62) hX dX2_fact_159 (by decide) ?_
                    refine gx_icmp_eq (tgt := 176) hX dX2_fact_161 (by decide) h (fun h => ?_) (fun h => ?_)
                    · exact tX2_fact_B176 hlF hF hFg hX hE  hm h
                    · refine xk_new hX 14 ⟨by decide, by decide⟩ ⟨q771, q772, q111⟩ dX2_fact_164 h (fun σ79 hτ h => ?_)
                      have hu := xk_use (C := σ79) h (xk_lr_rd (fun _ => (xk_lr_ca (mX14_init) (fun _ => xk_lr_ret))))
                      refine ⟨xk_hfm hm hτ hu, xk_Gm hm hτ ?_⟩
                      have hm := xk_hmm hm hτ
                      refine gx_dup hX dX2_fact_167 (gx_cat _) ?_
                      refine gx_aload_n hX dX2_fact_168 rfl ?_
                      refine xk_geti hX 33 q188 (fun _ h => h) rfl dX2_fact_169 h (fun v80 h => ?_)
                      obtain ⟨r81, hr81, h⟩ := gx_bs h
                      have he := eX14_init _ hr81
                      refine gx_cI (As := [.int (v80)]) (rest := [va_rf (some (xk_n (σ76)))]) (b := (xk_n (σ76))) (C2 := RX14) (nm2 := "<init>") hX (tX14_init w (gx_A X) (gx_l X) ((xk_n (σ76))) (σ79) (v80) hr81) (lw_meth q810) ⟨q111, q808, q809⟩ ⟨rfl, dsX14_init⟩ (by omega) (Nat.le_of_ble_eq_true rfl) rfl (gx_w8 (gx_kR gx_k0) (Nat.le_of_ble_eq_true rfl)) dX2_fact_172 (xk_hfe hu) rfl (xk_Ge he ?_)
                      have hm := xk_hme hm he
                      have hu := xk_hue hu he
                      cases h
                      exact gx_athrow hX hE dX2_fact_175 rfl ⟨rfl, rfl⟩ (fun _ h => h)
              · rw [if_neg c6] at h
                have e0 : (r1).toInt ≠ 33 := gx_nei c0
                have e1 : (r1).toInt ≠ 40 := gx_nei c1
                have e2 : (r1).toInt ≠ 102 := gx_nei c2
                have e3 : (r1).toInt ≠ 103 := gx_nei c3
                have e4 : (r1).toInt ≠ 110 := gx_nei c4
                have e5 : (r1).toInt ≠ 111 := gx_nei c5
                have e6 : (r1).toInt ≠ 115 := gx_nei c6
                refine gx_lsw (off := 212) (tgt := 218) hX dX2_fact_6 (by decide) (by simp [Op.lookupswitch.offset, e0, e0.symm, e1, e1.symm, e2, e2.symm, e3, e3.symm, e4, e4.symm, e5, e5.symm, e6, e6.symm]) (by decide) ?_
                refine xk_new hX 14 ⟨by decide, by decide⟩ ⟨q771, q772, q111⟩ dX2_fact_218 h (fun σ82 hτ h => ?_)
                have hu := xk_use (C := σ82) h (xk_lr_rd (fun _ => (xk_lr_ca (mX14_init) (fun _ => xk_lr_ret))))
                refine ⟨xk_hfm hm hτ hu, xk_Gm hm hτ ?_⟩
                have hm := xk_hmm hm hτ
                refine gx_dup hX dX2_fact_221 (gx_cat _) ?_
                refine gx_aload_n hX dX2_fact_222 rfl ?_
                refine xk_geti hX 33 q188 (fun _ h => h) rfl dX2_fact_223 h (fun v83 h => ?_)
                obtain ⟨r84, hr84, h⟩ := gx_bs h
                have he := eX14_init _ hr84
                refine gx_cI (As := [.int (v83)]) (rest := [va_rf (some (xk_n (σ)))]) (b := (xk_n (σ))) (C2 := RX14) (nm2 := "<init>") hX (tX14_init w (gx_A X) (gx_l X) ((xk_n (σ))) (σ82) (v83) hr84) (lw_meth q810) ⟨q111, q808, q809⟩ ⟨rfl, dsX14_init⟩ (by omega) (Nat.le_of_ble_eq_true rfl) rfl (gx_w8 (gx_kR gx_k0) (Nat.le_of_ble_eq_true rfl)) dX2_fact_226 (xk_hfe hu) rfl (xk_Ge he ?_)
                have hm := xk_hme hm he
                have hu := xk_hue hu he
                cases h
                exact gx_athrow hX hE dX2_fact_229 rfl ⟨rfl, rfl⟩ (fun _ h => h)
def fX2_fact (N : Nat) : Nat → xk_C → Nat → Option (xk_C × (Nat ⊕ Option Nat))
  | 0, _, _ => none
  | D + 1, σ, b => fX2_factB (fX2_fact N D) N b σ 
theorem mX2_fact (N : Nat) : ∀ (D : Nat) (σ : xk_C) (b : Nat) , ∀ p, fX2_fact N D σ b  = some p → xk_n σ ≤ xk_n p.1 ∧ xk_s σ ≤ xk_s p.1 := by
  intro D
  induction D with
  | zero =>
    intro σ b  p h
    unfold fX2_fact at h
    cases h
  | succ D ih =>
    intro σ b  p h
    unfold fX2_fact at h
    exact mX2_factB ih p h
theorem tX2_fact (w : gw_W) (A : Nat → Prop) (l : Launch) (N : Nat) : ∀ (D : Nat) (σ : xk_C) (b : Nat)  {r : xk_C × (Nat ⊕ Option Nat)}, fX2_fact N D σ b  = some r → gx_TG (gw_I w A) A l yX2_fact iX2_fact (7 + 3 * D) [va_rf (some b)] (xk_P A w σ) (xk_n r.1 - xk_n σ) (xk_s r.1 - xk_s σ) (xk_P A w r.1) (xk_oR r.2) := by
  intro D
  induction D with
  | zero =>
    intro σ b  r h
    unfold fX2_fact at h
    cases h
  | succ D ih =>
    intro σ b  r h
    unfold fX2_fact at h
    have h2 := tX2_factB w A l (F := fX2_fact N D) (lF := 7 + 3 * D) (by omega) ih (mX2_fact N D) N b σ  h
    rw [show 7 + 3 * (D + 1) = 7 + 3 * D + 3 by omega]
    exact h2
abbrev iX2_word : gx_M := (RX2, "word", cX2_word, 6, some .int)
theorem dsX2_word : gx_ds yX2_word 0 := by decide +kernel
def fX2_word_L56 (N : Nat) (x0 : Nat)   : Nat → xk_C → Int32 → Option Nat → Int32 → Int32 → Option (xk_C × (Nat ⊕ Int32))
  | 0, _, _, _, _, _ => none
  | k + 1, σ, x1, x2, x3, x4 => if (x3) ≤ x4 then (xk_is (σ) 3 (some x0)).bind fun b5 => (fX2_sign (b5) (σ) (nI 32)).bind fun r6 => xk_th r6 fun σ7 v8 => some (σ7, .inr (x1)) else (xk_ld (σ) 2 (x2) (x4)).bind fun v9 => (xk_is (σ) 3 (some x0)).bind fun b11 => (fX2_sign (b11) (σ) (v9)).bind fun r12 => xk_th r12 fun σ13 v14 => (fX2_word_L56 N x0 k) (σ13) (x1) (x2) (x3) ((x4) + 1)
set_option maxHeartbeats 4000000 in
theorem lX2_word_L56 {r : xk_C × (Nat ⊕ Int32)} {N : Nat} {x0 : Nat}   : ∀ (k : Nat) (σ : xk_C) (x1 : Int32) (x2 : Option Nat) (x3 : Int32) (x4 : Int32), xk_lr r σ (fX2_word_L56 N x0 k σ x1 x2 x3 x4) := by
  intro k
  induction k with
  | zero =>
    intro σ x1 x2 x3 x4
    unfold fX2_word_L56
    exact xk_lr_none
  | succ k hL56 =>
    intro σ x1 x2 x3 x4
    unfold fX2_word_L56
    exact (xk_lr_ite (xk_lr_rd (fun _ => (xk_lr_th (mX2_sign) (fun _ _ => xk_lr_ret)))) (xk_lr_rd (fun _ => (xk_lr_rd (fun _ => (xk_lr_th (mX2_sign) (fun _ _ => (hL56 _ _ _ _ _))))))))
set_option maxHeartbeats 4000000 in
theorem tX2_word_L56 {w : gw_W} {X : gx_X} {N : Nat} {x0 : Nat} {n0 s0 : Nat} {r : xk_C × (Nat ⊕ Int32)} (hX : gx_O (gw_I w (gx_A X)) X iX2_word 6 (xk_n r.1 - n0) (xk_s r.1 - s0) (xk_P (gx_A X) w r.1) (xk_oI r.2)) (hE : (gx_c X).exceptionTable.isEmpty = true)  : ∀ (k : Nat) (σ : xk_C) (x1 : Int32) (x2 : Option Nat) (x3 : Int32) (x4 : Int32), (n0 ≤ xk_n σ ∧ s0 ≤ xk_s σ) → fX2_word_L56 N x0 k σ x1 x2 x3 x4 = some r → gx_G X (xk_P (gx_A X) w (σ)) (xk_n (σ) - n0) (xk_s (σ) - s0) [some (va_rf (some x0)), some (.int (x1)), some (va_rf (x2)), some (.int (x3)), some (.int (x4)), none] 56 [] := by
  intro k
  induction k with
  | zero =>
    intro σ x1 x2 x3 x4 hm h
    unfold fX2_word_L56 at h
    cases h
  | succ k ih =>
    intro σ x1 x2 x3 x4 hm h
    have hu := lX2_word_L56 (r := r)  (k + 1) _ _ _ _ _ h
    unfold fX2_word_L56 at h
    have hL56 : ∀ (σ : xk_C) (x1 : Int32) (x2 : Option Nat) (x3 : Int32) (x4 : Int32), xk_lr r σ (fX2_word_L56 N x0 k σ x1 x2 x3 x4) := fun σ x1 x2 x3 x4 => lX2_word_L56  k σ x1 x2 x3 x4
    refine gx_iload hX dX2_word_56 rfl ?_
    refine gx_iload_n hX dX2_word_58 rfl ?_
    refine gx_icmp_ge (tgt := 80) hX dX2_word_59 (by decide) h (fun h => ?_) (fun h => ?_)
    · refine gx_aload_n hX dX2_word_80 rfl ?_
      refine gx_bipush (v := nI 32) hX dX2_word_81 (by decide) ?_
      obtain ⟨b5, hb, h⟩ := gx_bs h
      obtain ⟨eb, hkb⟩ := xk_isS hb
      obtain ⟨r6, hr6, h⟩ := gx_bs h
      obtain ⟨σ7, s0σ7⟩ := r6
      have hl := (mX2_sign) _ hr6
      dsimp only at hl
      cases s0σ7 with
      | inl e9 =>
        cases xk_thL h
        exact gx_cVX (As := [.int (nI 32)]) (rest := []) (b := b5) (x := e9) (P2 := xk_P (gx_A X) w σ7) hX hE (tX2_sign w (gx_A X) (gx_l X) (b5) (σ) (nI 32) hr6) (lw_V q834 q836 qs11 q91 q837) ⟨rfl, dsX2_sign⟩ (by decide) (Nat.le_of_ble_eq_true rfl) (xk_rc hX (ci := 2) (by decide) (by decide) hkb) (by rw [eb]; rfl) (gx_w8 gx_k0 (Nat.le_of_ble_eq_true rfl)) dX2_word_83 (xk_hfx hm hl) rfl rfl (fun _ h => h)
      | inr v8 =>
        have h := xk_thR h
        have hu := xk_use (C := σ7) h xk_lr_ret
        refine gx_cV (As := [.int (nI 32)]) (rest := []) (b := b5) (P2 := xk_P (gx_A X) w σ7) hX (gx_TG.toT (tX2_sign w (gx_A X) (gx_l X) (b5) (σ) (nI 32) hr6)) (lw_V q834 q836 qs11 q91 q837) ⟨rfl, dsX2_sign⟩ (by decide) (Nat.le_of_ble_eq_true rfl) (xk_rc hX (ci := 2) (by decide) (by decide) hkb) (by rw [eb]; rfl) (gx_w8 gx_k0 (Nat.le_of_ble_eq_true rfl)) dX2_word_83 (xk_hfc hm hl hu) rfl (xk_Gc hm hl ?_)
        have hm := xk_hmc hm hl
        refine gx_iload_n hX dX2_word_86 rfl ?_
        cases h
        exact gx_iret hX rfl dX2_word_87 rfl ⟨rfl, rfl⟩ (fun _ h => h)
    · refine gx_aload_n hX dX2_word_62 rfl ?_
      refine gx_iload hX dX2_word_63 rfl ?_
      refine xk_caload hX dX2_word_65 h (fun v9 h => ?_)
      refine gx_istore hX dX2_word_66 (Nat.le_of_ble_eq_true rfl) gx_c1i (lv' := [some (va_rf (some x0)), some (.int (x1)), some (va_rf (x2)), some (.int (x3)), some (.int (x4)), some (.int (v9))]) rfl ?_
      refine gx_aload_n hX dX2_word_68 rfl ?_
      refine gx_iload hX dX2_word_69 rfl ?_
      obtain ⟨b11, hb, h⟩ := gx_bs h
      obtain ⟨eb, hkb⟩ := xk_isS hb
      obtain ⟨r12, hr12, h⟩ := gx_bs h
      obtain ⟨σ13, s0σ13⟩ := r12
      have hl := (mX2_sign) _ hr12
      dsimp only at hl
      cases s0σ13 with
      | inl e9 =>
        cases xk_thL h
        exact gx_cVX (As := [.int (v9)]) (rest := []) (b := b11) (x := e9) (P2 := xk_P (gx_A X) w σ13) hX hE (tX2_sign w (gx_A X) (gx_l X) (b11) (σ) (v9) hr12) (lw_V q834 q836 qs11 q91 q837) ⟨rfl, dsX2_sign⟩ (by decide) (Nat.le_of_ble_eq_true rfl) (xk_rc hX (ci := 2) (by decide) (by decide) hkb) (by rw [eb]; rfl) (gx_w8 gx_k0 (Nat.le_of_ble_eq_true rfl)) dX2_word_71 (xk_hfx hm hl) rfl rfl (fun _ h => h)
      | inr v14 =>
        have h := xk_thR h
        have hu := xk_use (C := σ13) h (hL56 _ _ _ _ _)
        refine gx_cV (As := [.int (v9)]) (rest := []) (b := b11) (P2 := xk_P (gx_A X) w σ13) hX (gx_TG.toT (tX2_sign w (gx_A X) (gx_l X) (b11) (σ) (v9) hr12)) (lw_V q834 q836 qs11 q91 q837) ⟨rfl, dsX2_sign⟩ (by decide) (Nat.le_of_ble_eq_true rfl) (xk_rc hX (ci := 2) (by decide) (by decide) hkb) (by rw [eb]; rfl) (gx_w8 gx_k0 (Nat.le_of_ble_eq_true rfl)) dX2_word_71 (xk_hfc hm hl hu) rfl (xk_Gc hm hl ?_)
        have hm := xk_hmc hm hl
        refine gx_iinc (v := 1) hX dX2_word_74 rfl (by decide) gx_c1i (lv' := [some (va_rf (some x0)), some (.int (x1)), some (va_rf (x2)), some (.int (x3)), some (.int ((x4) + 1)), some (.int (v9))]) rfl ?_
        refine gx_goto (tgt := 56) hX dX2_word_77 (by decide) ?_
        refine gx_sub hX (lv' := [some (va_rf (some x0)), some (.int (x1)), some (va_rf (x2)), some (.int (x3)), some (.int ((x4) + 1)), none]) ⟨Or.inr rfl, ⟨Or.inr rfl, ⟨Or.inr rfl, ⟨Or.inr rfl, ⟨Or.inr rfl, ⟨Or.inl rfl, trivial⟩⟩⟩⟩⟩⟩ ?_
        exact ih _ _ _ _ _ hm h
def fX2_word_B27 (N : Nat) (x0 : Nat)   (σ : xk_C) (x1 : Int32) : Option (xk_C × (Nat ⊕ Int32)) := if 0 ≤ (x1) then (xk_gr (σ) 32 (some x0)).bind fun v1 => (xk_lq (σ) 9 (v1) (x1)).bind fun v2 => (xk_al (σ) 2 (v2)).bind fun v3 => fX2_word_L56 N x0 N (σ) (x1) (v2) (v3) (0) else (xk_nw (σ) 14).bind fun σ15 => (xk_gi (σ15) 33 (some x0)).bind fun v16 => (fX14_init ((xk_n (σ))) (σ15) (v16)).bind fun r17 => some (r17.1, .inl ((xk_n (σ))))
set_option maxHeartbeats 4000000 in
theorem lX2_word_B27 {r : xk_C × (Nat ⊕ Int32)} {N : Nat} {x0 : Nat}   {σ : xk_C} {x1 : Int32} : xk_lr r σ (fX2_word_B27 N x0 σ x1) := by
  unfold fX2_word_B27
  exact (xk_lr_ite (xk_lr_rd (fun _ => (xk_lr_rd (fun _ => (xk_lr_rd (fun _ => (lX2_word_L56  N _ _ _ _ _))))))) (xk_lr_op xk_m_nw (fun _ => (xk_lr_rd (fun _ => (xk_lr_ca (mX14_init) (fun _ => xk_lr_ret)))))))
set_option maxHeartbeats 4000000 in
theorem tX2_word_B27 {w : gw_W} {X : gx_X} {N : Nat} {x0 : Nat} {n0 s0 : Nat} {r : xk_C × (Nat ⊕ Int32)} (hX : gx_O (gw_I w (gx_A X)) X iX2_word 6 (xk_n r.1 - n0) (xk_s r.1 - s0) (xk_P (gx_A X) w r.1) (xk_oI r.2)) (hE : (gx_c X).exceptionTable.isEmpty = true)  {σ : xk_C} {x1 : Int32} (hm : n0 ≤ xk_n σ ∧ s0 ≤ xk_s σ) (h : fX2_word_B27 N x0 σ x1 = some r) : gx_G X (xk_P (gx_A X) w (σ)) (xk_n (σ) - n0) (xk_s (σ) - s0) [some (va_rf (some x0)), some (.int (x1)), none, none, none, none] 27 [] := by
  have hu := lX2_word_B27 (r := r)  h
  unfold fX2_word_B27 at h
  refine gx_iload_n hX dX2_word_27 rfl ?_
  refine gx_if_ge (tgt := 43) hX dX2_word_28 (by decide) h (fun h => ?_) (fun h => ?_)
  · refine gx_aload_n hX dX2_word_43 rfl ?_
    refine xk_getr hX 32 q187 (fun _ h => h) rfl dX2_word_44 h (fun v1 h => ?_)
    refine gx_iload_n hX dX2_word_47 rfl ?_
    refine xk_aaload hX 9 ⟨by decide, by decide, rfl⟩ dX2_word_48 h (fun v2 h => ?_)
    refine gx_astore_n hX dX2_word_49 (Nat.le_of_ble_eq_true rfl) gx_c1i (lv' := [some (va_rf (some x0)), some (.int (x1)), some (va_rf (v2)), none, none, none]) rfl ?_
    refine gx_aload_n hX dX2_word_50 rfl ?_
    refine xk_alen hX 2 (by decide) dX2_word_51 h (fun v3 h => ?_)
    refine gx_istore_n hX dX2_word_52 (Nat.le_of_ble_eq_true rfl) gx_c1r (lv' := [some (va_rf (some x0)), some (.int (x1)), some (va_rf (v2)), some (.int (v3)), none, none]) rfl ?_
    refine gx_iconst (v := 0) hX dX2_word_53 (by decide) ?_
    refine gx_istore hX dX2_word_54 (Nat.le_of_ble_eq_true rfl) gx_c1i (lv' := [some (va_rf (some x0)), some (.int (x1)), some (va_rf (v2)), some (.int (v3)), some (.int (0)), none]) rfl ?_
    exact tX2_word_L56 hX hE  N _ _ _ _ _ hm h
  · refine xk_new hX 14 ⟨by decide, by decide⟩ ⟨q771, q772, q111⟩ dX2_word_31 h (fun σ15 hτ h => ?_)
    have hu := xk_use (C := σ15) h (xk_lr_rd (fun _ => (xk_lr_ca (mX14_init) (fun _ => xk_lr_ret))))
    refine ⟨xk_hfm hm hτ hu, xk_Gm hm hτ ?_⟩
    have hm := xk_hmm hm hτ
    refine gx_dup hX dX2_word_34 (gx_cat _) ?_
    refine gx_aload_n hX dX2_word_35 rfl ?_
    refine xk_geti hX 33 q188 (fun _ h => h) rfl dX2_word_36 h (fun v16 h => ?_)
    obtain ⟨r17, hr17, h⟩ := gx_bs h
    have he := eX14_init _ hr17
    refine gx_cI (As := [.int (v16)]) (rest := [va_rf (some (xk_n (σ)))]) (b := (xk_n (σ))) (C2 := RX14) (nm2 := "<init>") hX (tX14_init w (gx_A X) (gx_l X) ((xk_n (σ))) (σ15) (v16) hr17) (lw_meth q810) ⟨q111, q808, q809⟩ ⟨rfl, dsX14_init⟩ (by decide) (Nat.le_of_ble_eq_true rfl) rfl (gx_w8 (gx_kR gx_k0) (Nat.le_of_ble_eq_true rfl)) dX2_word_39 (xk_hfe hu) rfl (xk_Ge he ?_)
    have hm := xk_hme hm he
    have hu := xk_hue hu he
    cases h
    exact gx_athrow hX hE dX2_word_42 rfl ⟨rfl, rfl⟩ (fun _ h => h)
def fX2_word_L2 (N : Nat) (x0 : Nat)   : Nat → xk_C → Int32 → Option (xk_C × (Nat ⊕ Int32))
  | 0, _, _ => none
  | k + 1, σ, x1 => if (x1) < 0 then fX2_word_B27 N x0 (σ) (x1) else (xk_gr (σ) 32 (some x0)).bind fun v18 => (xk_lq (σ) 9 (v18) (x1)).bind fun v19 => (xk_ld (σ) 2 (v19) (0)).bind fun v20 => (xk_is (σ) 3 (some x0)).bind fun b22 => (fX2_next (b22) (σ)).bind fun r21 => if v20 = r21 then fX2_word_B27 N x0 (σ) (x1) else (fX2_word_L2 N x0 k) (σ) ((x1) + (-1))
set_option maxHeartbeats 4000000 in
theorem lX2_word_L2 {r : xk_C × (Nat ⊕ Int32)} {N : Nat} {x0 : Nat}   : ∀ (k : Nat) (σ : xk_C) (x1 : Int32), xk_lr r σ (fX2_word_L2 N x0 k σ x1) := by
  intro k
  induction k with
  | zero =>
    intro σ x1
    unfold fX2_word_L2
    exact xk_lr_none
  | succ k hL2 =>
    intro σ x1
    unfold fX2_word_L2
    exact (xk_lr_ite (lX2_word_B27 ) (xk_lr_rd (fun _ => (xk_lr_rd (fun _ => (xk_lr_rd (fun _ => (xk_lr_rd (fun _ => (xk_lr_rd (fun _ => (xk_lr_ite (lX2_word_B27 ) (hL2 _ _)))))))))))))
set_option maxHeartbeats 4000000 in
theorem tX2_word_L2 {w : gw_W} {X : gx_X} {N : Nat} {x0 : Nat} {n0 s0 : Nat} {r : xk_C × (Nat ⊕ Int32)} (hX : gx_O (gw_I w (gx_A X)) X iX2_word 6 (xk_n r.1 - n0) (xk_s r.1 - s0) (xk_P (gx_A X) w r.1) (xk_oI r.2)) (hE : (gx_c X).exceptionTable.isEmpty = true)  : ∀ (k : Nat) (σ : xk_C) (x1 : Int32), (n0 ≤ xk_n σ ∧ s0 ≤ xk_s σ) → fX2_word_L2 N x0 k σ x1 = some r → gx_G X (xk_P (gx_A X) w (σ)) (xk_n (σ) - n0) (xk_s (σ) - s0) [some (va_rf (some x0)), some (.int (x1)), none, none, none, none] 2 [] := by
  intro k
  induction k with
  | zero =>
    intro σ x1 hm h
    unfold fX2_word_L2 at h
    cases h
  | succ k ih =>
    intro σ x1 hm h
    have hu := lX2_word_L2 (r := r)  (k + 1) _ _ h
    unfold fX2_word_L2 at h
    have hL2 : ∀ (σ : xk_C) (x1 : Int32), xk_lr r σ (fX2_word_L2 N x0 k σ x1) := fun σ x1 => lX2_word_L2  k σ x1
    refine gx_iload_n hX dX2_word_2 rfl ?_
    refine gx_if_lt (tgt := 27) hX dX2_word_3 (by decide) h (fun h => ?_) (fun h => ?_)
    · exact tX2_word_B27 hX hE  hm h
    · refine gx_aload_n hX dX2_word_6 rfl ?_
      refine xk_getr hX 32 q187 (fun _ h => h) rfl dX2_word_7 h (fun v18 h => ?_)
      refine gx_iload_n hX dX2_word_10 rfl ?_
      refine xk_aaload hX 9 ⟨by decide, by decide, rfl⟩ dX2_word_11 h (fun v19 h => ?_)
      refine gx_iconst (v := 0) hX dX2_word_12 (by decide) ?_
      refine xk_caload hX dX2_word_13 h (fun v20 h => ?_)
      refine gx_aload_n hX dX2_word_14 rfl ?_
      obtain ⟨b22, hb, h⟩ := gx_bs h
      obtain ⟨eb, hkb⟩ := xk_isS hb
      obtain ⟨r21, hr21, h⟩ := gx_bs h
      refine gx_cV (As := []) (rest := [.int (v20)]) (b := b22) hX (tX2_next w (gx_A X) (gx_l X) (b22) (σ)  hr21) (lw_V q767 q769 qs9 q91 q770) ⟨rfl, dsX2_next⟩ (by decide) (Nat.le_of_ble_eq_true rfl) (xk_rc hX (ci := 2) (by decide) (by decide) hkb) (by rw [eb]; rfl) (gx_w8 (gx_kI gx_k0) (Nat.le_of_ble_eq_true rfl)) dX2_word_15 (xk_hfe hu) rfl (xk_Gz ?_)
      refine gx_icmp_eq (tgt := 27) hX dX2_word_18 (by decide) h (fun h => ?_) (fun h => ?_)
      · exact tX2_word_B27 hX hE  hm h
      · refine gx_iinc (v := (-1)) hX dX2_word_21 rfl (by decide) gx_c1r (lv' := [some (va_rf (some x0)), some (.int ((x1) + (-1))), none, none, none, none]) rfl ?_
        refine gx_goto (tgt := 2) hX dX2_word_24 (by decide) ?_
        exact ih _ _ hm h
def fX2_word (N : Nat) (x0 : Nat) (σ : xk_C)  : Option (xk_C × (Nat ⊕ Int32)) := fX2_word_L2 N x0 N (σ) (3)
set_option maxHeartbeats 4000000 in
theorem mX2_word {N : Nat} {x0 : Nat} {σ : xk_C}  : ∀ p, fX2_word N x0 σ = some p → xk_n σ ≤ xk_n p.1 ∧ xk_s σ ≤ xk_s p.1 := fun r => show xk_lr r σ (fX2_word N x0 σ) from by
  unfold fX2_word
  exact (lX2_word_L2  N _ _)
set_option maxHeartbeats 4000000 in
theorem tX2_word (w : gw_W) (A : Nat → Prop) (l : Launch) (N : Nat) (x0 : Nat) (σ : xk_C)  {r : xk_C × (Nat ⊕ Int32)} (h : fX2_word N x0 σ = some r) : gx_TG (gw_I w A) A l yX2_word iX2_word 6 [va_rf (some x0)] (xk_P A w σ) (xk_n r.1 - xk_n σ) (xk_s r.1 - xk_s σ) (xk_P A w r.1) (xk_oI r.2) := by
  refine gx_TG.of (gw_I.inv w A) (by decide) ⟨rfl, rfl⟩ (gx_kR gx_k0) (Nat.le_of_ble_eq_true rfl) (fun X hl hAx hX hE => ?_)
  subst hl
  subst hAx
  show gx_G X (xk_P (gx_A X) w (σ)) 0 0 [some (va_rf (some x0)), none, none, none, none, none] 0 []
  have hu := mX2_word _ h
  unfold fX2_word at h
  refine xk_G0 (a := xk_n σ) (b := xk_s σ) ?_
  have hm : xk_n σ ≤ xk_n σ ∧ xk_s σ ≤ xk_s σ := ⟨Nat.le_refl _, Nat.le_refl _⟩
  refine gx_iconst (v := 3) hX dX2_word_0 (by decide) ?_
  refine gx_istore_n hX dX2_word_1 (Nat.le_of_ble_eq_true rfl) gx_c1r (lv' := [some (va_rf (some x0)), some (.int (3)), none, none, none, none]) rfl ?_
  exact tX2_word_L2 hX hE  N _ _ hm h
abbrev iX2_clause : gx_M := (RX2, "clause", cX2_clause, 2, none)
theorem dsX2_clause : gx_ds yX2_clause 0 := by decide +kernel
def fX2_clause (N : Nat) (x0 : Nat) (σ : xk_C)  : Option (xk_C × (Nat ⊕ Unit)) := (xk_is (σ) 3 (some x0)).bind fun b2 => (fX2_word N (b2) (σ)).bind fun r3 => xk_th r3 fun σ4 v5 => (xk_pi (σ4) 34 (some x0) (0)).bind fun σ6 => (xk_gr (σ6) 35 (some x0)).bind fun v7 => (xk_gr (σ6) 67 (v7)).bind fun v8 => (xk_gr (σ6) 35 (some x0)).bind fun v9 => (xk_gr (σ6) 66 (v9)).bind fun v10 => (xk_is (σ6) 21 (v10)).bind fun b12 => (fJ2_size (b12) (σ6)).bind fun r11 => (xk_st (σ6) 0 (v8) (r11) (v5)).bind fun σ13 => (xk_gr (σ13) 35 (some x0)).bind fun v14 => (xk_gr (σ13) 66 (v14)).bind fun v15 => (xk_is (σ13) 3 (some x0)).bind fun b17 => (fX2_some (fX2_fact N 10) N (b17) (σ13)).bind fun r18 => xk_th r18 fun σ19 v20 => (xk_is (σ19) 21 (v15)).bind fun b22 => (fJ2_add (b22) (σ19) (v20)).bind fun r21 => some (r21.1, .inr (()))
set_option maxHeartbeats 4000000 in
theorem mX2_clause {N : Nat} {x0 : Nat} {σ : xk_C}  : ∀ p, fX2_clause N x0 σ = some p → xk_n σ ≤ xk_n p.1 ∧ xk_s σ ≤ xk_s p.1 := fun r => show xk_lr r σ (fX2_clause N x0 σ) from by
  unfold fX2_clause
  exact (xk_lr_rd (fun _ => (xk_lr_th (mX2_word) (fun _ _ => (xk_lr_op xk_m_pi (fun _ => (xk_lr_rd (fun _ => (xk_lr_rd (fun _ => (xk_lr_rd (fun _ => (xk_lr_rd (fun _ => (xk_lr_rd (fun _ => (xk_lr_rd (fun _ => (xk_lr_op xk_m_st (fun _ => (xk_lr_rd (fun _ => (xk_lr_rd (fun _ => (xk_lr_rd (fun _ => (xk_lr_th (mX2_some (mX2_fact N 10)) (fun _ _ => (xk_lr_rd (fun _ => (xk_lr_ca (mJ2_add) (fun _ => xk_lr_ret))))))))))))))))))))))))))))))))
set_option maxHeartbeats 4000000 in
theorem tX2_clause (w : gw_W) (A : Nat → Prop) (l : Launch) (N : Nat) (x0 : Nat) (σ : xk_C)  {r : xk_C × (Nat ⊕ Unit)} (h : fX2_clause N x0 σ = some r) : gx_TG (gw_I w A) A l yX2_clause iX2_clause 40 [va_rf (some x0)] (xk_P A w σ) (xk_n r.1 - xk_n σ) (xk_s r.1 - xk_s σ) (xk_P A w r.1) (xk_oV r.2) := by
  refine gx_TG.of (gw_I.inv w A) (by decide) ⟨rfl, rfl⟩ (gx_kR gx_k0) (Nat.le_of_ble_eq_true rfl) (fun X hl hAx hX hE => ?_)
  subst hl
  subst hAx
  show gx_G X (xk_P (gx_A X) w (σ)) 0 0 [some (va_rf (some x0)), none] 0 []
  have hu := mX2_clause _ h
  unfold fX2_clause at h
  refine xk_G0 (a := xk_n σ) (b := xk_s σ) ?_
  have hm : xk_n σ ≤ xk_n σ ∧ xk_s σ ≤ xk_s σ := ⟨Nat.le_refl _, Nat.le_refl _⟩
  refine gx_aload_n hX dX2_clause_0 rfl ?_
  obtain ⟨b2, hb, h⟩ := gx_bs h
  obtain ⟨eb, hkb⟩ := xk_isS hb
  obtain ⟨r3, hr3, h⟩ := gx_bs h
  obtain ⟨σ4, s0σ4⟩ := r3
  have hl := (mX2_word) _ hr3
  dsimp only at hl
  cases s0σ4 with
  | inl e9 =>
    cases xk_thL h
    exact gx_cVX (As := []) (rest := []) (b := b2) (x := e9) (P2 := xk_P (gx_A X) w σ4) hX hE (tX2_word w (gx_A X) (gx_l X) N (b2) (σ)  hr3) (lw_V q763 q765 qs8 q91 q766) ⟨rfl, dsX2_word⟩ (by decide) (Nat.le_of_ble_eq_true rfl) (xk_rc hX (ci := 2) (by decide) (by decide) hkb) (by rw [eb]; rfl) (gx_w8 gx_k0 (Nat.le_of_ble_eq_true rfl)) dX2_clause_1 (xk_hfx hm hl) rfl rfl (fun _ h => h)
  | inr v5 =>
    have h := xk_thR h
    have hu := xk_use (C := σ4) h (xk_lr_op xk_m_pi (fun _ => (xk_lr_rd (fun _ => (xk_lr_rd (fun _ => (xk_lr_rd (fun _ => (xk_lr_rd (fun _ => (xk_lr_rd (fun _ => (xk_lr_rd (fun _ => (xk_lr_op xk_m_st (fun _ => (xk_lr_rd (fun _ => (xk_lr_rd (fun _ => (xk_lr_rd (fun _ => (xk_lr_th (mX2_some (mX2_fact N 10)) (fun _ _ => (xk_lr_rd (fun _ => (xk_lr_ca (mJ2_add) (fun _ => xk_lr_ret))))))))))))))))))))))))))))
    refine gx_cV (As := []) (rest := []) (b := b2) (P2 := xk_P (gx_A X) w σ4) hX (gx_TG.toT (tX2_word w (gx_A X) (gx_l X) N (b2) (σ)  hr3)) (lw_V q763 q765 qs8 q91 q766) ⟨rfl, dsX2_word⟩ (by decide) (Nat.le_of_ble_eq_true rfl) (xk_rc hX (ci := 2) (by decide) (by decide) hkb) (by rw [eb]; rfl) (gx_w8 gx_k0 (Nat.le_of_ble_eq_true rfl)) dX2_clause_1 (xk_hfc hm hl hu) rfl (xk_Gc hm hl ?_)
    have hm := xk_hmc hm hl
    refine gx_istore_n hX dX2_clause_4 (Nat.le_of_ble_eq_true rfl) gx_c1r (lv' := [some (va_rf (some x0)), some (.int (v5))]) rfl ?_
    refine gx_aload_n hX dX2_clause_5 rfl ?_
    refine gx_iconst (v := 0) hX dX2_clause_6 (by decide) ?_
    refine xk_puti hX 34 xk_ty34 rfl q189 (fun _ h => h) rfl rfl dX2_clause_7 h (fun σ6 hτ h => xk_Gt hτ ?_)
    have hm := xk_hme hm hτ
    have hu := xk_hue hu hτ
    refine gx_aload_n hX dX2_clause_10 rfl ?_
    refine xk_getr hX 35 q190 (fun _ h => h) rfl dX2_clause_11 h (fun v7 h => ?_)
    refine xk_getrN hX 67 q743 rfl dX2_clause_14 h (fun v8 h => ?_)
    refine gx_aload_n hX dX2_clause_17 rfl ?_
    refine xk_getr hX 35 q190 (fun _ h => h) rfl dX2_clause_18 h (fun v9 h => ?_)
    refine xk_getrN hX 66 q741 rfl dX2_clause_21 h (fun v10 h => ?_)
    obtain ⟨b12, hb, h⟩ := gx_bs h
    obtain ⟨eb, hkb⟩ := xk_isS hb
    obtain ⟨r11, hr11, h⟩ := gx_bs h
    refine gx_cV (As := []) (rest := [va_rf (v8)]) (b := b12) hX (tJ2_size w (gx_A X) (gx_l X) (b12) (σ6)  hr11) (lw_V q731 q315 q316 q89 q317) ⟨rfl, dsJ2_size⟩ (by decide) (Nat.le_of_ble_eq_true rfl) (xk_rc hX (ci := 20) (by decide) (by decide) hkb) (by rw [eb]; rfl) (gx_w8 (gx_kR gx_k0) (Nat.le_of_ble_eq_true rfl)) dX2_clause_24 (xk_hfe hu) rfl (xk_Gz ?_)
    refine gx_iload_n hX dX2_clause_27 rfl ?_
    refine xk_iastore hX dX2_clause_28 h (fun σ13 hτ h => xk_Gt hτ ?_)
    have hm := xk_hme hm hτ
    have hu := xk_hue hu hτ
    refine gx_aload_n hX dX2_clause_29 rfl ?_
    refine xk_getr hX 35 q190 (fun _ h => h) rfl dX2_clause_30 h (fun v14 h => ?_)
    refine xk_getrN hX 66 q741 rfl dX2_clause_33 h (fun v15 h => ?_)
    refine gx_aload_n hX dX2_clause_36 rfl ?_
    obtain ⟨b17, hb, h⟩ := gx_bs h
    obtain ⟨eb, hkb⟩ := xk_isS hb
    obtain ⟨r18, hr18, h⟩ := gx_bs h
    obtain ⟨σ19, s0σ19⟩ := r18
    have hl := (mX2_some (mX2_fact N 10)) _ hr18
    dsimp only at hl
    cases s0σ19 with
    | inl e9 =>
      cases xk_thL h
      exact gx_cVX (As := []) (rest := [va_rf (v15)]) (b := b17) (x := e9) (P2 := xk_P (gx_A X) w σ19) hX hE (tX2_some w (gx_A X) (gx_l X) (F := fX2_fact N 10) (lF := 37) (by decide) (tX2_fact w (gx_A X) (gx_l X) N 10) (mX2_fact N 10) N (b17) (σ13)  hr18) (lw_V q838 q840 qs12 q91 q841) ⟨rfl, dsX2_some⟩ (by omega) (Nat.le_of_ble_eq_true rfl) (xk_rc hX (ci := 2) (by decide) (by decide) hkb) (by rw [eb]; rfl) (gx_w8 (gx_kR gx_k0) (Nat.le_of_ble_eq_true rfl)) dX2_clause_37 (xk_hfx hm hl) rfl rfl (fun _ h => h)
    | inr v20 =>
      have h := xk_thR h
      have hu := xk_use (C := σ19) h (xk_lr_rd (fun _ => (xk_lr_ca (mJ2_add) (fun _ => xk_lr_ret))))
      refine gx_cV (As := []) (rest := [va_rf (v15)]) (b := b17) (P2 := xk_P (gx_A X) w σ19) hX (gx_TG.toT (tX2_some w (gx_A X) (gx_l X) (F := fX2_fact N 10) (lF := 37) (by decide) (tX2_fact w (gx_A X) (gx_l X) N 10) (mX2_fact N 10) N (b17) (σ13)  hr18)) (lw_V q838 q840 qs12 q91 q841) ⟨rfl, dsX2_some⟩ (by omega) (Nat.le_of_ble_eq_true rfl) (xk_rc hX (ci := 2) (by decide) (by decide) hkb) (by rw [eb]; rfl) (gx_w8 (gx_kR gx_k0) (Nat.le_of_ble_eq_true rfl)) dX2_clause_37 (xk_hfc hm hl hu) rfl (xk_Gc hm hl ?_)
      have hm := xk_hmc hm hl
      obtain ⟨b22, hb, h⟩ := gx_bs h
      obtain ⟨eb, hkb⟩ := xk_isS hb
      obtain ⟨r21, hr21, h⟩ := gx_bs h
      have hl := (mJ2_add) _ hr21
      have hu := xk_use (C := r21.1) h xk_lr_ret
      refine gx_cV (As := [va_rf (v20)]) (rest := []) (b := b22) hX (tJ2_add w (gx_A X) (gx_l X) (b22) (σ19) (v20) hr21) (lw_V q885 q358 q359 q89 q360) ⟨rfl, dsJ2_add⟩ (by decide) (Nat.le_of_ble_eq_true rfl) (xk_rc hX (ci := 20) (by decide) (by decide) hkb) (by rw [eb]; rfl) (gx_w8 gx_k0 (Nat.le_of_ble_eq_true rfl)) dX2_clause_40 (xk_hfc hm hl hu) rfl (xk_Gc hm hl ?_)
      have hm := xk_hmc hm hl
      refine gx_pop hX dX2_clause_43 rfl ?_
      cases h
      exact gx_vret hX rfl dX2_clause_44 rfl ⟨rfl, rfl⟩ (fun _ h => h)
abbrev iX2_read : gx_M := (RX2, "read", cX2_read, 1, some (.object "ShellBeach$Habit"))
theorem dsX2_read : gx_ds yX2_read 0 := by decide +kernel
def fX2_read_B72 (N : Nat) (x0 : Nat)   (σ : xk_C) : Option (xk_C × (Nat ⊕ Option Nat)) := (xk_nw (σ) 14).bind fun σ21 => (xk_gi (σ21) 33 (some x0)).bind fun v22 => (fX14_init ((xk_n (σ))) (σ21) (v22)).bind fun r23 => some (r23.1, .inl ((xk_n (σ))))
set_option maxHeartbeats 4000000 in
theorem lX2_read_B72 {r : xk_C × (Nat ⊕ Option Nat)} {N : Nat} {x0 : Nat}   {σ : xk_C} : xk_lr r σ (fX2_read_B72 N x0 σ) := by
  unfold fX2_read_B72
  exact (xk_lr_op xk_m_nw (fun _ => (xk_lr_rd (fun _ => (xk_lr_ca (mX14_init) (fun _ => xk_lr_ret))))))
set_option maxHeartbeats 4000000 in
theorem tX2_read_B72 {w : gw_W} {X : gx_X} {N : Nat} {x0 : Nat} {n0 s0 : Nat} {r : xk_C × (Nat ⊕ Option Nat)} (hX : gx_O (gw_I w (gx_A X)) X iX2_read 41 (xk_n r.1 - n0) (xk_s r.1 - s0) (xk_P (gx_A X) w r.1) (xk_oR r.2)) (hE : (gx_c X).exceptionTable.isEmpty = true)  {σ : xk_C} (hm : n0 ≤ xk_n σ ∧ s0 ≤ xk_s σ) (h : fX2_read_B72 N x0 σ = some r) : gx_G X (xk_P (gx_A X) w (σ)) (xk_n (σ) - n0) (xk_s (σ) - s0) [some (va_rf (some x0))] 72 [] := by
  have hu := lX2_read_B72 (r := r)  h
  unfold fX2_read_B72 at h
  refine xk_new hX 14 ⟨by decide, by decide⟩ ⟨q771, q772, q111⟩ dX2_read_72 h (fun σ21 hτ h => ?_)
  have hu := xk_use (C := σ21) h (xk_lr_rd (fun _ => (xk_lr_ca (mX14_init) (fun _ => xk_lr_ret))))
  refine ⟨xk_hfm hm hτ hu, xk_Gm hm hτ ?_⟩
  have hm := xk_hmm hm hτ
  refine gx_dup hX dX2_read_75 (gx_cat _) ?_
  refine gx_aload_n hX dX2_read_76 rfl ?_
  refine xk_geti hX 33 q188 (fun _ h => h) rfl dX2_read_77 h (fun v22 h => ?_)
  obtain ⟨r23, hr23, h⟩ := gx_bs h
  have he := eX14_init _ hr23
  refine gx_cI (As := [.int (v22)]) (rest := [va_rf (some (xk_n (σ)))]) (b := (xk_n (σ))) (C2 := RX14) (nm2 := "<init>") hX (tX14_init w (gx_A X) (gx_l X) ((xk_n (σ))) (σ21) (v22) hr23) (lw_meth q810) ⟨q111, q808, q809⟩ ⟨rfl, dsX14_init⟩ (by decide) (Nat.le_of_ble_eq_true rfl) rfl (gx_w8 (gx_kR gx_k0) (Nat.le_of_ble_eq_true rfl)) dX2_read_80 (xk_hfe hu) rfl (xk_Ge he ?_)
  have hm := xk_hme hm he
  have hu := xk_hue hu he
  cases h
  exact gx_athrow hX hE dX2_read_83 rfl ⟨rfl, rfl⟩ (fun _ h => h)
def fX2_read_L34 (N : Nat) (x0 : Nat)   : Nat → xk_C → Option (xk_C × (Nat ⊕ Option Nat))
  | 0, _ => none
  | k + 1, σ => (xk_gi (σ) 33 (some x0)).bind fun v15 => (xk_gr (σ) 36 (some x0)).bind fun v16 => (xk_gi (σ) 9 (v16)).bind fun v17 => if (v17) ≤ v15 then (xk_gr (σ) 35 (some x0)).bind fun v18 => some (σ, .inr (v18)) else (xk_is (σ) 3 (some x0)).bind fun b20 => (fX2_next (b20) (σ)).bind fun r19 => if r19 = nI 59 then (xk_gr (σ) 35 (some x0)).bind fun v24 => (xk_gr (σ) 66 (v24)).bind fun v25 => (xk_is (σ) 21 (v25)).bind fun b27 => (fJ2_size (b27) (σ)).bind fun r26 => if r26 = nI 8 then fX2_read_B72 N x0 (σ) else (xk_gi (σ) 33 (some x0)).bind fun v28 => (xk_pi (σ) 33 (some x0) ((v28) + (1))).bind fun σ29 => (xk_is (σ29) 3 (some x0)).bind fun b31 => (fX2_clause N (b31) (σ29)).bind fun r32 => xk_th r32 fun σ33 v34 => (fX2_read_L34 N x0 k) (σ33) else fX2_read_B72 N x0 (σ)
set_option maxHeartbeats 4000000 in
theorem lX2_read_L34 {r : xk_C × (Nat ⊕ Option Nat)} {N : Nat} {x0 : Nat}   : ∀ (k : Nat) (σ : xk_C), xk_lr r σ (fX2_read_L34 N x0 k σ) := by
  intro k
  induction k with
  | zero =>
    intro σ
    unfold fX2_read_L34
    exact xk_lr_none
  | succ k hL34 =>
    intro σ
    unfold fX2_read_L34
    exact (xk_lr_rd (fun _ => (xk_lr_rd (fun _ => (xk_lr_rd (fun _ => (xk_lr_ite (xk_lr_rd (fun _ => xk_lr_ret)) (xk_lr_rd (fun _ => (xk_lr_rd (fun _ => (xk_lr_ite (xk_lr_rd (fun _ => (xk_lr_rd (fun _ => (xk_lr_rd (fun _ => (xk_lr_rd (fun _ => (xk_lr_ite (lX2_read_B72 ) (xk_lr_rd (fun _ => (xk_lr_op xk_m_pi (fun _ => (xk_lr_rd (fun _ => (xk_lr_th (mX2_clause) (fun _ _ => (hL34 _)))))))))))))))))) (lX2_read_B72 )))))))))))))
set_option maxHeartbeats 4000000 in
theorem tX2_read_L34 {w : gw_W} {X : gx_X} {N : Nat} {x0 : Nat} {n0 s0 : Nat} {r : xk_C × (Nat ⊕ Option Nat)} (hX : gx_O (gw_I w (gx_A X)) X iX2_read 41 (xk_n r.1 - n0) (xk_s r.1 - s0) (xk_P (gx_A X) w r.1) (xk_oR r.2)) (hE : (gx_c X).exceptionTable.isEmpty = true)  : ∀ (k : Nat) (σ : xk_C), (n0 ≤ xk_n σ ∧ s0 ≤ xk_s σ) → fX2_read_L34 N x0 k σ = some r → gx_G X (xk_P (gx_A X) w (σ)) (xk_n (σ) - n0) (xk_s (σ) - s0) [some (va_rf (some x0))] 34 [] := by
  intro k
  induction k with
  | zero =>
    intro σ hm h
    unfold fX2_read_L34 at h
    cases h
  | succ k ih =>
    intro σ hm h
    have hu := lX2_read_L34 (r := r)  (k + 1) _ h
    unfold fX2_read_L34 at h
    have hL34 : ∀ (σ : xk_C), xk_lr r σ (fX2_read_L34 N x0 k σ) := fun σ => lX2_read_L34  k σ
    refine gx_aload_n hX dX2_read_34 rfl ?_
    refine xk_geti hX 33 q188 (fun _ h => h) rfl dX2_read_35 h (fun v15 h => ?_)
    refine gx_aload_n hX dX2_read_38 rfl ?_
    refine xk_getr hX 36 q191 (fun _ h => h) rfl dX2_read_39 h (fun v16 h => ?_)
    refine xk_getiN hX 9 q228 rfl dX2_read_42 h (fun v17 h => ?_)
    refine gx_icmp_ge (tgt := 101) hX dX2_read_45 (by decide) h (fun h => ?_) (fun h => ?_)
    · refine gx_aload_n hX dX2_read_101 rfl ?_
      refine xk_getr hX 35 q190 (fun _ h => h) rfl dX2_read_102 h (fun v18 h => ?_)
      cases h
      exact gx_aret hX rfl (Or.inl ⟨_, rfl⟩) dX2_read_105 rfl ⟨rfl, rfl⟩ (fun _ h => h)
    · refine gx_aload_n hX dX2_read_48 rfl ?_
      obtain ⟨b20, hb, h⟩ := gx_bs h
      obtain ⟨eb, hkb⟩ := xk_isS hb
      obtain ⟨r19, hr19, h⟩ := gx_bs h
      refine gx_cV (As := []) (rest := []) (b := b20) hX (tX2_next w (gx_A X) (gx_l X) (b20) (σ)  hr19) (lw_V q767 q769 qs9 q91 q770) ⟨rfl, dsX2_next⟩ (by decide) (Nat.le_of_ble_eq_true rfl) (xk_rc hX (ci := 2) (by decide) (by decide) hkb) (by rw [eb]; rfl) (gx_w8 gx_k0 (Nat.le_of_ble_eq_true rfl)) dX2_read_49 (xk_hfe hu) rfl (xk_Gz ?_)
      refine gx_bipush (v := nI 59) hX dX2_read_52 (by decide) ?_
      refine gx_icmp_ne (tgt := 72) hX dX2_read_54 (by decide) h (fun h => ?_) (fun h => ?_)
      · refine gx_aload_n hX dX2_read_57 rfl ?_
        refine xk_getr hX 35 q190 (fun _ h => h) rfl dX2_read_58 h (fun v24 h => ?_)
        refine xk_getrN hX 66 q741 rfl dX2_read_61 h (fun v25 h => ?_)
        obtain ⟨b27, hb, h⟩ := gx_bs h
        obtain ⟨eb, hkb⟩ := xk_isS hb
        obtain ⟨r26, hr26, h⟩ := gx_bs h
        refine gx_cV (As := []) (rest := []) (b := b27) hX (tJ2_size w (gx_A X) (gx_l X) (b27) (σ)  hr26) (lw_V q731 q315 q316 q89 q317) ⟨rfl, dsJ2_size⟩ (by decide) (Nat.le_of_ble_eq_true rfl) (xk_rc hX (ci := 20) (by decide) (by decide) hkb) (by rw [eb]; rfl) (gx_w8 gx_k0 (Nat.le_of_ble_eq_true rfl)) dX2_read_64 (xk_hfe hu) rfl (xk_Gz ?_)
        refine gx_bipush (v := nI 8) hX dX2_read_67 (by decide) ?_
        refine gx_icmp_ne (tgt := 84) hX dX2_read_69 (by decide) h (fun h => ?_) (fun h => ?_)
        · exact tX2_read_B72 hX hE  hm h
        · refine gx_aload_n hX dX2_read_84 rfl ?_
          refine gx_dup hX dX2_read_85 (gx_cat _) ?_
          refine xk_geti hX 33 q188 (fun _ h => h) rfl dX2_read_86 h (fun v28 h => ?_)
          refine gx_iconst (v := 1) hX dX2_read_89 (by decide) ?_
          refine gx_iadd hX dX2_read_90 ?_
          refine xk_puti hX 33 xk_ty33 rfl q188 (fun _ h => h) rfl rfl dX2_read_91 h (fun σ29 hτ h => xk_Gt hτ ?_)
          have hm := xk_hme hm hτ
          have hu := xk_hue hu hτ
          refine gx_aload_n hX dX2_read_94 rfl ?_
          obtain ⟨b31, hb, h⟩ := gx_bs h
          obtain ⟨eb, hkb⟩ := xk_isS hb
          obtain ⟨r32, hr32, h⟩ := gx_bs h
          obtain ⟨σ33, s0σ33⟩ := r32
          have hl := (mX2_clause) _ hr32
          dsimp only at hl
          cases s0σ33 with
          | inl e9 =>
            cases xk_thL h
            exact gx_cVX (As := []) (rest := []) (b := b31) (x := e9) (P2 := xk_P (gx_A X) w σ33) hX hE (tX2_clause w (gx_A X) (gx_l X) N (b31) (σ29)  hr32) (lw_V q759 q761 qs7 q91 q762) ⟨rfl, dsX2_clause⟩ (by decide) (Nat.le_of_ble_eq_true rfl) (xk_rc hX (ci := 2) (by decide) (by decide) hkb) (by rw [eb]; rfl) (gx_w8 gx_k0 (Nat.le_of_ble_eq_true rfl)) dX2_read_95 (xk_hfx hm hl) rfl rfl (fun _ h => h)
          | inr v34 =>
            have h := xk_thR h
            have hu := xk_use (C := σ33) h (hL34 _)
            refine gx_cV (As := []) (rest := []) (b := b31) (P2 := xk_P (gx_A X) w σ33) hX (gx_TG.toT (tX2_clause w (gx_A X) (gx_l X) N (b31) (σ29)  hr32)) (lw_V q759 q761 qs7 q91 q762) ⟨rfl, dsX2_clause⟩ (by decide) (Nat.le_of_ble_eq_true rfl) (xk_rc hX (ci := 2) (by decide) (by decide) hkb) (by rw [eb]; rfl) (gx_w8 gx_k0 (Nat.le_of_ble_eq_true rfl)) dX2_read_95 (xk_hfc hm hl hu) rfl (xk_Gc hm hl ?_)
            have hm := xk_hmc hm hl
            refine gx_goto (tgt := 34) hX dX2_read_98 (by decide) ?_
            exact ih _ hm h
      · exact tX2_read_B72 hX hE  hm h
def fX2_read (N : Nat) (x0 : Nat) (σ : xk_C)  : Option (xk_C × (Nat ⊕ Option Nat)) := (xk_pi (σ) 33 (some x0) (0)).bind fun σ1 => (xk_nw (σ1) 13).bind fun σ2 => (xk_gr (σ2) 36 (some x0)).bind fun v3 => (xk_gr (σ2) 36 (some x0)).bind fun v4 => (xk_gr (σ2) 11 (v4)).bind fun v5 => (xk_is (σ2) 21 (v5)).bind fun b7 => (fJ2_size (b7) (σ2)).bind fun r6 => (fX13_init ((xk_n (σ1))) (σ2) (v3) (r6)).bind fun r8 => (xk_pr (r8.1) 35 (some x0) (some (xk_n (σ1)))).bind fun σ9 => (xk_is (σ9) 3 (some x0)).bind fun b11 => (fX2_clause N (b11) (σ9)).bind fun r12 => xk_th r12 fun σ13 v14 => fX2_read_L34 N x0 N (σ13)
set_option maxHeartbeats 4000000 in
theorem mX2_read {N : Nat} {x0 : Nat} {σ : xk_C}  : ∀ p, fX2_read N x0 σ = some p → xk_n σ ≤ xk_n p.1 ∧ xk_s σ ≤ xk_s p.1 := fun r => show xk_lr r σ (fX2_read N x0 σ) from by
  unfold fX2_read
  exact (xk_lr_op xk_m_pi (fun _ => (xk_lr_op xk_m_nw (fun _ => (xk_lr_rd (fun _ => (xk_lr_rd (fun _ => (xk_lr_rd (fun _ => (xk_lr_rd (fun _ => (xk_lr_rd (fun _ => (xk_lr_ca (mX13_init) (fun _ => (xk_lr_op xk_m_pr (fun _ => (xk_lr_rd (fun _ => (xk_lr_th (mX2_clause) (fun _ _ => (lX2_read_L34  N _)))))))))))))))))))))))
set_option maxHeartbeats 4000000 in
theorem tX2_read (w : gw_W) (A : Nat → Prop) (l : Launch) (N : Nat) (x0 : Nat) (σ : xk_C)  {r : xk_C × (Nat ⊕ Option Nat)} (h : fX2_read N x0 σ = some r) : gx_TG (gw_I w A) A l yX2_read iX2_read 41 [va_rf (some x0)] (xk_P A w σ) (xk_n r.1 - xk_n σ) (xk_s r.1 - xk_s σ) (xk_P A w r.1) (xk_oR r.2) := by
  refine gx_TG.of (gw_I.inv w A) (by decide) ⟨rfl, rfl⟩ (gx_kR gx_k0) (Nat.le_of_ble_eq_true rfl) (fun X hl hAx hX hE => ?_)
  subst hl
  subst hAx
  show gx_G X (xk_P (gx_A X) w (σ)) 0 0 [some (va_rf (some x0))] 0 []
  have hu := mX2_read _ h
  unfold fX2_read at h
  refine xk_G0 (a := xk_n σ) (b := xk_s σ) ?_
  have hm : xk_n σ ≤ xk_n σ ∧ xk_s σ ≤ xk_s σ := ⟨Nat.le_refl _, Nat.le_refl _⟩
  refine gx_aload_n hX dX2_read_0 rfl ?_
  refine gx_iconst (v := 0) hX dX2_read_1 (by decide) ?_
  refine xk_puti hX 33 xk_ty33 rfl q188 (fun _ h => h) rfl rfl dX2_read_2 h (fun σ1 hτ h => xk_Gt hτ ?_)
  have hm := xk_hme hm hτ
  have hu := xk_hue hu hτ
  refine gx_aload_n hX dX2_read_5 rfl ?_
  refine xk_new hX 13 ⟨by decide, by decide⟩ ⟨q729, q730, q108⟩ dX2_read_6 h (fun σ2 hτ h => ?_)
  have hu := xk_use (C := σ2) h (xk_lr_rd (fun _ => (xk_lr_rd (fun _ => (xk_lr_rd (fun _ => (xk_lr_rd (fun _ => (xk_lr_rd (fun _ => (xk_lr_ca (mX13_init) (fun _ => (xk_lr_op xk_m_pr (fun _ => (xk_lr_rd (fun _ => (xk_lr_th (mX2_clause) (fun _ _ => (lX2_read_L34  N _)))))))))))))))))))
  refine ⟨xk_hfm hm hτ hu, xk_Gm hm hτ ?_⟩
  have hm := xk_hmm hm hτ
  refine gx_dup hX dX2_read_9 (gx_cat _) ?_
  refine gx_aload_n hX dX2_read_10 rfl ?_
  refine xk_getr hX 36 q191 (fun _ h => h) rfl dX2_read_11 h (fun v3 h => ?_)
  refine gx_aload_n hX dX2_read_14 rfl ?_
  refine xk_getr hX 36 q191 (fun _ h => h) rfl dX2_read_15 h (fun v4 h => ?_)
  refine xk_getrN hX 11 q233 rfl dX2_read_18 h (fun v5 h => ?_)
  obtain ⟨b7, hb, h⟩ := gx_bs h
  obtain ⟨eb, hkb⟩ := xk_isS hb
  obtain ⟨r6, hr6, h⟩ := gx_bs h
  refine gx_cV (As := []) (rest := [va_rf (v3), va_rf (some (xk_n (σ1))), va_rf (some (xk_n (σ1))), va_rf (some x0)]) (b := b7) hX (tJ2_size w (gx_A X) (gx_l X) (b7) (σ2)  hr6) (lw_V q731 q315 q316 q89 q317) ⟨rfl, dsJ2_size⟩ (by decide) (Nat.le_of_ble_eq_true rfl) (xk_rc hX (ci := 20) (by decide) (by decide) hkb) (by rw [eb]; rfl) (gx_w8 (gx_kR (gx_kR (gx_kR (gx_kR gx_k0)))) (Nat.le_of_ble_eq_true rfl)) dX2_read_21 (xk_hfe hu) rfl (xk_Gz ?_)
  obtain ⟨r8, hr8, h⟩ := gx_bs h
  have hl := (mX13_init) _ hr8
  have hu := xk_use (C := r8.1) h (xk_lr_op xk_m_pr (fun _ => (xk_lr_rd (fun _ => (xk_lr_th (mX2_clause) (fun _ _ => (lX2_read_L34  N _)))))))
  refine gx_cI (As := [va_rf (v3), .int (r6)]) (rest := [va_rf (some (xk_n (σ1))), va_rf (some x0)]) (b := (xk_n (σ1))) (C2 := RX13) (nm2 := "<init>") hX (tX13_init w (gx_A X) (gx_l X) ((xk_n (σ1))) (σ2) (v3) (r6) hr8) (lw_meth q734) ⟨q108, q732, q733⟩ ⟨rfl, dsX13_init⟩ (by decide) (Nat.le_of_ble_eq_true rfl) rfl (gx_w8 (gx_kR (gx_kR gx_k0)) (Nat.le_of_ble_eq_true rfl)) dX2_read_24 (xk_hfc hm hl hu) rfl (xk_Gc hm hl ?_)
  have hm := xk_hmc hm hl
  refine xk_putr hX 35 xk_ty35 (Or.inl ⟨_, rfl⟩) q190 (fun _ h => h) rfl rfl dX2_read_27 h (fun σ9 hτ h => xk_Gt hτ ?_)
  have hm := xk_hme hm hτ
  have hu := xk_hue hu hτ
  refine gx_aload_n hX dX2_read_30 rfl ?_
  obtain ⟨b11, hb, h⟩ := gx_bs h
  obtain ⟨eb, hkb⟩ := xk_isS hb
  obtain ⟨r12, hr12, h⟩ := gx_bs h
  obtain ⟨σ13, s0σ13⟩ := r12
  have hl := (mX2_clause) _ hr12
  dsimp only at hl
  cases s0σ13 with
  | inl e9 =>
    cases xk_thL h
    exact gx_cVX (As := []) (rest := []) (b := b11) (x := e9) (P2 := xk_P (gx_A X) w σ13) hX hE (tX2_clause w (gx_A X) (gx_l X) N (b11) (σ9)  hr12) (lw_V q759 q761 qs7 q91 q762) ⟨rfl, dsX2_clause⟩ (by decide) (Nat.le_of_ble_eq_true rfl) (xk_rc hX (ci := 2) (by decide) (by decide) hkb) (by rw [eb]; rfl) (gx_w8 gx_k0 (Nat.le_of_ble_eq_true rfl)) dX2_read_31 (xk_hfx hm hl) rfl rfl (fun _ h => h)
  | inr v14 =>
    have h := xk_thR h
    have hu := xk_use (C := σ13) h (lX2_read_L34  N _)
    refine gx_cV (As := []) (rest := []) (b := b11) (P2 := xk_P (gx_A X) w σ13) hX (gx_TG.toT (tX2_clause w (gx_A X) (gx_l X) N (b11) (σ9)  hr12)) (lw_V q759 q761 qs7 q91 q762) ⟨rfl, dsX2_clause⟩ (by decide) (Nat.le_of_ble_eq_true rfl) (xk_rc hX (ci := 2) (by decide) (by decide) hkb) (by rw [eb]; rfl) (gx_w8 gx_k0 (Nat.le_of_ble_eq_true rfl)) dX2_read_31 (xk_hfc hm hl hu) rfl (xk_Gc hm hl ?_)
    have hm := xk_hmc hm hl
    exact tX2_read_L34 hX hE  N _ hm h
abbrev iX0_isNumber : gx_M := (RX0, "isNumber", cX0_isNumber, 1, some .boolean)
theorem dsX0_isNumber : gx_ds yX0_isNumber 1 := by decide +kernel
def fX0_isNumber (x0 : Int32) : Option (Int32) := (fX0_in  (x0) (0) (nI 999)).bind fun r1 => (gz (r1)).bind fun v2 => some (v2)
set_option maxHeartbeats 4000000 in
theorem tX0_isNumber (w : gw_W) (A : Nat → Prop) (l : Launch) (P : Heap → Prop) (x0 : Int32) {r : Int32} (h : fX0_isNumber x0 = some r) : gx_T (gw_I w A) A l yX0_isNumber iX0_isNumber 2 [.int (x0)] (P) 0 0 (P) (.returned (some (.int r))) := by
  refine gx_T.of (gw_I.inv w A) (by decide) ⟨rfl, rfl⟩ (gx_kI gx_k0) (Nat.le_of_ble_eq_true rfl) (fun X hl hAx hX => ?_)
  subst hl
  subst hAx
  show gx_G X (P) 0 0 [some (.int (x0))] 0 []
  unfold fX0_isNumber at h
  refine gx_iload_n hX dX0_isNumber_0 rfl ?_
  refine gx_iconst (v := 0) hX dX0_isNumber_1 (by decide) ?_
  refine gx_sipush (v := nI 999) hX dX0_isNumber_2 (by decide) ?_
  obtain ⟨r1, hr1, h⟩ := gx_bs h
  refine gx_cS (As := [.int (x0), .int (0), .int (nI 999)]) (rest := []) hX (tX0_in w (gx_A X) (gx_l X) (P) (x0) (0) (nI 999) hr1) (lw_S q311 q312 q86 q313) dsX0_in (by decide) (Nat.le_of_ble_eq_true rfl) rfl (gx_w8 gx_k0 (Nat.le_of_ble_eq_true rfl)) dX0_isNumber_5 ⟨Nat.le_refl _, Nat.le_refl _⟩ rfl ?_
  exact gx_zretP hX rfl dX0_isNumber_8 h (fun h => by cases h; rfl) ⟨rfl, rfl⟩ (fun h => by cases h; exact fun _ h => h)
abbrev iX0_areNumbers : gx_M := (RX0, "areNumbers", cX0_areNumbers, 5, some .boolean)
theorem dsX0_areNumbers : gx_ds yX0_areNumbers 5 := by decide +kernel
def fX0_areNumbers (x0 : Int32) (x1 : Int32) (x2 : Int32) (x3 : Int32) (x4 : Int32) : Option (Int32) := (fX0_isNumber  (x0)).bind fun r1 => if r1 = 0 then some (0) else (fX0_isNumber  (x1)).bind fun r2 => if r2 = 0 then some (0) else (fX0_isNumber  (x2)).bind fun r3 => if r3 = 0 then some (0) else (fX0_isNumber  (x3)).bind fun r4 => if r4 = 0 then some (0) else (fX0_isNumber  (x4)).bind fun r5 => if r5 = 0 then some (0) else some (1)
set_option maxHeartbeats 4000000 in
theorem tX0_areNumbers (w : gw_W) (A : Nat → Prop) (l : Launch) (P : Heap → Prop) (x0 : Int32) (x1 : Int32) (x2 : Int32) (x3 : Int32) (x4 : Int32) {r : Int32} (h : fX0_areNumbers x0 x1 x2 x3 x4 = some r) : gx_T (gw_I w A) A l yX0_areNumbers iX0_areNumbers 3 [.int (x0), .int (x1), .int (x2), .int (x3), .int (x4)] (P) 0 0 (P) (.returned (some (.int r))) := by
  refine gx_T.of (gw_I.inv w A) (by decide) ⟨rfl, rfl⟩ (gx_kI (gx_kI (gx_kI (gx_kI (gx_kI gx_k0))))) (Nat.le_of_ble_eq_true rfl) (fun X hl hAx hX => ?_)
  subst hl
  subst hAx
  show gx_G X (P) 0 0 [some (.int (x0)), some (.int (x1)), some (.int (x2)), some (.int (x3)), some (.int (x4))] 0 []
  unfold fX0_areNumbers at h
  refine gx_iload_n hX dX0_areNumbers_0 rfl ?_
  obtain ⟨r1, hr1, h⟩ := gx_bs h
  refine gx_cS (As := [.int (x0)]) (rest := []) hX (tX0_isNumber w (gx_A X) (gx_l X) (P) (x0) hr1) (lw_S q909 q910 q86 q911) dsX0_isNumber (by decide) (Nat.le_of_ble_eq_true rfl) rfl (gx_w8 gx_k0 (Nat.le_of_ble_eq_true rfl)) dX0_areNumbers_1 ⟨Nat.le_refl _, Nat.le_refl _⟩ rfl ?_
  refine gx_if_eq (tgt := 40) hX dX0_areNumbers_4 (by decide) h (fun h => ?_) (fun h => ?_)
  · refine gx_iconst (v := 0) hX dX0_areNumbers_40 (by decide) ?_
    cases h
    exact gx_zret hX rfl rfl dX0_areNumbers_41 rfl ⟨rfl, rfl⟩ (fun _ h => h)
  · refine gx_iload_n hX dX0_areNumbers_7 rfl ?_
    obtain ⟨r2, hr2, h⟩ := gx_bs h
    refine gx_cS (As := [.int (x1)]) (rest := []) hX (tX0_isNumber w (gx_A X) (gx_l X) (P) (x1) hr2) (lw_S q909 q910 q86 q911) dsX0_isNumber (by decide) (Nat.le_of_ble_eq_true rfl) rfl (gx_w8 gx_k0 (Nat.le_of_ble_eq_true rfl)) dX0_areNumbers_8 ⟨Nat.le_refl _, Nat.le_refl _⟩ rfl ?_
    refine gx_if_eq (tgt := 40) hX dX0_areNumbers_11 (by decide) h (fun h => ?_) (fun h => ?_)
    · refine gx_iconst (v := 0) hX dX0_areNumbers_40 (by decide) ?_
      cases h
      exact gx_zret hX rfl rfl dX0_areNumbers_41 rfl ⟨rfl, rfl⟩ (fun _ h => h)
    · refine gx_iload_n hX dX0_areNumbers_14 rfl ?_
      obtain ⟨r3, hr3, h⟩ := gx_bs h
      refine gx_cS (As := [.int (x2)]) (rest := []) hX (tX0_isNumber w (gx_A X) (gx_l X) (P) (x2) hr3) (lw_S q909 q910 q86 q911) dsX0_isNumber (by decide) (Nat.le_of_ble_eq_true rfl) rfl (gx_w8 gx_k0 (Nat.le_of_ble_eq_true rfl)) dX0_areNumbers_15 ⟨Nat.le_refl _, Nat.le_refl _⟩ rfl ?_
      refine gx_if_eq (tgt := 40) hX dX0_areNumbers_18 (by decide) h (fun h => ?_) (fun h => ?_)
      · refine gx_iconst (v := 0) hX dX0_areNumbers_40 (by decide) ?_
        cases h
        exact gx_zret hX rfl rfl dX0_areNumbers_41 rfl ⟨rfl, rfl⟩ (fun _ h => h)
      · refine gx_iload_n hX dX0_areNumbers_21 rfl ?_
        obtain ⟨r4, hr4, h⟩ := gx_bs h
        refine gx_cS (As := [.int (x3)]) (rest := []) hX (tX0_isNumber w (gx_A X) (gx_l X) (P) (x3) hr4) (lw_S q909 q910 q86 q911) dsX0_isNumber (by decide) (Nat.le_of_ble_eq_true rfl) rfl (gx_w8 gx_k0 (Nat.le_of_ble_eq_true rfl)) dX0_areNumbers_22 ⟨Nat.le_refl _, Nat.le_refl _⟩ rfl ?_
        refine gx_if_eq (tgt := 40) hX dX0_areNumbers_25 (by decide) h (fun h => ?_) (fun h => ?_)
        · refine gx_iconst (v := 0) hX dX0_areNumbers_40 (by decide) ?_
          cases h
          exact gx_zret hX rfl rfl dX0_areNumbers_41 rfl ⟨rfl, rfl⟩ (fun _ h => h)
        · refine gx_iload hX dX0_areNumbers_28 rfl ?_
          obtain ⟨r5, hr5, h⟩ := gx_bs h
          refine gx_cS (As := [.int (x4)]) (rest := []) hX (tX0_isNumber w (gx_A X) (gx_l X) (P) (x4) hr5) (lw_S q909 q910 q86 q911) dsX0_isNumber (by decide) (Nat.le_of_ble_eq_true rfl) rfl (gx_w8 gx_k0 (Nat.le_of_ble_eq_true rfl)) dX0_areNumbers_30 ⟨Nat.le_refl _, Nat.le_refl _⟩ rfl ?_
          refine gx_if_eq (tgt := 40) hX dX0_areNumbers_33 (by decide) h (fun h => ?_) (fun h => ?_)
          · refine gx_iconst (v := 0) hX dX0_areNumbers_40 (by decide) ?_
            cases h
            exact gx_zret hX rfl rfl dX0_areNumbers_41 rfl ⟨rfl, rfl⟩ (fun _ h => h)
          · refine gx_iconst (v := 1) hX dX0_areNumbers_36 (by decide) ?_
            refine gx_goto (tgt := 41) hX dX0_areNumbers_37 (by decide) ?_
            cases h
            exact gx_zret hX rfl rfl dX0_areNumbers_41 rfl ⟨rfl, rfl⟩ (fun _ h => h)
abbrev iX1_with : gx_M := (RX1, "with", cX1_with, 6, some (.object "ShellBeach$Case"))
theorem dsX1_with : gx_ds yX1_with 5 := by decide +kernel
def fX1_with (x0 : Nat) (σ : xk_C) (x1 : Int32) (x2 : Int32) (x3 : Int32) (x4 : Int32) (x5 : Int32) : Option (xk_C × Option Nat) := (xk_pi (σ) 27 (some x0) (x1)).bind fun σ1 => (xk_pi (σ1) 28 (some x0) (x2)).bind fun σ2 => (xk_pi (σ2) 29 (some x0) (x3)).bind fun σ3 => (xk_pi (σ3) 30 (some x0) (x4)).bind fun σ4 => (xk_pi (σ4) 31 (some x0) (x5)).bind fun σ5 => some (σ5, some x0)
set_option maxHeartbeats 4000000 in
theorem eX1_with {x0 : Nat} {σ : xk_C} {x1 : Int32} {x2 : Int32} {x3 : Int32} {x4 : Int32} {x5 : Int32} : ∀ p, fX1_with x0 σ x1 x2 x3 x4 x5 = some p → xk_n p.1 = xk_n σ ∧ xk_s p.1 = xk_s σ := fun r => show xk_er r σ (fX1_with x0 σ x1 x2 x3 x4 x5) from by
  unfold fX1_with
  exact (xk_er_op xk_e_pi (fun _ => (xk_er_op xk_e_pi (fun _ => (xk_er_op xk_e_pi (fun _ => (xk_er_op xk_e_pi (fun _ => (xk_er_op xk_e_pi (fun _ => xk_er_ret))))))))))
theorem mX1_with {x0 : Nat} {σ : xk_C} {x1 : Int32} {x2 : Int32} {x3 : Int32} {x4 : Int32} {x5 : Int32} : ∀ p, fX1_with x0 σ x1 x2 x3 x4 x5 = some p → xk_n σ ≤ xk_n p.1 ∧ xk_s σ ≤ xk_s p.1 := fun p h => xk_le_of (eX1_with p h)
set_option maxHeartbeats 4000000 in
theorem tX1_with (w : gw_W) (A : Nat → Prop) (l : Launch) (x0 : Nat) (σ : xk_C) (x1 : Int32) (x2 : Int32) (x3 : Int32) (x4 : Int32) (x5 : Int32) {r : xk_C × Option Nat} (h : fX1_with x0 σ x1 x2 x3 x4 x5 = some r) : gx_T (gw_I w A) A l yX1_with iX1_with 1 [va_rf (some x0), .int (x1), .int (x2), .int (x3), .int (x4), .int (x5)] (xk_P A w σ) 0 0 (xk_P A w r.1) (.returned (some (va_rf r.2))) := by
  refine gx_T.of (gw_I.inv w A) (by decide) ⟨rfl, rfl⟩ (gx_kR (gx_kI (gx_kI (gx_kI (gx_kI (gx_kI gx_k0)))))) (Nat.le_of_ble_eq_true rfl) (fun X hl hAx hX => ?_)
  subst hl
  subst hAx
  show gx_G X (xk_P (gx_A X) w (σ)) 0 0 [some (va_rf (some x0)), some (.int (x1)), some (.int (x2)), some (.int (x3)), some (.int (x4)), some (.int (x5))] 0 []
  unfold fX1_with at h
  refine gx_aload_n hX dX1_with_0 rfl ?_
  refine gx_iload_n hX dX1_with_1 rfl ?_
  refine xk_puti hX 27 xk_ty27 rfl q161 (fun _ h => h) rfl rfl dX1_with_2 h (fun σ1 hτ h => ?_)
  refine gx_aload_n hX dX1_with_5 rfl ?_
  refine gx_iload_n hX dX1_with_6 rfl ?_
  refine xk_puti hX 28 xk_ty28 rfl q162 (fun _ h => h) rfl rfl dX1_with_7 h (fun σ2 hτ h => ?_)
  refine gx_aload_n hX dX1_with_10 rfl ?_
  refine gx_iload_n hX dX1_with_11 rfl ?_
  refine xk_puti hX 29 xk_ty29 rfl q163 (fun _ h => h) rfl rfl dX1_with_12 h (fun σ3 hτ h => ?_)
  refine gx_aload_n hX dX1_with_15 rfl ?_
  refine gx_iload hX dX1_with_16 rfl ?_
  refine xk_puti hX 30 xk_ty30 rfl q164 (fun _ h => h) rfl rfl dX1_with_18 h (fun σ4 hτ h => ?_)
  refine gx_aload_n hX dX1_with_21 rfl ?_
  refine gx_iload hX dX1_with_22 rfl ?_
  refine xk_puti hX 31 xk_ty31 rfl q165 (fun _ h => h) rfl rfl dX1_with_24 h (fun σ5 hτ h => ?_)
  refine gx_aload_n hX dX1_with_27 rfl ?_
  cases h
  exact gx_aret hX rfl (Or.inl ⟨_, rfl⟩) dX1_with_28 rfl ⟨rfl, rfl⟩ (fun _ h => h)
abbrev iX1_fact : gx_M := (RX1, "fact", cX1_fact, 2, some .int)
theorem dsX1_fact : gx_ds yX1_fact 1 := by decide +kernel
def fX1_fact (x0 : Nat) (σ : xk_C) (x1 : Int32) : Option (Int32) := if x1 = nI 102 then (xk_gi (σ) 27 (some x0)).bind fun v1 => some (v1) else if x1 = nI 103 then (xk_gi (σ) 28 (some x0)).bind fun v2 => some (v2) else if x1 = nI 111 then (xk_gi (σ) 30 (some x0)).bind fun v3 => some (v3) else if x1 = nI 115 then (xk_gi (σ) 29 (some x0)).bind fun v4 => some (v4) else (xk_gi (σ) 31 (some x0)).bind fun v5 => some (v5)
set_option maxHeartbeats 4000000 in
theorem tX1_fact (w : gw_W) (A : Nat → Prop) (l : Launch) (x0 : Nat) (σ : xk_C) (x1 : Int32) {r : Int32} (h : fX1_fact x0 σ x1 = some r) : gx_T (gw_I w A) A l yX1_fact iX1_fact 1 [va_rf (some x0), .int (x1)] (xk_P A w σ) 0 0 (xk_P A w σ) (.returned (some (.int r))) := by
  refine gx_T.of (gw_I.inv w A) (by decide) ⟨rfl, rfl⟩ (gx_kR (gx_kI gx_k0)) (Nat.le_of_ble_eq_true rfl) (fun X hl hAx hX => ?_)
  subst hl
  subst hAx
  show gx_G X (xk_P (gx_A X) w (σ)) 0 0 [some (va_rf (some x0)), some (.int (x1))] 0 []
  unfold fX1_fact at h
  refine gx_iload_n hX dX1_fact_0 rfl ?_
  by_cases c0 : x1 = nI 102
  · rw [if_pos c0] at h
    refine gx_lsw (off := 43) (tgt := 44) hX dX1_fact_1 (by decide) (by rw [c0]; decide) (by decide) ?_
    refine gx_aload_n hX dX1_fact_44 rfl ?_
    refine xk_geti hX 27 q161 (fun _ h => h) rfl dX1_fact_45 h (fun v1 h => ?_)
    cases h
    exact gx_iret hX rfl dX1_fact_48 rfl ⟨rfl, rfl⟩ (fun _ h => h)
  · rw [if_neg c0] at h
    by_cases c1 : x1 = nI 103
    · rw [if_pos c1] at h
      refine gx_lsw (off := 48) (tgt := 49) hX dX1_fact_1 (by decide) (by rw [c1]; decide) (by decide) ?_
      refine gx_aload_n hX dX1_fact_49 rfl ?_
      refine xk_geti hX 28 q162 (fun _ h => h) rfl dX1_fact_50 h (fun v2 h => ?_)
      cases h
      exact gx_iret hX rfl dX1_fact_53 rfl ⟨rfl, rfl⟩ (fun _ h => h)
    · rw [if_neg c1] at h
      by_cases c2 : x1 = nI 111
      · rw [if_pos c2] at h
        refine gx_lsw (off := 58) (tgt := 59) hX dX1_fact_1 (by decide) (by rw [c2]; decide) (by decide) ?_
        refine gx_aload_n hX dX1_fact_59 rfl ?_
        refine xk_geti hX 30 q164 (fun _ h => h) rfl dX1_fact_60 h (fun v3 h => ?_)
        cases h
        exact gx_iret hX rfl dX1_fact_63 rfl ⟨rfl, rfl⟩ (fun _ h => h)
      · rw [if_neg c2] at h
        by_cases c3 : x1 = nI 115
        · rw [if_pos c3] at h
          refine gx_lsw (off := 53) (tgt := 54) hX dX1_fact_1 (by decide) (by rw [c3]; decide) (by decide) ?_
          refine gx_aload_n hX dX1_fact_54 rfl ?_
          refine xk_geti hX 29 q163 (fun _ h => h) rfl dX1_fact_55 h (fun v4 h => ?_)
          cases h
          exact gx_iret hX rfl dX1_fact_58 rfl ⟨rfl, rfl⟩ (fun _ h => h)
        · rw [if_neg c3] at h
          have e0 : (x1).toInt ≠ 102 := gx_nei c0
          have e1 : (x1).toInt ≠ 103 := gx_nei c1
          have e2 : (x1).toInt ≠ 111 := gx_nei c2
          have e3 : (x1).toInt ≠ 115 := gx_nei c3
          refine gx_lsw (off := 63) (tgt := 64) hX dX1_fact_1 (by decide) (by simp [Op.lookupswitch.offset, e0, e0.symm, e1, e1.symm, e2, e2.symm, e3, e3.symm]) (by decide) ?_
          refine gx_aload_n hX dX1_fact_64 rfl ?_
          refine xk_geti hX 31 q165 (fun _ h => h) rfl dX1_fact_65 h (fun v5 h => ?_)
          cases h
          exact gx_iret hX rfl dX1_fact_68 rfl ⟨rfl, rfl⟩ (fun _ h => h)
abbrev iX16_holds : gx_M := (RX16, "holds", cX16_holds, 3, some .boolean)
theorem dsX16_holds : gx_ds yX16_holds 1 := by decide +kernel
def fX16_holds (x0 : Nat) (σ : xk_C) (x1 : Option Nat) : Option (Int32) := (xk_gi (σ) 78 (some x0)).bind fun v1 => (xk_is (σ) 2 (x1)).bind fun b3 => (fX1_fact (b3) (σ) (v1)).bind fun r2 => (xk_gi (σ) 79 (some x0)).bind fun v4 => if v4 = nI 60 then (xk_gi (σ) 80 (some x0)).bind fun v8 => if (v8) ≤ r2 then some (0) else some (1) else (xk_gi (σ) 79 (some x0)).bind fun v5 => if v5 = nI 61 then (xk_gi (σ) 80 (some x0)).bind fun v7 => if r2 = v7 then some (1) else some (0) else (xk_gi (σ) 80 (some x0)).bind fun v6 => if (r2) ≤ v6 then some (0) else some (1)
set_option maxHeartbeats 4000000 in
theorem tX16_holds (w : gw_W) (A : Nat → Prop) (l : Launch) (x0 : Nat) (σ : xk_C) (x1 : Option Nat) {r : Int32} (h : fX16_holds x0 σ x1 = some r) : gx_T (gw_I w A) A l yX16_holds iX16_holds 2 [va_rf (some x0), va_rf (x1)] (xk_P A w σ) 0 0 (xk_P A w σ) (.returned (some (.int r))) := by
  refine gx_T.of (gw_I.inv w A) (by decide) ⟨rfl, rfl⟩ (gx_kR (gx_kR gx_k0)) (Nat.le_of_ble_eq_true rfl) (fun X hl hAx hX => ?_)
  subst hl
  subst hAx
  show gx_G X (xk_P (gx_A X) w (σ)) 0 0 [some (va_rf (some x0)), some (va_rf (x1)), none] 0 []
  unfold fX16_holds at h
  refine gx_aload_n hX dX16_holds_0 rfl ?_
  refine gx_aload_n hX dX16_holds_1 rfl ?_
  refine xk_geti hX 78 q874 (fun _ h => h) rfl dX16_holds_2 h (fun v1 h => ?_)
  obtain ⟨b3, hb, h⟩ := gx_bs h
  obtain ⟨eb, hkb⟩ := xk_isS hb
  obtain ⟨r2, hr2, h⟩ := gx_bs h
  refine gx_cV (As := [.int (v1)]) (rest := []) (b := b3) hX (tX1_fact w (gx_A X) (gx_l X) (b3) (σ) (v1) hr2) (lw_V q933 q934 q935 q90 q936) ⟨rfl, dsX1_fact⟩ (by decide) (Nat.le_of_ble_eq_true rfl) (xk_rc hX (ci := 1) (by decide) (by decide) hkb) (by rw [eb]; rfl) (gx_w8 gx_k0 (Nat.le_of_ble_eq_true rfl)) dX16_holds_5 ⟨Nat.le_refl _, Nat.le_refl _⟩ rfl ?_
  refine gx_istore_n hX dX16_holds_8 (Nat.le_of_ble_eq_true rfl) gx_c1r (lv' := [some (va_rf (some x0)), some (va_rf (x1)), some (.int (r2))]) rfl ?_
  refine gx_aload_n hX dX16_holds_9 rfl ?_
  refine xk_geti hX 79 q875 (fun _ h => h) rfl dX16_holds_10 h (fun v4 h => ?_)
  refine gx_bipush (v := nI 60) hX dX16_holds_13 (by decide) ?_
  refine gx_icmp_ne (tgt := 34) hX dX16_holds_15 (by decide) h (fun h => ?_) (fun h => ?_)
  · refine gx_iload_n hX dX16_holds_18 rfl ?_
    refine gx_aload_n hX dX16_holds_19 rfl ?_
    refine xk_geti hX 80 q876 (fun _ h => h) rfl dX16_holds_20 h (fun v8 h => ?_)
    refine gx_icmp_ge (tgt := 30) hX dX16_holds_23 (by decide) h (fun h => ?_) (fun h => ?_)
    · refine gx_iconst (v := 0) hX dX16_holds_30 (by decide) ?_
      refine gx_goto (tgt := 72) hX dX16_holds_31 (by decide) ?_
      cases h
      exact gx_zret hX rfl rfl dX16_holds_72 rfl ⟨rfl, rfl⟩ (fun _ h => h)
    · refine gx_iconst (v := 1) hX dX16_holds_26 (by decide) ?_
      refine gx_goto (tgt := 72) hX dX16_holds_27 (by decide) ?_
      cases h
      exact gx_zret hX rfl rfl dX16_holds_72 rfl ⟨rfl, rfl⟩ (fun _ h => h)
  · refine gx_aload_n hX dX16_holds_34 rfl ?_
    refine xk_geti hX 79 q875 (fun _ h => h) rfl dX16_holds_35 h (fun v5 h => ?_)
    refine gx_bipush (v := nI 61) hX dX16_holds_38 (by decide) ?_
    refine gx_icmp_ne (tgt := 59) hX dX16_holds_40 (by decide) h (fun h => ?_) (fun h => ?_)
    · refine gx_iload_n hX dX16_holds_43 rfl ?_
      refine gx_aload_n hX dX16_holds_44 rfl ?_
      refine xk_geti hX 80 q876 (fun _ h => h) rfl dX16_holds_45 h (fun v7 h => ?_)
      refine gx_icmp_ne (tgt := 55) hX dX16_holds_48 (by decide) h (fun h => ?_) (fun h => ?_)
      · refine gx_iconst (v := 1) hX dX16_holds_51 (by decide) ?_
        refine gx_goto (tgt := 72) hX dX16_holds_52 (by decide) ?_
        cases h
        exact gx_zret hX rfl rfl dX16_holds_72 rfl ⟨rfl, rfl⟩ (fun _ h => h)
      · refine gx_iconst (v := 0) hX dX16_holds_55 (by decide) ?_
        refine gx_goto (tgt := 72) hX dX16_holds_56 (by decide) ?_
        cases h
        exact gx_zret hX rfl rfl dX16_holds_72 rfl ⟨rfl, rfl⟩ (fun _ h => h)
    · refine gx_iload_n hX dX16_holds_59 rfl ?_
      refine gx_aload_n hX dX16_holds_60 rfl ?_
      refine xk_geti hX 80 q876 (fun _ h => h) rfl dX16_holds_61 h (fun v6 h => ?_)
      refine gx_icmp_le (tgt := 71) hX dX16_holds_64 (by decide) h (fun h => ?_) (fun h => ?_)
      · refine gx_iconst (v := 0) hX dX16_holds_71 (by decide) ?_
        cases h
        exact gx_zret hX rfl rfl dX16_holds_72 rfl ⟨rfl, rfl⟩ (fun _ h => h)
      · refine gx_iconst (v := 1) hX dX16_holds_67 (by decide) ?_
        refine gx_goto (tgt := 72) hX dX16_holds_68 (by decide) ?_
        cases h
        exact gx_zret hX rfl rfl dX16_holds_72 rfl ⟨rfl, rfl⟩ (fun _ h => h)
theorem ds_Test : gx_ds ⟨"ShellBeach$Test", "holds", "(LShellBeach$Case;)Z"⟩ 1 := by decide +kernel
abbrev iX15_holds : gx_M := (RX15, "holds", cX15_holds, 2, some .boolean)
abbrev iX17_holds : gx_M := (RX17, "holds", cX17_holds, 2, some .boolean)
theorem dsX15_holds : gx_ds yX15_holds 1 := by decide +kernel
def fX15_holds (F : xk_C → Nat → Option Nat → Option (Int32)) (N : Nat) (x0 : Nat) (σ : xk_C) (x1 : Option Nat) : Option (Int32) := (xk_gr (σ) 77 (some x0)).bind fun v1 => (xk_io (σ) (v1)).bind fun b3 => (F (σ) b3 (x1)).bind fun r2 => if r2 = 0 then some (1) else some (0)
set_option maxHeartbeats 4000000 in
theorem tX15_holds (w : gw_W) (A : Nat → Prop) (l : Launch) {F : xk_C → Nat → Option Nat → Option (Int32)} {lF : Nat} (hlF : 2 ≤ lF) (hF : ∀ (σ : xk_C) (b : Nat) (y1 : Option Nat) {r : Int32}, F σ b y1 = some r → ((xk_k σ b = 16 ∧ gx_T (gw_I w A) A l yX15_holds iX15_holds lF [va_rf (some b), va_rf y1] (xk_P A w σ) 0 0 (xk_P A w σ) (.returned (some (.int r)))) ∨ (xk_k σ b = 17 ∧ fX16_holds b σ y1 = some r) ∨ (xk_k σ b = 18 ∧ gx_T (gw_I w A) A l yX17_holds iX17_holds lF [va_rf (some b), va_rf y1] (xk_P A w σ) 0 0 (xk_P A w σ) (.returned (some (.int r)))))) (N : Nat) (x0 : Nat) (σ : xk_C) (x1 : Option Nat) {r : Int32} (h : fX15_holds F N x0 σ x1 = some r) : gx_T (gw_I w A) A l yX15_holds iX15_holds (lF + 1) [va_rf (some x0), va_rf (x1)] (xk_P A w σ) 0 0 (xk_P A w σ) (.returned (some (.int r))) := by
  refine gx_T.of (gw_I.inv w A) (by decide) ⟨rfl, rfl⟩ (gx_kR (gx_kR gx_k0)) (Nat.le_of_ble_eq_true rfl) (fun X hl hAx hX => ?_)
  subst hl
  subst hAx
  show gx_G X (xk_P (gx_A X) w (σ)) 0 0 [some (va_rf (some x0)), some (va_rf (x1))] 0 []
  unfold fX15_holds at h
  refine gx_aload_n hX dX15_holds_0 rfl ?_
  refine xk_getr hX 77 q860 (fun _ h => h) rfl dX15_holds_1 h (fun v1 h => ?_)
  refine gx_aload_n hX dX15_holds_4 rfl ?_
  obtain ⟨b3, hb, h⟩ := gx_bs h
  obtain ⟨eb, -⟩ := xk_ioS hb
  obtain ⟨r2, hr2, h⟩ := gx_bs h
  have hk : gx_G X (xk_P (gx_A X) w (σ)) 0 0 [some (va_rf (some x0)), some (va_rf (x1))] 10 [.int (r2)] := by
    refine gx_if_ne (tgt := 17) hX dX15_holds_10 (by decide) h (fun h => ?_) (fun h => ?_)
    · refine gx_iconst (v := 1) hX dX15_holds_13 (by decide) ?_
      refine gx_goto (tgt := 18) hX dX15_holds_14 (by decide) ?_
      cases h
      exact gx_zret hX rfl rfl dX15_holds_18 rfl ⟨rfl, rfl⟩ (fun _ h => h)
    · refine gx_iconst (v := 0) hX dX15_holds_17 (by decide) ?_
      cases h
      exact gx_zret hX rfl rfl dX15_holds_18 rfl ⟨rfl, rfl⟩ (fun _ h => h)
  rcases hF _ _ _ hr2 with ⟨c15, hq⟩ | ⟨c16, hq⟩ | ⟨c17, hq⟩
  · exact gx_cF (As := [va_rf (x1)]) (rest := []) (b := b3) hX (hX.2.2.2.2.2.2.2.1.1.1 15 _ (xk_at 15 (by decide))).2 (hX.2.2.2.2.2.2.2.1.2.2.2.2.2.2.2.2.2.2.1 15 (by decide)) hq (gx_gF q944 q938 q940 q112 q942) ds_Test (by omega) (Nat.le_of_ble_eq_true rfl) (xk_rc hX (ci := 15) (by decide) (by decide) c15) (by rw [eb]; rfl) (gx_w8 gx_k0 (Nat.le_of_ble_eq_true rfl)) dX15_holds_5 ⟨Nat.le_refl _, Nat.le_refl _⟩ rfl hk
  · exact gx_cF (As := [va_rf (x1)]) (rest := []) (b := b3) hX (hX.2.2.2.2.2.2.2.1.1.1 16 _ (xk_at 16 (by decide))).2 (hX.2.2.2.2.2.2.2.1.2.2.2.2.2.2.2.2.2.2.1 16 (by decide)) (tX16_holds w (gx_A X) (gx_l X) (b3) (σ) (x1) hq) (gx_gF q944 q928 q930 q113 q932) ds_Test (by omega) (Nat.le_of_ble_eq_true rfl) (xk_rc hX (ci := 16) (by decide) (by decide) c16) (by rw [eb]; rfl) (gx_w8 gx_k0 (Nat.le_of_ble_eq_true rfl)) dX15_holds_5 ⟨Nat.le_refl _, Nat.le_refl _⟩ rfl hk
  · exact gx_cF (As := [va_rf (x1)]) (rest := []) (b := b3) hX (hX.2.2.2.2.2.2.2.1.1.1 17 _ (xk_at 17 (by decide))).2 (hX.2.2.2.2.2.2.2.1.2.2.2.2.2.2.2.2.2.2.1 17 (by decide)) hq (gx_gF q944 q946 q948 q114 q950) ds_Test (by omega) (Nat.le_of_ble_eq_true rfl) (xk_rc hX (ci := 17) (by decide) (by decide) c17) (by rw [eb]; rfl) (gx_w8 gx_k0 (Nat.le_of_ble_eq_true rfl)) dX15_holds_5 ⟨Nat.le_refl _, Nat.le_refl _⟩ rfl hk
theorem dsX17_holds : gx_ds yX17_holds 1 := by decide +kernel
def fX17_holds_B67 (F : xk_C → Nat → Option Nat → Option (Int32)) (N : Nat) (x0 : Nat) (σ : xk_C)    : Option (Int32) := some (1)
set_option maxHeartbeats 4000000 in
theorem tX17_holds_B67 {w : gw_W} {X : gx_X} {F : xk_C → Nat → Option Nat → Option (Int32)} {lF : Nat} (hlF : 2 ≤ lF) {N : Nat} {x0 : Nat} {σ : xk_C} {r : Int32} (hF : ∀ (σ : xk_C) (b : Nat) (y1 : Option Nat) {r : Int32}, F σ b y1 = some r → ((xk_k σ b = 16 ∧ gx_T (gw_I w (gx_A X)) (gx_A X) (gx_l X) yX15_holds iX15_holds lF [va_rf (some b), va_rf y1] (xk_P (gx_A X) w σ) 0 0 (xk_P (gx_A X) w σ) (.returned (some (.int r)))) ∨ (xk_k σ b = 17 ∧ fX16_holds b σ y1 = some r) ∨ (xk_k σ b = 18 ∧ gx_T (gw_I w (gx_A X)) (gx_A X) (gx_l X) yX17_holds iX17_holds lF [va_rf (some b), va_rf y1] (xk_P (gx_A X) w σ) 0 0 (xk_P (gx_A X) w σ) (.returned (some (.int r)))))) (hX : gx_O (gw_I w (gx_A X)) X iX17_holds (lF + 1) 0 0 (xk_P (gx_A X) w σ) (.returned (some (.int r))))   (h : fX17_holds_B67 F N x0 σ = some r) : gx_G X (xk_P (gx_A X) w (σ)) 0 0 [none, none] 67 [] := by
  unfold fX17_holds_B67 at h
  refine gx_iconst (v := 1) hX dX17_holds_67 (by decide) ?_
  refine gx_goto (tgt := 72) hX dX17_holds_68 (by decide) ?_
  cases h
  exact gx_zret hX rfl rfl dX17_holds_72 rfl ⟨rfl, rfl⟩ (fun _ h => h)
def fX17_holds_B37 (F : xk_C → Nat → Option Nat → Option (Int32)) (N : Nat) (x0 : Nat) (σ : xk_C)    : Option (Int32) := some (0)
set_option maxHeartbeats 4000000 in
theorem tX17_holds_B37 {w : gw_W} {X : gx_X} {F : xk_C → Nat → Option Nat → Option (Int32)} {lF : Nat} (hlF : 2 ≤ lF) {N : Nat} {x0 : Nat} {σ : xk_C} {r : Int32} (hF : ∀ (σ : xk_C) (b : Nat) (y1 : Option Nat) {r : Int32}, F σ b y1 = some r → ((xk_k σ b = 16 ∧ gx_T (gw_I w (gx_A X)) (gx_A X) (gx_l X) yX15_holds iX15_holds lF [va_rf (some b), va_rf y1] (xk_P (gx_A X) w σ) 0 0 (xk_P (gx_A X) w σ) (.returned (some (.int r)))) ∨ (xk_k σ b = 17 ∧ fX16_holds b σ y1 = some r) ∨ (xk_k σ b = 18 ∧ gx_T (gw_I w (gx_A X)) (gx_A X) (gx_l X) yX17_holds iX17_holds lF [va_rf (some b), va_rf y1] (xk_P (gx_A X) w σ) 0 0 (xk_P (gx_A X) w σ) (.returned (some (.int r)))))) (hX : gx_O (gw_I w (gx_A X)) X iX17_holds (lF + 1) 0 0 (xk_P (gx_A X) w σ) (.returned (some (.int r))))   (h : fX17_holds_B37 F N x0 σ = some r) : gx_G X (xk_P (gx_A X) w (σ)) 0 0 [none, none] 37 [] := by
  unfold fX17_holds_B37 at h
  refine gx_iconst (v := 0) hX dX17_holds_37 (by decide) ?_
  refine gx_goto (tgt := 72) hX dX17_holds_38 (by decide) ?_
  cases h
  exact gx_zret hX rfl rfl dX17_holds_72 rfl ⟨rfl, rfl⟩ (fun _ h => h)
def fX17_holds (F : xk_C → Nat → Option Nat → Option (Int32)) (N : Nat) (x0 : Nat) (σ : xk_C) (x1 : Option Nat) : Option (Int32) := (xk_gi (σ) 83 (some x0)).bind fun v1 => if v1 = 0 then (xk_gr (σ) 81 (some x0)).bind fun v2 => (xk_io (σ) (v2)).bind fun b4 => (F (σ) b4 (x1)).bind fun r3 => if r3 = 0 then (xk_gr (σ) 82 (some x0)).bind fun v5 => (xk_io (σ) (v5)).bind fun b7 => (F (σ) b7 (x1)).bind fun r6 => if r6 = 0 then some (0) else fX17_holds_B67 F N x0 σ else fX17_holds_B67 F N x0 σ else (xk_gr (σ) 81 (some x0)).bind fun v8 => (xk_io (σ) (v8)).bind fun b10 => (F (σ) b10 (x1)).bind fun r9 => if r9 = 0 then fX17_holds_B37 F N x0 σ else (xk_gr (σ) 82 (some x0)).bind fun v11 => (xk_io (σ) (v11)).bind fun b13 => (F (σ) b13 (x1)).bind fun r12 => if r12 = 0 then fX17_holds_B37 F N x0 σ else some (1)
set_option maxHeartbeats 4000000 in
theorem tX17_holds (w : gw_W) (A : Nat → Prop) (l : Launch) {F : xk_C → Nat → Option Nat → Option (Int32)} {lF : Nat} (hlF : 2 ≤ lF) (hF : ∀ (σ : xk_C) (b : Nat) (y1 : Option Nat) {r : Int32}, F σ b y1 = some r → ((xk_k σ b = 16 ∧ gx_T (gw_I w A) A l yX15_holds iX15_holds lF [va_rf (some b), va_rf y1] (xk_P A w σ) 0 0 (xk_P A w σ) (.returned (some (.int r)))) ∨ (xk_k σ b = 17 ∧ fX16_holds b σ y1 = some r) ∨ (xk_k σ b = 18 ∧ gx_T (gw_I w A) A l yX17_holds iX17_holds lF [va_rf (some b), va_rf y1] (xk_P A w σ) 0 0 (xk_P A w σ) (.returned (some (.int r)))))) (N : Nat) (x0 : Nat) (σ : xk_C) (x1 : Option Nat) {r : Int32} (h : fX17_holds F N x0 σ x1 = some r) : gx_T (gw_I w A) A l yX17_holds iX17_holds (lF + 1) [va_rf (some x0), va_rf (x1)] (xk_P A w σ) 0 0 (xk_P A w σ) (.returned (some (.int r))) := by
  refine gx_T.of (gw_I.inv w A) (by decide) ⟨rfl, rfl⟩ (gx_kR (gx_kR gx_k0)) (Nat.le_of_ble_eq_true rfl) (fun X hl hAx hX => ?_)
  subst hl
  subst hAx
  show gx_G X (xk_P (gx_A X) w (σ)) 0 0 [some (va_rf (some x0)), some (va_rf (x1))] 0 []
  unfold fX17_holds at h
  refine gx_aload_n hX dX17_holds_0 rfl ?_
  refine xk_geti hX 83 q894 (fun _ h => h) rfl dX17_holds_1 h (fun v1 h => ?_)
  refine gx_if_eq (tgt := 41) hX dX17_holds_4 (by decide) h (fun h => ?_) (fun h => ?_)
  · refine gx_aload_n hX dX17_holds_41 rfl ?_
    refine xk_getr hX 81 q892 (fun _ h => h) rfl dX17_holds_42 h (fun v2 h => ?_)
    refine gx_aload_n hX dX17_holds_45 rfl ?_
    obtain ⟨b4, hb, h⟩ := gx_bs h
    obtain ⟨eb, -⟩ := xk_ioS hb
    obtain ⟨r3, hr3, h⟩ := gx_bs h
    have hk : gx_G X (xk_P (gx_A X) w (σ)) 0 0 [some (va_rf (some x0)), some (va_rf (x1))] 51 [.int (r3)] := by
      refine gx_if_ne (tgt := 67) hX dX17_holds_51 (by decide) h (fun h => ?_) (fun h => ?_)
      · refine gx_aload_n hX dX17_holds_54 rfl ?_
        refine xk_getr hX 82 q893 (fun _ h => h) rfl dX17_holds_55 h (fun v5 h => ?_)
        refine gx_aload_n hX dX17_holds_58 rfl ?_
        obtain ⟨b7, hb, h⟩ := gx_bs h
        obtain ⟨eb, -⟩ := xk_ioS hb
        obtain ⟨r6, hr6, h⟩ := gx_bs h
        have hk : gx_G X (xk_P (gx_A X) w (σ)) 0 0 [some (va_rf (some x0)), some (va_rf (x1))] 64 [.int (r6)] := by
          refine gx_if_eq (tgt := 71) hX dX17_holds_64 (by decide) h (fun h => ?_) (fun h => ?_)
          · refine gx_iconst (v := 0) hX dX17_holds_71 (by decide) ?_
            cases h
            exact gx_zret hX rfl rfl dX17_holds_72 rfl ⟨rfl, rfl⟩ (fun _ h => h)
          · refine gx_sub hX (lv' := [none, none]) ⟨Or.inl rfl, ⟨Or.inl rfl, trivial⟩⟩ ?_
            exact tX17_holds_B67 hlF hF hX  h
        rcases hF _ _ _ hr6 with ⟨c15, hq⟩ | ⟨c16, hq⟩ | ⟨c17, hq⟩
        · exact gx_cF (As := [va_rf (x1)]) (rest := []) (b := b7) hX (hX.2.2.2.2.2.2.2.1.1.1 15 _ (xk_at 15 (by decide))).2 (hX.2.2.2.2.2.2.2.1.2.2.2.2.2.2.2.2.2.2.1 15 (by decide)) hq (gx_gF q952 q938 q940 q112 q942) ds_Test (by omega) (Nat.le_of_ble_eq_true rfl) (xk_rc hX (ci := 15) (by decide) (by decide) c15) (by rw [eb]; rfl) (gx_w8 gx_k0 (Nat.le_of_ble_eq_true rfl)) dX17_holds_59 ⟨Nat.le_refl _, Nat.le_refl _⟩ rfl hk
        · exact gx_cF (As := [va_rf (x1)]) (rest := []) (b := b7) hX (hX.2.2.2.2.2.2.2.1.1.1 16 _ (xk_at 16 (by decide))).2 (hX.2.2.2.2.2.2.2.1.2.2.2.2.2.2.2.2.2.2.1 16 (by decide)) (tX16_holds w (gx_A X) (gx_l X) (b7) (σ) (x1) hq) (gx_gF q952 q928 q930 q113 q932) ds_Test (by omega) (Nat.le_of_ble_eq_true rfl) (xk_rc hX (ci := 16) (by decide) (by decide) c16) (by rw [eb]; rfl) (gx_w8 gx_k0 (Nat.le_of_ble_eq_true rfl)) dX17_holds_59 ⟨Nat.le_refl _, Nat.le_refl _⟩ rfl hk
        · exact gx_cF (As := [va_rf (x1)]) (rest := []) (b := b7) hX (hX.2.2.2.2.2.2.2.1.1.1 17 _ (xk_at 17 (by decide))).2 (hX.2.2.2.2.2.2.2.1.2.2.2.2.2.2.2.2.2.2.1 17 (by decide)) hq (gx_gF q952 q946 q948 q114 q950) ds_Test (by omega) (Nat.le_of_ble_eq_true rfl) (xk_rc hX (ci := 17) (by decide) (by decide) c17) (by rw [eb]; rfl) (gx_w8 gx_k0 (Nat.le_of_ble_eq_true rfl)) dX17_holds_59 ⟨Nat.le_refl _, Nat.le_refl _⟩ rfl hk
      · refine gx_sub hX (lv' := [none, none]) ⟨Or.inl rfl, ⟨Or.inl rfl, trivial⟩⟩ ?_
        exact tX17_holds_B67 hlF hF hX  h
    rcases hF _ _ _ hr3 with ⟨c15, hq⟩ | ⟨c16, hq⟩ | ⟨c17, hq⟩
    · exact gx_cF (As := [va_rf (x1)]) (rest := []) (b := b4) hX (hX.2.2.2.2.2.2.2.1.1.1 15 _ (xk_at 15 (by decide))).2 (hX.2.2.2.2.2.2.2.1.2.2.2.2.2.2.2.2.2.2.1 15 (by decide)) hq (gx_gF q952 q938 q940 q112 q942) ds_Test (by omega) (Nat.le_of_ble_eq_true rfl) (xk_rc hX (ci := 15) (by decide) (by decide) c15) (by rw [eb]; rfl) (gx_w8 gx_k0 (Nat.le_of_ble_eq_true rfl)) dX17_holds_46 ⟨Nat.le_refl _, Nat.le_refl _⟩ rfl hk
    · exact gx_cF (As := [va_rf (x1)]) (rest := []) (b := b4) hX (hX.2.2.2.2.2.2.2.1.1.1 16 _ (xk_at 16 (by decide))).2 (hX.2.2.2.2.2.2.2.1.2.2.2.2.2.2.2.2.2.2.1 16 (by decide)) (tX16_holds w (gx_A X) (gx_l X) (b4) (σ) (x1) hq) (gx_gF q952 q928 q930 q113 q932) ds_Test (by omega) (Nat.le_of_ble_eq_true rfl) (xk_rc hX (ci := 16) (by decide) (by decide) c16) (by rw [eb]; rfl) (gx_w8 gx_k0 (Nat.le_of_ble_eq_true rfl)) dX17_holds_46 ⟨Nat.le_refl _, Nat.le_refl _⟩ rfl hk
    · exact gx_cF (As := [va_rf (x1)]) (rest := []) (b := b4) hX (hX.2.2.2.2.2.2.2.1.1.1 17 _ (xk_at 17 (by decide))).2 (hX.2.2.2.2.2.2.2.1.2.2.2.2.2.2.2.2.2.2.1 17 (by decide)) hq (gx_gF q952 q946 q948 q114 q950) ds_Test (by omega) (Nat.le_of_ble_eq_true rfl) (xk_rc hX (ci := 17) (by decide) (by decide) c17) (by rw [eb]; rfl) (gx_w8 gx_k0 (Nat.le_of_ble_eq_true rfl)) dX17_holds_46 ⟨Nat.le_refl _, Nat.le_refl _⟩ rfl hk
  · refine gx_aload_n hX dX17_holds_7 rfl ?_
    refine xk_getr hX 81 q892 (fun _ h => h) rfl dX17_holds_8 h (fun v8 h => ?_)
    refine gx_aload_n hX dX17_holds_11 rfl ?_
    obtain ⟨b10, hb, h⟩ := gx_bs h
    obtain ⟨eb, -⟩ := xk_ioS hb
    obtain ⟨r9, hr9, h⟩ := gx_bs h
    have hk : gx_G X (xk_P (gx_A X) w (σ)) 0 0 [some (va_rf (some x0)), some (va_rf (x1))] 17 [.int (r9)] := by
      refine gx_if_eq (tgt := 37) hX dX17_holds_17 (by decide) h (fun h => ?_) (fun h => ?_)
      · refine gx_sub hX (lv' := [none, none]) ⟨Or.inl rfl, ⟨Or.inl rfl, trivial⟩⟩ ?_
        exact tX17_holds_B37 hlF hF hX  h
      · refine gx_aload_n hX dX17_holds_20 rfl ?_
        refine xk_getr hX 82 q893 (fun _ h => h) rfl dX17_holds_21 h (fun v11 h => ?_)
        refine gx_aload_n hX dX17_holds_24 rfl ?_
        obtain ⟨b13, hb, h⟩ := gx_bs h
        obtain ⟨eb, -⟩ := xk_ioS hb
        obtain ⟨r12, hr12, h⟩ := gx_bs h
        have hk : gx_G X (xk_P (gx_A X) w (σ)) 0 0 [some (va_rf (some x0)), some (va_rf (x1))] 30 [.int (r12)] := by
          refine gx_if_eq (tgt := 37) hX dX17_holds_30 (by decide) h (fun h => ?_) (fun h => ?_)
          · refine gx_sub hX (lv' := [none, none]) ⟨Or.inl rfl, ⟨Or.inl rfl, trivial⟩⟩ ?_
            exact tX17_holds_B37 hlF hF hX  h
          · refine gx_iconst (v := 1) hX dX17_holds_33 (by decide) ?_
            refine gx_goto (tgt := 72) hX dX17_holds_34 (by decide) ?_
            cases h
            exact gx_zret hX rfl rfl dX17_holds_72 rfl ⟨rfl, rfl⟩ (fun _ h => h)
        rcases hF _ _ _ hr12 with ⟨c15, hq⟩ | ⟨c16, hq⟩ | ⟨c17, hq⟩
        · exact gx_cF (As := [va_rf (x1)]) (rest := []) (b := b13) hX (hX.2.2.2.2.2.2.2.1.1.1 15 _ (xk_at 15 (by decide))).2 (hX.2.2.2.2.2.2.2.1.2.2.2.2.2.2.2.2.2.2.1 15 (by decide)) hq (gx_gF q952 q938 q940 q112 q942) ds_Test (by omega) (Nat.le_of_ble_eq_true rfl) (xk_rc hX (ci := 15) (by decide) (by decide) c15) (by rw [eb]; rfl) (gx_w8 gx_k0 (Nat.le_of_ble_eq_true rfl)) dX17_holds_25 ⟨Nat.le_refl _, Nat.le_refl _⟩ rfl hk
        · exact gx_cF (As := [va_rf (x1)]) (rest := []) (b := b13) hX (hX.2.2.2.2.2.2.2.1.1.1 16 _ (xk_at 16 (by decide))).2 (hX.2.2.2.2.2.2.2.1.2.2.2.2.2.2.2.2.2.2.1 16 (by decide)) (tX16_holds w (gx_A X) (gx_l X) (b13) (σ) (x1) hq) (gx_gF q952 q928 q930 q113 q932) ds_Test (by omega) (Nat.le_of_ble_eq_true rfl) (xk_rc hX (ci := 16) (by decide) (by decide) c16) (by rw [eb]; rfl) (gx_w8 gx_k0 (Nat.le_of_ble_eq_true rfl)) dX17_holds_25 ⟨Nat.le_refl _, Nat.le_refl _⟩ rfl hk
        · exact gx_cF (As := [va_rf (x1)]) (rest := []) (b := b13) hX (hX.2.2.2.2.2.2.2.1.1.1 17 _ (xk_at 17 (by decide))).2 (hX.2.2.2.2.2.2.2.1.2.2.2.2.2.2.2.2.2.2.1 17 (by decide)) hq (gx_gF q952 q946 q948 q114 q950) ds_Test (by omega) (Nat.le_of_ble_eq_true rfl) (xk_rc hX (ci := 17) (by decide) (by decide) c17) (by rw [eb]; rfl) (gx_w8 gx_k0 (Nat.le_of_ble_eq_true rfl)) dX17_holds_25 ⟨Nat.le_refl _, Nat.le_refl _⟩ rfl hk
    rcases hF _ _ _ hr9 with ⟨c15, hq⟩ | ⟨c16, hq⟩ | ⟨c17, hq⟩
    · exact gx_cF (As := [va_rf (x1)]) (rest := []) (b := b10) hX (hX.2.2.2.2.2.2.2.1.1.1 15 _ (xk_at 15 (by decide))).2 (hX.2.2.2.2.2.2.2.1.2.2.2.2.2.2.2.2.2.2.1 15 (by decide)) hq (gx_gF q952 q938 q940 q112 q942) ds_Test (by omega) (Nat.le_of_ble_eq_true rfl) (xk_rc hX (ci := 15) (by decide) (by decide) c15) (by rw [eb]; rfl) (gx_w8 gx_k0 (Nat.le_of_ble_eq_true rfl)) dX17_holds_12 ⟨Nat.le_refl _, Nat.le_refl _⟩ rfl hk
    · exact gx_cF (As := [va_rf (x1)]) (rest := []) (b := b10) hX (hX.2.2.2.2.2.2.2.1.1.1 16 _ (xk_at 16 (by decide))).2 (hX.2.2.2.2.2.2.2.1.2.2.2.2.2.2.2.2.2.2.1 16 (by decide)) (tX16_holds w (gx_A X) (gx_l X) (b10) (σ) (x1) hq) (gx_gF q952 q928 q930 q113 q932) ds_Test (by omega) (Nat.le_of_ble_eq_true rfl) (xk_rc hX (ci := 16) (by decide) (by decide) c16) (by rw [eb]; rfl) (gx_w8 gx_k0 (Nat.le_of_ble_eq_true rfl)) dX17_holds_12 ⟨Nat.le_refl _, Nat.le_refl _⟩ rfl hk
    · exact gx_cF (As := [va_rf (x1)]) (rest := []) (b := b10) hX (hX.2.2.2.2.2.2.2.1.1.1 17 _ (xk_at 17 (by decide))).2 (hX.2.2.2.2.2.2.2.1.2.2.2.2.2.2.2.2.2.2.1 17 (by decide)) hq (gx_gF q952 q946 q948 q114 q950) ds_Test (by omega) (Nat.le_of_ble_eq_true rfl) (xk_rc hX (ci := 17) (by decide) (by decide) c17) (by rw [eb]; rfl) (gx_w8 gx_k0 (Nat.le_of_ble_eq_true rfl)) dX17_holds_12 ⟨Nat.le_refl _, Nat.le_refl _⟩ rfl hk
def fV_Test_holds (N : Nat) : Nat → xk_C → Nat → Option Nat → Option Int32
  | 0, _, _, _ => none
  | D + 1, σ, b, y1 => if xk_k σ b = 16 then fX15_holds (fV_Test_holds N D) N b σ y1 else if xk_k σ b = 17 then fX16_holds b σ y1 else if xk_k σ b = 18 then fX17_holds (fV_Test_holds N D) N b σ y1 else none
theorem tV_Test_holds (w : gw_W) (A : Nat → Prop) (l : Launch) (N : Nat) : ∀ (D : Nat) (σ : xk_C) (b : Nat) (y1 : Option Nat) {r : Int32}, fV_Test_holds N D σ b y1 = some r → ((xk_k σ b = 16 ∧ gx_T (gw_I w A) A l yX15_holds iX15_holds (2 + 1 * D) [va_rf (some b), va_rf y1] (xk_P A w σ) 0 0 (xk_P A w σ) (.returned (some (.int r)))) ∨ (xk_k σ b = 17 ∧ fX16_holds b σ y1 = some r) ∨ (xk_k σ b = 18 ∧ gx_T (gw_I w A) A l yX17_holds iX17_holds (2 + 1 * D) [va_rf (some b), va_rf y1] (xk_P A w σ) 0 0 (xk_P A w σ) (.returned (some (.int r))))) := by
  intro D
  induction D with
  | zero =>
    intro σ b y1 r h
    unfold fV_Test_holds at h
    cases h
  | succ D ih =>
    intro σ b y1 r h
    unfold fV_Test_holds at h
    rw [show 2 + 1 * (D + 1) = 2 + 1 * D + 1 by omega]
    by_cases c16 : xk_k σ b = 16
    · rw [if_pos c16] at h
      exact Or.inl ⟨c16, tX15_holds w A l (F := fV_Test_holds N D) (lF := 2 + 1 * D) (by omega) ih N b σ y1 h⟩
    rw [if_neg c16] at h
    by_cases c17 : xk_k σ b = 17
    · rw [if_pos c17] at h
      exact Or.inr (Or.inl ⟨c17, h⟩)
    rw [if_neg c17] at h
    by_cases c18 : xk_k σ b = 18
    · rw [if_pos c18] at h
      exact Or.inr (Or.inr ⟨c18, tX17_holds w A l (F := fV_Test_holds N D) (lF := 2 + 1 * D) (by omega) ih N b σ y1 h⟩)
    rw [if_neg c18] at h
    cases h
