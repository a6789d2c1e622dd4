set_option maxRecDepth 16384
section
/-! STAGE 2: the core's small functions -/
section
variable {bx : Nat} {sh cr hb : Nat → Nat} {nS nC nH : Nat} {C : xk_C} {σ : gm_S}
theorem shellAt_in (h : cR bx sh cr hb nS nC nH C σ) {i : Nat} (hi : i < nS) : fX0_shellAt bx C (nI i) = some (some (sh i)) := by
  obtain ⟨⟨⟨⟨kB, nB, uB⟩, ⟨r0, r2, r3, r7, r8, r10, r11, r12, r13, r17, r18, r19, r23⟩, ⟨k1, k2, k3, k4, k5, k6, k7, k8, k14, k15, k16, k17, k18⟩, ⟨l2, l4, l5, l14, l15, l16, l17⟩⟩, L1, L3, ⟨S5, Sn, S37, S38, S39, S40, S41, S42, S43⟩, ⟨C6, Cn, C44, C46, C47, C48, C49, C53, C54, C55, C56⟩, ⟨B4, B5, B6, B7⟩, nS20, nC12⟩, ⟨F50, F51, F52⟩, ⟨⟨-, -, nH8, v0, v1, v3, v4⟩, vS, vC, vO, vN⟩⟩ := h
  unfold fX0_shellAt
  rw [if_neg (s_nn i (by omega))]
  simp only [ev_gi, ev_gr, ev_pi, ev_pr, ev_pz0, ev_pz1, ev_is, ev_ck, ev_ckn, ev_b, ev_10, if_true, if_false, false_and, and_false, true_and, and_true, reduceCtorEq, k_si, k_sr, k_se, k_sq, kB, r0, r2, r3, r7, r8, r10, r11, r12, r13, r17, r18, r19, r23, k1, k2, k3, k4, k5, k6, k7, k8, k14, k15, k16, k17, k18, h_1_0, h_1_1, h_1_2, h_1_3, h_1_4, h_1_5, h_1_6, h_1_7, h_1_8, h_1_9, h_1_10, h_1_11, h_1_12, h_1_13, h_1_14, h_1_15, h_1_16, h_1_17, h_1_18, h_1_19, h_1_20, h_1_21, h_1_22, h_1_23, h_1_24, h_1_25, h_1_26, h_21_101, h_21_102, h_21_103, L1.size, L1.get hi, S5 i hi]
  rw [if_pos ((s_lt _ _ (by omega) (by omega)).mpr hi)]
theorem shellAt_out (h : cR bx sh cr hb nS nC nH C σ) {v : Int32} (hv : v < 0 ∨ nI nS ≤ v) : fX0_shellAt bx C v = some none := by
  obtain ⟨⟨⟨⟨kB, nB, uB⟩, ⟨r0, r2, r3, r7, r8, r10, r11, r12, r13, r17, r18, r19, r23⟩, ⟨k1, k2, k3, k4, k5, k6, k7, k8, k14, k15, k16, k17, k18⟩, ⟨l2, l4, l5, l14, l15, l16, l17⟩⟩, L1, L3, ⟨S5, Sn, S37, S38, S39, S40, S41, S42, S43⟩, ⟨C6, Cn, C44, C46, C47, C48, C49, C53, C54, C55, C56⟩, ⟨B4, B5, B6, B7⟩, nS20, nC12⟩, ⟨F50, F51, F52⟩, ⟨⟨-, -, nH8, v0, v1, v3, v4⟩, vS, vC, vO, vN⟩⟩ := h
  unfold fX0_shellAt fX0_shellAt_B15
  by_cases h0 : v < 0
  · rw [if_pos h0]
  · rw [if_neg h0]
    simp only [ev_gi, ev_gr, ev_pi, ev_pr, ev_pz0, ev_pz1, ev_is, ev_ck, ev_ckn, ev_b, ev_10, if_true, if_false, false_and, and_false, true_and, and_true, reduceCtorEq, k_si, k_sr, k_se, k_sq, kB, r0, r2, r3, r7, r8, r10, r11, r12, r13, r17, r18, r19, r23, k1, k2, k3, k4, k5, k6, k7, k8, k14, k15, k16, k17, k18, h_1_0, h_1_1, h_1_2, h_1_3, h_1_4, h_1_5, h_1_6, h_1_7, h_1_8, h_1_9, h_1_10, h_1_11, h_1_12, h_1_13, h_1_14, h_1_15, h_1_16, h_1_17, h_1_18, h_1_19, h_1_20, h_1_21, h_1_22, h_1_23, h_1_24, h_1_25, h_1_26, h_21_101, h_21_102, h_21_103, L1.size]
    rw [if_neg (Int32.not_lt.mpr (hv.resolve_left h0))]
theorem crabAt_in (h : cR bx sh cr hb nS nC nH C σ) {i : Nat} (hi : i < nC) : fX0_crabAt bx C (nI i) = some (some (cr i)) := by
  obtain ⟨⟨⟨⟨kB, nB, uB⟩, ⟨r0, r2, r3, r7, r8, r10, r11, r12, r13, r17, r18, r19, r23⟩, ⟨k1, k2, k3, k4, k5, k6, k7, k8, k14, k15, k16, k17, k18⟩, ⟨l2, l4, l5, l14, l15, l16, l17⟩⟩, L1, L3, ⟨S5, Sn, S37, S38, S39, S40, S41, S42, S43⟩, ⟨C6, Cn, C44, C46, C47, C48, C49, C53, C54, C55, C56⟩, ⟨B4, B5, B6, B7⟩, nS20, nC12⟩, ⟨F50, F51, F52⟩, ⟨⟨-, -, nH8, v0, v1, v3, v4⟩, vS, vC, vO, vN⟩⟩ := h
  unfold fX0_crabAt
  rw [if_neg (s_nn i (by omega))]
  simp only [ev_gi, ev_gr, ev_pi, ev_pr, ev_pz0, ev_pz1, ev_is, ev_ck, ev_ckn, ev_b, ev_10, if_true, if_false, false_and, and_false, true_and, and_true, reduceCtorEq, k_si, k_sr, k_se, k_sq, kB, r0, r2, r3, r7, r8, r10, r11, r12, r13, r17, r18, r19, r23, k1, k2, k3, k4, k5, k6, k7, k8, k14, k15, k16, k17, k18, h_1_0, h_1_1, h_1_2, h_1_3, h_1_4, h_1_5, h_1_6, h_1_7, h_1_8, h_1_9, h_1_10, h_1_11, h_1_12, h_1_13, h_1_14, h_1_15, h_1_16, h_1_17, h_1_18, h_1_19, h_1_20, h_1_21, h_1_22, h_1_23, h_1_24, h_1_25, h_1_26, h_21_101, h_21_102, h_21_103, L3.size, L3.get hi, C6 i hi]
  rw [if_pos ((s_lt _ _ (by omega) (by omega)).mpr hi)]
theorem crabAt_out (h : cR bx sh cr hb nS nC nH C σ) {v : Int32} (hv : v < 0 ∨ nI nC ≤ v) : fX0_crabAt bx C v = some none := by
  obtain ⟨⟨⟨⟨kB, nB, uB⟩, ⟨r0, r2, r3, r7, r8, r10, r11, r12, r13, r17, r18, r19, r23⟩, ⟨k1, k2, k3, k4, k5, k6, k7, k8, k14, k15, k16, k17, k18⟩, ⟨l2, l4, l5, l14, l15, l16, l17⟩⟩, L1, L3, ⟨S5, Sn, S37, S38, S39, S40, S41, S42, S43⟩, ⟨C6, Cn, C44, C46, C47, C48, C49, C53, C54, C55, C56⟩, ⟨B4, B5, B6, B7⟩, nS20, nC12⟩, ⟨F50, F51, F52⟩, ⟨⟨-, -, nH8, v0, v1, v3, v4⟩, vS, vC, vO, vN⟩⟩ := h
  unfold fX0_crabAt fX0_crabAt_B15
  by_cases h0 : v < 0
  · rw [if_pos h0]
  · rw [if_neg h0]
    simp only [ev_gi, ev_gr, ev_pi, ev_pr, ev_pz0, ev_pz1, ev_is, ev_ck, ev_ckn, ev_b, ev_10, if_true, if_false, false_and, and_false, true_and, and_true, reduceCtorEq, k_si, k_sr, k_se, k_sq, kB, r0, r2, r3, r7, r8, r10, r11, r12, r13, r17, r18, r19, r23, k1, k2, k3, k4, k5, k6, k7, k8, k14, k15, k16, k17, k18, h_1_0, h_1_1, h_1_2, h_1_3, h_1_4, h_1_5, h_1_6, h_1_7, h_1_8, h_1_9, h_1_10, h_1_11, h_1_12, h_1_13, h_1_14, h_1_15, h_1_16, h_1_17, h_1_18, h_1_19, h_1_20, h_1_21, h_1_22, h_1_23, h_1_24, h_1_25, h_1_26, h_21_101, h_21_102, h_21_103, L3.size]
    rw [if_neg (Int32.not_lt.mpr (hv.resolve_left h0))]
theorem cR.v0 (h : cR bx sh cr hb nS nC nH C σ) : ga σ 1 0 = nI nS := h.2.2.1.2.2.2.1
theorem cR.v1 (h : cR bx sh cr hb nS nC nH C σ) : ga σ 1 1 = nI nC := h.2.2.1.2.2.2.2.1
theorem cR.n20 (h : cR bx sh cr hb nS nC nH C σ) : nS ≤ 20 := h.2.2.1.1
theorem cR.n12 (h : cR bx sh cr hb nS nC nH C σ) : nC ≤ 12 := h.2.2.1.2.1
theorem cR.n8 (h : cR bx sh cr hb nS nC nH C σ) : nH ≤ 8 := h.2.2.1.2.2.1
theorem cR.kB (h : cR bx sh cr hb nS nC nH C σ) : xk_k C bx = 1 := h.1.1.1.1
/-- whether a crab is housed: both sides -/
def hs (σ : gm_S) (c : Nat) : Int32 := if ga σ 1 (166 + c) = 0 then 1 else 0
theorem hs_x (h : cR bx sh cr hb nS nC nH C σ) {c : Nat} (hc : c < nC) : fX5_isHoused (cr c) C = some (hs σ c) := by
  obtain ⟨⟨⟨⟨kB, nB, uB⟩, ⟨r0, r2, r3, r7, r8, r10, r11, r12, r13, r17, r18, r19, r23⟩, ⟨k1, k2, k3, k4, k5, k6, k7, k8, k14, k15, k16, k17, k18⟩, ⟨l2, l4, l5, l14, l15, l16, l17⟩⟩, L1, L3, ⟨S5, Sn, S37, S38, S39, S40, S41, S42, S43⟩, ⟨C6, Cn, C44, C46, C47, C48, C49, C53, C54, C55, C56⟩, ⟨B4, B5, B6, B7⟩, nS20, nC12⟩, ⟨F50, F51, F52⟩, ⟨⟨-, -, nH8, v0, v1, v3, v4⟩, vS, vC, vO, vN⟩⟩ := h
  unfold fX5_isHoused hs
  simp only [ev_gi, ev_gr, ev_pi, ev_pr, ev_pz0, ev_pz1, ev_is, ev_ck, ev_ckn, ev_b, ev_10, if_true, if_false, false_and, and_false, true_and, and_true, reduceCtorEq, k_si, k_sr, k_se, k_sq, h_6_44, h_6_45, h_6_46, h_6_47, h_6_48, h_6_49, h_6_50, h_6_51, h_6_52, h_6_53, h_6_54, h_6_55, h_6_56, C6 c hc, C53 c hc]
  rcases vN c hc with ⟨e, h⟩ | ⟨i, hi, e, -, h⟩
  · rw [e, rf_n, if_pos rfl, if_neg]; rcases h with h | h <;> rw [h] <;> decide
  · rw [e, rf_s sh i (by omega)]
    simp only [ev_gi, ev_gr, ev_pi, ev_pr, ev_pz0, ev_pz1, ev_is, ev_ck, ev_ckn, ev_b, ev_10, if_true, if_false, false_and, and_false, true_and, and_true, reduceCtorEq, k_si, k_sr, k_se, k_sq, S5 i hi, h_5_37, h_5_38, h_5_39, h_5_40, h_5_41, h_5_42, h_5_43, S42 i hi]
    rcases h with ⟨h1, h2⟩ | ⟨h1, h2⟩ <;> rw [h1, h2] <;> decide
theorem hs_m (σ : gm_S) {c : Nat} (hc : c < 12) : fX3_isHoused σ (nI c) = some (hs σ c) := by
  unfold fX3_isHoused hs
  rw [m_rd1 _ _ _ (by omega), ev_b]
  split <;> rfl
theorem hs_1 {c : Nat} (h : ga σ 1 (166 + c) = 0) : hs σ c = 1 := if_pos h
theorem hs_0 {c : Nat} (h : ¬ ga σ 1 (166 + c) = 0) : hs σ c = 0 := if_neg h
/-- how well a shell fits a size -/
def fi (r w h z : Int32) : Int32 := nI 30 - (if r < z then 3 * (z - r) else r - z) - 2 * h - w / 4
theorem s_range {v : Int32} (h : 1 ≤ v ∧ v ≤ 40) : ∃ i, 1 ≤ i ∧ i ≤ 40 ∧ v = nI i := by
  obtain ⟨i, hi, e⟩ := s_get (n := 41) (v := v) (by omega) (Int32.le_trans (by decide) h.1) (by
    have h2 := h.2
    rw [Int32.le_iff_toInt_le] at h2; rw [Int32.lt_iff_toInt_lt]
    have e1 : (40 : Int32).toInt = 40 := by decide
    have e2 : (nI 41).toInt = 41 := by decide
    omega)
  refine ⟨i, ?_, by omega, e⟩
  have h1 := h.1
  rw [e, s_n1, s_le _ _ (by omega) (by omega)] at h1; exact h1
theorem fi_c : ∀ r, r < 41 → ∀ z, z < 41 → ((nI r - nI z < 0) ↔ (nI r < nI z)) ∧ (nI r < nI z → -3 * (nI r - nI z) = 3 * (nI z - nI r)) := by decide +kernel
theorem fi_m {r w h z : Int32} (hr : 1 ≤ r ∧ r ≤ 40) (hz : 1 ≤ z ∧ z ≤ 40) : fX3_fitOf r w h z = some (fi r w h z) := by
  obtain ⟨i, -, hi, rfl⟩ := s_range hr
  obtain ⟨j, -, hj, rfl⟩ := s_range hz
  obtain ⟨e1, e2⟩ := fi_c i (by omega) j (by omega)
  unfold fX3_fitOf fX3_fitOf_B22 fi gx_dv
  by_cases hlt : nI i < nI j
  · rw [if_pos (e1.mpr hlt), if_pos hlt, e2 hlt]; rfl
  · rw [if_neg (fun h => hlt (e1.mp h)), if_neg hlt]; rfl
theorem fi_x {a : Nat} (k : xk_k C a = 5) (z : Int32) : fX4_fit a C z = some (fi (xk_i C 38 a) (xk_i C 39 a) (xk_i C 40 a) z) := by
  unfold fX4_fit fX4_fit_B27 fi gx_dv
  simp only [ev_gi, ev_gr, ev_pi, ev_pr, ev_pz0, ev_pz1, ev_is, ev_ck, ev_ckn, ev_b, ev_10, if_true, if_false, false_and, and_false, true_and, and_true, reduceCtorEq, k_si, k_sr, k_se, k_sq, k, h_5_37, h_5_38, h_5_39, h_5_40, h_5_41, h_5_42, h_5_43]
  split <;> rfl
def fs (σ : gm_S) (i : Nat) (z : Int32) : Int32 := fi (ga σ 1 (10 + i)) (ga σ 1 (30 + i)) (ga σ 1 (50 + i)) z
theorem fs_x (h : cR bx sh cr hb nS nC nH C σ) {i : Nat} (hi : i < nS) (z : Int32) : fX4_fit (sh i) C z = some (fs σ i z) := by
  obtain ⟨⟨⟨⟨kB, nB, uB⟩, ⟨r0, r2, r3, r7, r8, r10, r11, r12, r13, r17, r18, r19, r23⟩, ⟨k1, k2, k3, k4, k5, k6, k7, k8, k14, k15, k16, k17, k18⟩, ⟨l2, l4, l5, l14, l15, l16, l17⟩⟩, L1, L3, ⟨S5, Sn, S37, S38, S39, S40, S41, S42, S43⟩, ⟨C6, Cn, C44, C46, C47, C48, C49, C53, C54, C55, C56⟩, ⟨B4, B5, B6, B7⟩, nS20, nC12⟩, ⟨F50, F51, F52⟩, ⟨⟨-, -, nH8, v0, v1, v3, v4⟩, vS, vC, vO, vN⟩⟩ := h
  rw [fi_x (S5 i hi), S38 i hi, S39 i hi, S40 i hi]; rfl
theorem fs_m (h : Iv nS nC nH (ga σ 1)) {i : Nat} (hi : i < nS) {z : Int32} (hz : 1 ≤ z ∧ z ≤ 40) : fX3_fitFor σ (nI i) z = some (fs σ i z) := by
  obtain ⟨⟨h1, -⟩, h2, -⟩ := h
  unfold fX3_fitFor
  rw [m_rd1 _ _ _ (by omega), m_rd1 _ _ _ (by omega), m_rd1 _ _ _ (by omega)]
  simp only [ev_b]
  rw [fi_m (h2 i hi).1 hz]; rfl
/-- how well a crab's own shell fits it -/
def ow (σ : gm_S) (c : Nat) : Int32 := if ga σ 1 (166 + c) = 0 then fs σ (ga σ 1 (178 + c)).toNatClampNeg (ga σ 1 (130 + c)) else if ga σ 1 (166 + c) = 1 then -50 else -100
theorem ow_x (h : cR bx sh cr hb nS nC nH C σ) {c : Nat} (hc : c < nC) : fX5_fit (cr c) C = some (ow σ c) := by
  have hh := hs_x h hc
  have h' := h
  obtain ⟨⟨⟨⟨kB, nB, uB⟩, ⟨r0, r2, r3, r7, r8, r10, r11, r12, r13, r17, r18, r19, r23⟩, ⟨k1, k2, k3, k4, k5, k6, k7, k8, k14, k15, k16, k17, k18⟩, ⟨l2, l4, l5, l14, l15, l16, l17⟩⟩, L1, L3, ⟨S5, Sn, S37, S38, S39, S40, S41, S42, S43⟩, ⟨C6, Cn, C44, C46, C47, C48, C49, C53, C54, C55, C56⟩, ⟨B4, B5, B6, B7⟩, nS20, nC12⟩, ⟨F50, F51, F52⟩, ⟨⟨-, -, nH8, v0, v1, v3, v4⟩, vS, vC, vO, vN⟩⟩ := h
  unfold fX5_fit ow
  simp only [ev_gi, ev_gr, ev_pi, ev_pr, ev_pz0, ev_pz1, ev_is, ev_ck, ev_ckn, ev_b, ev_10, if_true, if_false, false_and, and_false, true_and, and_true, reduceCtorEq, k_si, k_sr, k_se, k_sq, C6 c hc, h_6_44, h_6_45, h_6_46, h_6_47, h_6_48, h_6_49, h_6_50, h_6_51, h_6_52, h_6_53, h_6_54, h_6_55, h_6_56, F50 c hc, hh]
  obtain ⟨-, hIS, -⟩ := vC c hc
  rcases vN c hc with ⟨e, h1⟩ | ⟨i, hi, e, -, h1⟩
  · rcases h1 with h1 | h1
    · simp only [h1, hs_0 (show ¬ ga σ 1 (166 + c) = 0 by rw [h1]; decide)]; rfl
    · simp only [h1]; rfl
  · rcases h1 with ⟨h1, -⟩ | ⟨h1, -⟩
    · rw [hs_1 h1]
      simp only [h1, e, C53 c hc, rf_s sh i (by omega : i < 2147483648), ev_gi, ev_gr, ev_pi, ev_pr, ev_pz0, ev_pz1, ev_is, ev_ck, ev_ckn, ev_b, ev_10, if_true, if_false, false_and, and_false, true_and, and_true, reduceCtorEq, k_si, k_sr, k_se, k_sq, S5 i hi, C47 c hc, fs_x h' hi, s_tn i (by omega : i < 2147483648)]
      rfl
    · simp only [h1, hs_0 (show ¬ ga σ 1 (166 + c) = 0 by rw [h1]; decide)]; rfl
theorem ow_m (h : Iv nS nC nH (ga σ 1)) {c : Nat} (hc : c < nC) : fX3_own σ (nI c) = some (ow σ c) := by
  have h' := h
  obtain ⟨⟨h1, h2, -⟩, -, hC, -, hN⟩ := h
  unfold fX3_own ow
  rw [hs_m σ (by omega), m_rd1 _ _ _ (by omega), m_rd1 _ _ _ (by omega), m_rd1 _ _ _ (by omega)]
  simp only [ev_b]
  by_cases h0 : ga σ 1 (166 + c) = 0
  · rw [hs_1 h0, if_neg (by decide), if_pos h0]
    rcases hN c hc with ⟨-, h1 | h1⟩ | ⟨i, hi, e, -⟩
    · rw [h1] at h0; exact absurd h0 (by decide)
    · rw [h1] at h0; exact absurd h0 (by decide)
    · rw [e, fs_m h' hi (hC c hc).1, s_tn i (by omega)]; rfl
  · rw [hs_0 h0, if_pos rfl, if_neg h0]; split <;> rfl
end
end
section
/-! STAGE 2: the core's picture behind writes on both sides (gen/mk66.py) -/
/-- the Model's state: what is left as it was -/
def Mf (ks as : List Nat) (σ σ' : gm_S) : Prop := (∀ k, k ∉ ks → gs σ' k = gs σ k) ∧ (∀ k, k ∉ as → ∀ j, ga σ' k j = ga σ k j)
theorem Mf.refl {ks as : List Nat} {σ : gm_S} : Mf ks as σ σ := ⟨fun _ _ => rfl, fun _ _ _ => rfl⟩
theorem Mf.trans {ks as : List Nat} {σ σ' σ'' : gm_S} (h : Mf ks as σ σ') (h' : Mf ks as σ' σ'') : Mf ks as σ σ'' := ⟨fun k hk => (h'.1 k hk).trans (h.1 k hk), fun k hk j => (h'.2 k hk j).trans (h.2 k hk j)⟩
theorem Mf.mono {ks as ks' as' : List Nat} {σ σ' : gm_S} (h : Mf ks as σ σ') (h1 : ∀ k, k ∈ ks → k ∈ ks') (h2 : ∀ k, k ∈ as → k ∈ as') : Mf ks' as' σ σ' := ⟨fun k hk => h.1 k (fun h => hk (h1 k h)), fun k hk => h.2 k (fun h => hk (h2 k h))⟩
theorem Mf.sta {ks as : List Nat} {σ σ' : gm_S} (h : Mf ks as σ σ') (k i : Nat) (v : Int32) (hk : k ∈ as) : Mf ks as σ (gm_sta σ' k i v) := ⟨h.1, fun k' hk' j => by rw [ga_sta, if_neg (fun (e : k' = k ∧ j = i) => hk' (by rw [e.1]; exact hk)), h.2 k' hk' j]⟩
theorem Mf.set {ks as : List Nat} {σ σ' : gm_S} (h : Mf ks as σ σ') (k : Nat) (v : Int32) (hk : k ∈ ks) : Mf ks as σ (gm_set σ' k v) := ⟨fun k' hk' => by rw [gs_set, if_neg (fun (e : k' = k) => hk' (by rw [e]; exact hk)), h.1 k' hk'], h.2⟩
theorem pB.fr {fi fr : List Nat} {E : Nat → Nat → Bool} {bx : Nat} {C C' : xk_C} (h : pB bx C) (F : Fr fi fr E C C') (hf : ∀ f, f ∈ [0, 2, 3, 7, 8, 10, 11, 12, 13, 17, 18, 19, 23] → f ∉ fr) : pB bx C' := by
  obtain ⟨⟨kB, nB, uB⟩, ⟨r0, r2, r3, r7, r8, r10, r11, r12, r13, r17, r18, r19, r23⟩, ⟨k1, k2, k3, k4, k5, k6, k7, k8, k14, k15, k16, k17, k18⟩, ⟨l2, l4, l5, l14, l15, l16, l17⟩⟩ := h
  have R : ∀ f, f ∈ [0, 2, 3, 7, 8, 10, 11, 12, 13, 17, 18, 19, 23] → xk_r C' f bx = xk_r C f bx := fun f h => F.r (by omega) (hf f h)
  have K : ∀ j, j < 19 → xk_k C' (bx + j) = xk_k C (bx + j) := fun j h => F.k (by omega)
  have L : ∀ j, j < 19 → xk_l C' (bx + j) = xk_l C (bx + j) := fun j h => F.l (by omega)
  refine ⟨⟨(K 0 (by omega)).trans kB, Nat.le_trans nB F.n, F.u uB⟩, ⟨?_, ?_, ?_, ?_, ?_, ?_, ?_, ?_, ?_, ?_, ?_, ?_, ?_⟩, ⟨?_, ?_, ?_, ?_, ?_, ?_, ?_, ?_, ?_, ?_, ?_, ?_, ?_⟩, ⟨?_, ?_, ?_, ?_, ?_, ?_, ?_⟩⟩
  all_goals first
    | (rw [R _ (by decide)]; assumption)
    | (rw [K _ (by decide)]; assumption)
    | (rw [L _ (by decide)]; assumption)
theorem wi {C : xk_C} {σ : gm_S} {f a p f' a' p' : Nat} {v w : Int32} (h : xk_i C f a = ga σ 1 p) (h1 : f ≠ f') (h2 : p ≠ p') : xk_i (xk_si C f' a' v) f a = ga (gm_sta σ 1 p' w) 1 p := by
  rw [i_si, ga_sta, if_neg (fun h => h1 h.1), if_neg (fun h => h2 h.2), h]
theorem wi1 {C : xk_C} {f a f' a' : Nat} {v x : Int32} (h : xk_i C f a = x) (h1 : f ≠ f') : xk_i (xk_si C f' a' v) f a = x := by
  rw [i_si, if_neg (fun h => h1 h.1), h]
theorem wm {σ : gm_S} {p p' : Nat} {w x : Int32} (h : x = ga σ 1 p) (h2 : p ≠ p') : x = ga (gm_sta σ 1 p' w) 1 p := by
  rw [ga_sta, if_neg (fun h => h2 h.2), h]
theorem wmr {σ : gm_S} {p p' : Nat} {w : Int32} {x : Option Nat} {g : Nat → Nat} (h : x = rf g (ga σ 1 p)) (h2 : p ≠ p') : x = rf g (ga (gm_sta σ 1 p' w) 1 p) := by
  rw [ga_sta, if_neg (fun h => h2 h.2), h]
theorem wr {C : xk_C} {σ : gm_S} {f a p f' a' p' : Nat} {v : Option Nat} {w : Int32} {g : Nat → Nat} (h : xk_r C f a = rf g (ga σ 1 p)) (h1 : f ≠ f') (h2 : p ≠ p') : xk_r (xk_sr C f' a' v) f a = rf g (ga (gm_sta σ 1 p' w) 1 p) := by
  rw [r_sr, ga_sta, if_neg (fun h => h1 h.1), if_neg (fun h => h2 h.2), h]
theorem wr1 {C : xk_C} {f a f' a' : Nat} {v x : Option Nat} (h : xk_r C f a = x) (h1 : f ≠ f') : xk_r (xk_sr C f' a' v) f a = x := by
  rw [r_sr, if_neg (fun h => h1 h.1), h]
theorem wiS {C : xk_C} {σ : gm_S} {f b n j : Nat} {v : Int32} {g : Nat → Nat} (h : ∀ i, i < n → xk_i C f (g i) = ga σ 1 (b + i)) (inj : ∀ i, i < n → g i = g j → i = j) : ∀ i, i < n → xk_i (xk_si C f (g j) v) f (g i) = ga (gm_sta σ 1 (b + j) v) 1 (b + i) := fun i hi => by
  rw [i_si, ga_sta]
  by_cases e : i = j
  · subst e; simp
  · rw [if_neg (fun h => e (inj i hi h.2)), if_neg (fun h => e (by omega)), h i hi]
theorem wrS {C : xk_C} {σ : gm_S} {f b n j : Nat} {v : Int32} {g g' : Nat → Nat} (h : ∀ i, i < n → xk_r C f (g i) = rf g' (ga σ 1 (b + i))) (inj : ∀ i, i < n → g i = g j → i = j) : ∀ i, i < n → xk_r (xk_sr C f (g j) (rf g' v)) f (g i) = rf g' (ga (gm_sta σ 1 (b + j) v) 1 (b + i)) := fun i hi => by
  rw [r_sr, ga_sta]
  by_cases e : i = j
  · subst e; simp
  · rw [if_neg (fun h => e (inj i hi h.2)), if_neg (fun h => e (by omega)), h i hi]
theorem weS {C : xk_C} {σ : gm_S} {a b n j : Nat} {v : Int32} (h : ∀ i, i < n → xk_e C a i = ga σ 1 (b + i)) : ∀ i, i < n → xk_e (xk_se C a j v) a i = ga (gm_sta σ 1 (b + j) v) 1 (b + i) := fun i hi => by
  rw [e_se, ga_sta]
  by_cases e : i = j
  · subst e; simp
  · rw [if_neg (fun h => e h.2), if_neg (fun h => e (by omega)), h i hi]
section
variable {bx : Nat} {sh cr hb : Nat → Nat} {nS nC nH : Nat} {C : xk_C} {σ : gm_S}
theorem cS.inj (h : cS sh cr nS C σ) (hn : nS ≤ 20) {i j : Nat} (hi : i < nS) (hj : j < nS) (e : sh i = sh j) : i = j := by
  have h1 := h.2.2.1 i hi
  rw [e, h.2.2.1 j hj, s_eq _ _ (by omega) (by omega)] at h1
  exact h1.symm
theorem cC.inj (h : cC bx sh cr hb nC C σ) (hn : nC ≤ 12) {i j : Nat} (hi : i < nC) (hj : j < nC) (e : cr i = cr j) : i = j := by
  have h1 := h.2.2.1 i hi
  rw [e, h.2.2.1 j hj, s_eq _ _ (by omega) (by omega)] at h1
  exact h1.symm

theorem wA41 (h : cA bx sh cr hb nS nC C σ) {j : Nat} (hj : j < nS) (v : Int32) : cA bx sh cr hb nS nC (xk_si C 41 (sh j) v) (gm_sta σ 1 (70 + j) v) := by
  obtain ⟨hB, L1, L3, hS, hC, ⟨B4, B5, B6, B7⟩, nS20, nC12⟩ := h
  have inj : ∀ i, i < nS → sh i = sh j → i = j := fun i hi e => hS.inj nS20 hi hj e
  obtain ⟨S5, Sn, S37, S38, S39, S40, S41, S42, S43⟩ := hS
  obtain ⟨C6, Cn, C44, C46, C47, C48, C49, C53, C54, C55, C56⟩ := hC
  have F : Fr [41] [] (fun _ _ => false) C (xk_si C 41 (sh j) v) := Fr.si Fr.refl _ _ _ (.inl (by decide))
  exact ⟨hB.fr F (by decide), L1.fr F (by decide) (by decide) (fun _ _ => rfl), L3.fr F (by decide) (by decide) (fun _ _ => rfl), ⟨S5, Sn, fun i hi => wi1 (S37 i hi) (by decide), fun i hi => wi (S38 i hi) (by decide) (by omega), fun i hi => wi (S39 i hi) (by decide) (by omega), fun i hi => wi (S40 i hi) (by decide) (by omega), wiS S41 inj, fun i hi => wi (S42 i hi) (by decide) (by omega), fun i hi => wmr (S43 i hi) (by omega)⟩, ⟨C6, Cn, fun i hi => wi1 (C44 i hi) (by decide), fun i hi => wi (C46 i hi) (by decide) (by omega), fun i hi => wi (C47 i hi) (by decide) (by omega), fun i hi => wi (C48 i hi) (by decide) (by omega), fun i hi => wi (C49 i hi) (by decide) (by omega), fun i hi => wmr (C53 i hi) (by omega), fun i hi => wmr (C54 i hi) (by omega), fun i hi => wmr (C55 i hi) (by omega), C56⟩, ⟨wi B4 (by decide) (by omega), wi B5 (by decide) (by omega), wi B6 (by decide) (by omega), fun i hi => wm (B7 i hi) (by omega)⟩, nS20, nC12⟩
theorem wA42 (h : cA bx sh cr hb nS nC C σ) {j : Nat} (hj : j < nS) (v : Int32) : cA bx sh cr hb nS nC (xk_si C 42 (sh j) v) (gm_sta σ 1 (90 + j) v) := by
  obtain ⟨hB, L1, L3, hS, hC, ⟨B4, B5, B6, B7⟩, nS20, nC12⟩ := h
  have inj : ∀ i, i < nS → sh i = sh j → i = j := fun i hi e => hS.inj nS20 hi hj e
  obtain ⟨S5, Sn, S37, S38, S39, S40, S41, S42, S43⟩ := hS
  obtain ⟨C6, Cn, C44, C46, C47, C48, C49, C53, C54, C55, C56⟩ := hC
  have F : Fr [42] [] (fun _ _ => false) C (xk_si C 42 (sh j) v) := Fr.si Fr.refl _ _ _ (.inl (by decide))
  exact ⟨hB.fr F (by decide), L1.fr F (by decide) (by decide) (fun _ _ => rfl), L3.fr F (by decide) (by decide) (fun _ _ => rfl), ⟨S5, Sn, fun i hi => wi1 (S37 i hi) (by decide), fun i hi => wi (S38 i hi) (by decide) (by omega), fun i hi => wi (S39 i hi) (by decide) (by omega), fun i hi => wi (S40 i hi) (by decide) (by omega), fun i hi => wi (S41 i hi) (by decide) (by omega), wiS S42 inj, fun i hi => wmr (S43 i hi) (by omega)⟩, ⟨C6, Cn, fun i hi => wi1 (C44 i hi) (by decide), fun i hi => wi (C46 i hi) (by decide) (by omega), fun i hi => wi (C47 i hi) (by decide) (by omega), fun i hi => wi (C48 i hi) (by decide) (by omega), fun i hi => wi (C49 i hi) (by decide) (by omega), fun i hi => wmr (C53 i hi) (by omega), fun i hi => wmr (C54 i hi) (by omega), fun i hi => wmr (C55 i hi) (by omega), C56⟩, ⟨wi B4 (by decide) (by omega), wi B5 (by decide) (by omega), wi B6 (by decide) (by omega), fun i hi => wm (B7 i hi) (by omega)⟩, nS20, nC12⟩
theorem wA43 (h : cA bx sh cr hb nS nC C σ) {j : Nat} (hj : j < nS) (v : Int32) : cA bx sh cr hb nS nC (xk_sr C 43 (sh j) (rf cr v)) (gm_sta σ 1 (110 + j) v) := by
  obtain ⟨hB, L1, L3, hS, hC, ⟨B4, B5, B6, B7⟩, nS20, nC12⟩ := h
  have inj : ∀ i, i < nS → sh i = sh j → i = j := fun i hi e => hS.inj nS20 hi hj e
  obtain ⟨S5, Sn, S37, S38, S39, S40, S41, S42, S43⟩ := hS
  obtain ⟨C6, Cn, C44, C46, C47, C48, C49, C53, C54, C55, C56⟩ := hC
  have F : Fr [] [43] (fun _ _ => false) C (xk_sr C 43 (sh j) (rf cr v)) := Fr.sr Fr.refl _ _ _ (.inl (by decide)) (by decide)
  exact ⟨hB.fr F (by decide), L1.fr F (by decide) (by decide) (fun _ _ => rfl), L3.fr F (by decide) (by decide) (fun _ _ => rfl), ⟨S5, Sn, S37, fun i hi => wm (S38 i hi) (by omega), fun i hi => wm (S39 i hi) (by omega), fun i hi => wm (S40 i hi) (by omega), fun i hi => wm (S41 i hi) (by omega), fun i hi => wm (S42 i hi) (by omega), wrS S43 inj⟩, ⟨C6, Cn, C44, fun i hi => wm (C46 i hi) (by omega), fun i hi => wm (C47 i hi) (by omega), fun i hi => wm (C48 i hi) (by omega), fun i hi => wm (C49 i hi) (by omega), fun i hi => wr (C53 i hi) (by decide) (by omega), fun i hi => wr (C54 i hi) (by decide) (by omega), fun i hi => wr (C55 i hi) (by decide) (by omega), fun i hi => wr1 (C56 i hi) (by decide)⟩, ⟨wm B4 (by omega), wm B5 (by omega), wm B6 (by omega), fun i hi => wm (B7 i hi) (by omega)⟩, nS20, nC12⟩
theorem wA46 (h : cA bx sh cr hb nS nC C σ) {j : Nat} (hj : j < nC) (v : Int32) : cA bx sh cr hb nS nC (xk_si C 46 (cr j) v) (gm_sta σ 1 (142 + j) v) := by
  obtain ⟨hB, L1, L3, hS, hC, ⟨B4, B5, B6, B7⟩, nS20, nC12⟩ := h
  have inj : ∀ i, i < nC → cr i = cr j → i = j := fun i hi e => hC.inj nC12 hi hj e
  obtain ⟨S5, Sn, S37, S38, S39, S40, S41, S42, S43⟩ := hS
  obtain ⟨C6, Cn, C44, C46, C47, C48, C49, C53, C54, C55, C56⟩ := hC
  have F : Fr [46] [] (fun _ _ => false) C (xk_si C 46 (cr j) v) := Fr.si Fr.refl _ _ _ (.inl (by decide))
  exact ⟨hB.fr F (by decide), L1.fr F (by decide) (by decide) (fun _ _ => rfl), L3.fr F (by decide) (by decide) (fun _ _ => rfl), ⟨S5, Sn, fun i hi => wi1 (S37 i hi) (by decide), fun i hi => wi (S38 i hi) (by decide) (by omega), fun i hi => wi (S39 i hi) (by decide) (by omega), fun i hi => wi (S40 i hi) (by decide) (by omega), fun i hi => wi (S41 i hi) (by decide) (by omega), fun i hi => wi (S42 i hi) (by decide) (by omega), fun i hi => wmr (S43 i hi) (by omega)⟩, ⟨C6, Cn, fun i hi => wi1 (C44 i hi) (by decide), wiS C46 inj, fun i hi => wi (C47 i hi) (by decide) (by omega), fun i hi => wi (C48 i hi) (by decide) (by omega), fun i hi => wi (C49 i hi) (by decide) (by omega), fun i hi => wmr (C53 i hi) (by omega), fun i hi => wmr (C54 i hi) (by omega), fun i hi => wmr (C55 i hi) (by omega), C56⟩, ⟨wi B4 (by decide) (by omega), wi B5 (by decide) (by omega), wi B6 (by decide) (by omega), fun i hi => wm (B7 i hi) (by omega)⟩, nS20, nC12⟩
theorem wA47 (h : cA bx sh cr hb nS nC C σ) {j : Nat} (hj : j < nC) (v : Int32) : cA bx sh cr hb nS nC (xk_si C 47 (cr j) v) (gm_sta σ 1 (130 + j) v) := by
  obtain ⟨hB, L1, L3, hS, hC, ⟨B4, B5, B6, B7⟩, nS20, nC12⟩ := h
  have inj : ∀ i, i < nC → cr i = cr j → i = j := fun i hi e => hC.inj nC12 hi hj e
  obtain ⟨S5, Sn, S37, S38, S39, S40, S41, S42, S43⟩ := hS
  obtain ⟨C6, Cn, C44, C46, C47, C48, C49, C53, C54, C55, C56⟩ := hC
  have F : Fr [47] [] (fun _ _ => false) C (xk_si C 47 (cr j) v) := Fr.si Fr.refl _ _ _ (.inl (by decide))
  exact ⟨hB.fr F (by decide), L1.fr F (by decide) (by decide) (fun _ _ => rfl), L3.fr F (by decide) (by decide) (fun _ _ => rfl), ⟨S5, Sn, fun i hi => wi1 (S37 i hi) (by decide), fun i hi => wi (S38 i hi) (by decide) (by omega), fun i hi => wi (S39 i hi) (by decide) (by omega), fun i hi => wi (S40 i hi) (by decide) (by omega), fun i hi => wi (S41 i hi) (by decide) (by omega), fun i hi => wi (S42 i hi) (by decide) (by omega), fun i hi => wmr (S43 i hi) (by omega)⟩, ⟨C6, Cn, fun i hi => wi1 (C44 i hi) (by decide), fun i hi => wi (C46 i hi) (by decide) (by omega), wiS C47 inj, fun i hi => wi (C48 i hi) (by decide) (by omega), fun i hi => wi (C49 i hi) (by decide) (by omega), fun i hi => wmr (C53 i hi) (by omega), fun i hi => wmr (C54 i hi) (by omega), fun i hi => wmr (C55 i hi) (by omega), C56⟩, ⟨wi B4 (by decide) (by omega), wi B5 (by decide) (by omega), wi B6 (by decide) (by omega), fun i hi => wm (B7 i hi) (by omega)⟩, nS20, nC12⟩
theorem wA48 (h : cA bx sh cr hb nS nC C σ) {j : Nat} (hj : j < nC) (v : Int32) : cA bx sh cr hb nS nC (xk_si C 48 (cr j) v) (gm_sta σ 1 (190 + j) v) := by
  obtain ⟨hB, L1, L3, hS, hC, ⟨B4, B5, B6, B7⟩, nS20, nC12⟩ := h
  have inj : ∀ i, i < nC → cr i = cr j → i = j := fun i hi e => hC.inj nC12 hi hj e
  obtain ⟨S5, Sn, S37, S38, S39, S40, S41, S42, S43⟩ := hS
  obtain ⟨C6, Cn, C44, C46, C47, C48, C49, C53, C54, C55, C56⟩ := hC
  have F : Fr [48] [] (fun _ _ => false) C (xk_si C 48 (cr j) v) := Fr.si Fr.refl _ _ _ (.inl (by decide))
  exact ⟨hB.fr F (by decide), L1.fr F (by decide) (by decide) (fun _ _ => rfl), L3.fr F (by decide) (by decide) (fun _ _ => rfl), ⟨S5, Sn, fun i hi => wi1 (S37 i hi) (by decide), fun i hi => wi (S38 i hi) (by decide) (by omega), fun i hi => wi (S39 i hi) (by decide) (by omega), fun i hi => wi (S40 i hi) (by decide) (by omega), fun i hi => wi (S41 i hi) (by decide) (by omega), fun i hi => wi (S42 i hi) (by decide) (by omega), fun i hi => wmr (S43 i hi) (by omega)⟩, ⟨C6, Cn, fun i hi => wi1 (C44 i hi) (by decide), fun i hi => wi (C46 i hi) (by decide) (by omega), fun i hi => wi (C47 i hi) (by decide) (by omega), wiS C48 inj, fun i hi => wi (C49 i hi) (by decide) (by omega), fun i hi => wmr (C53 i hi) (by omega), fun i hi => wmr (C54 i hi) (by omega), fun i hi => wmr (C55 i hi) (by omega), C56⟩, ⟨wi B4 (by decide) (by omega), wi B5 (by decide) (by omega), wi B6 (by decide) (by omega), fun i hi => wm (B7 i hi) (by omega)⟩, nS20, nC12⟩
theorem wA49 (h : cA bx sh cr hb nS nC C σ) {j : Nat} (hj : j < nC) (v : Int32) : cA bx sh cr hb nS nC (xk_si C 49 (cr j) v) (gm_sta σ 1 (202 + j) v) := by
  obtain ⟨hB, L1, L3, hS, hC, ⟨B4, B5, B6, B7⟩, nS20, nC12⟩ := h
  have inj : ∀ i, i < nC → cr i = cr j → i = j := fun i hi e => hC.inj nC12 hi hj e
  obtain ⟨S5, Sn, S37, S38, S39, S40, S41, S42, S43⟩ := hS
  obtain ⟨C6, Cn, C44, C46, C47, C48, C49, C53, C54, C55, C56⟩ := hC
  have F : Fr [49] [] (fun _ _ => false) C (xk_si C 49 (cr j) v) := Fr.si Fr.refl _ _ _ (.inl (by decide))
  exact ⟨hB.fr F (by decide), L1.fr F (by decide) (by decide) (fun _ _ => rfl), L3.fr F (by decide) (by decide) (fun _ _ => rfl), ⟨S5, Sn, fun i hi => wi1 (S37 i hi) (by decide), fun i hi => wi (S38 i hi) (by decide) (by omega), fun i hi => wi (S39 i hi) (by decide) (by omega), fun i hi => wi (S40 i hi) (by decide) (by omega), fun i hi => wi (S41 i hi) (by decide) (by omega), fun i hi => wi (S42 i hi) (by decide) (by omega), fun i hi => wmr (S43 i hi) (by omega)⟩, ⟨C6, Cn, fun i hi => wi1 (C44 i hi) (by decide), fun i hi => wi (C46 i hi) (by decide) (by omega), fun i hi => wi (C47 i hi) (by decide) (by omega), fun i hi => wi (C48 i hi) (by decide) (by omega), wiS C49 inj, fun i hi => wmr (C53 i hi) (by omega), fun i hi => wmr (C54 i hi) (by omega), fun i hi => wmr (C55 i hi) (by omega), C56⟩, ⟨wi B4 (by decide) (by omega), wi B5 (by decide) (by omega), wi B6 (by decide) (by omega), fun i hi => wm (B7 i hi) (by omega)⟩, nS20, nC12⟩
theorem wA53 (h : cA bx sh cr hb nS nC C σ) {j : Nat} (hj : j < nC) (v : Int32) : cA bx sh cr hb nS nC (xk_sr C 53 (cr j) (rf sh v)) (gm_sta σ 1 (178 + j) v) := by
  obtain ⟨hB, L1, L3, hS, hC, ⟨B4, B5, B6, B7⟩, nS20, nC12⟩ := h
  have inj : ∀ i, i < nC → cr i = cr j → i = j := fun i hi e => hC.inj nC12 hi hj e
  obtain ⟨S5, Sn, S37, S38, S39, S40, S41, S42, S43⟩ := hS
  obtain ⟨C6, Cn, C44, C46, C47, C48, C49, C53, C54, C55, C56⟩ := hC
  have F : Fr [] [53] (fun _ _ => false) C (xk_sr C 53 (cr j) (rf sh v)) := Fr.sr Fr.refl _ _ _ (.inl (by decide)) (by decide)
  exact ⟨hB.fr F (by decide), L1.fr F (by decide) (by decide) (fun _ _ => rfl), L3.fr F (by decide) (by decide) (fun _ _ => rfl), ⟨S5, Sn, S37, fun i hi => wm (S38 i hi) (by omega), fun i hi => wm (S39 i hi) (by omega), fun i hi => wm (S40 i hi) (by omega), fun i hi => wm (S41 i hi) (by omega), fun i hi => wm (S42 i hi) (by omega), fun i hi => wr (S43 i hi) (by decide) (by omega)⟩, ⟨C6, Cn, C44, fun i hi => wm (C46 i hi) (by omega), fun i hi => wm (C47 i hi) (by omega), fun i hi => wm (C48 i hi) (by omega), fun i hi => wm (C49 i hi) (by omega), wrS C53 inj, fun i hi => wr (C54 i hi) (by decide) (by omega), fun i hi => wr (C55 i hi) (by decide) (by omega), fun i hi => wr1 (C56 i hi) (by decide)⟩, ⟨wm B4 (by omega), wm B5 (by omega), wm B6 (by omega), fun i hi => wm (B7 i hi) (by omega)⟩, nS20, nC12⟩
theorem wA54 (h : cA bx sh cr hb nS nC C σ) {j : Nat} (hj : j < nC) (v : Int32) : cA bx sh cr hb nS nC (xk_sr C 54 (cr j) (rf cr v)) (gm_sta σ 1 (214 + j) v) := by
  obtain ⟨hB, L1, L3, hS, hC, ⟨B4, B5, B6, B7⟩, nS20, nC12⟩ := h
  have inj : ∀ i, i < nC → cr i = cr j → i = j := fun i hi e => hC.inj nC12 hi hj e
  obtain ⟨S5, Sn, S37, S38, S39, S40, S41, S42, S43⟩ := hS
  obtain ⟨C6, Cn, C44, C46, C47, C48, C49, C53, C54, C55, C56⟩ := hC
  have F : Fr [] [54] (fun _ _ => false) C (xk_sr C 54 (cr j) (rf cr v)) := Fr.sr Fr.refl _ _ _ (.inl (by decide)) (by decide)
  exact ⟨hB.fr F (by decide), L1.fr F (by decide) (by decide) (fun _ _ => rfl), L3.fr F (by decide) (by decide) (fun _ _ => rfl), ⟨S5, Sn, S37, fun i hi => wm (S38 i hi) (by omega), fun i hi => wm (S39 i hi) (by omega), fun i hi => wm (S40 i hi) (by omega), fun i hi => wm (S41 i hi) (by omega), fun i hi => wm (S42 i hi) (by omega), fun i hi => wr (S43 i hi) (by decide) (by omega)⟩, ⟨C6, Cn, C44, fun i hi => wm (C46 i hi) (by omega), fun i hi => wm (C47 i hi) (by omega), fun i hi => wm (C48 i hi) (by omega), fun i hi => wm (C49 i hi) (by omega), fun i hi => wr (C53 i hi) (by decide) (by omega), wrS C54 inj, fun i hi => wr (C55 i hi) (by decide) (by omega), fun i hi => wr1 (C56 i hi) (by decide)⟩, ⟨wm B4 (by omega), wm B5 (by omega), wm B6 (by omega), fun i hi => wm (B7 i hi) (by omega)⟩, nS20, nC12⟩
theorem wA55 (h : cA bx sh cr hb nS nC C σ) {j : Nat} (hj : j < nC) (v : Int32) : cA bx sh cr hb nS nC (xk_sr C 55 (cr j) (rf hb v)) (gm_sta σ 1 (154 + j) v) := by
  obtain ⟨hB, L1, L3, hS, hC, ⟨B4, B5, B6, B7⟩, nS20, nC12⟩ := h
  have inj : ∀ i, i < nC → cr i = cr j → i = j := fun i hi e => hC.inj nC12 hi hj e
  obtain ⟨S5, Sn, S37, S38, S39, S40, S41, S42, S43⟩ := hS
  obtain ⟨C6, Cn, C44, C46, C47, C48, C49, C53, C54, C55, C56⟩ := hC
  have F : Fr [] [55] (fun _ _ => false) C (xk_sr C 55 (cr j) (rf hb v)) := Fr.sr Fr.refl _ _ _ (.inl (by decide)) (by decide)
  exact ⟨hB.fr F (by decide), L1.fr F (by decide) (by decide) (fun _ _ => rfl), L3.fr F (by decide) (by decide) (fun _ _ => rfl), ⟨S5, Sn, S37, fun i hi => wm (S38 i hi) (by omega), fun i hi => wm (S39 i hi) (by omega), fun i hi => wm (S40 i hi) (by omega), fun i hi => wm (S41 i hi) (by omega), fun i hi => wm (S42 i hi) (by omega), fun i hi => wr (S43 i hi) (by decide) (by omega)⟩, ⟨C6, Cn, C44, fun i hi => wm (C46 i hi) (by omega), fun i hi => wm (C47 i hi) (by omega), fun i hi => wm (C48 i hi) (by omega), fun i hi => wm (C49 i hi) (by omega), fun i hi => wr (C53 i hi) (by decide) (by omega), fun i hi => wr (C54 i hi) (by decide) (by omega), wrS C55 inj, fun i hi => wr1 (C56 i hi) (by decide)⟩, ⟨wm B4 (by omega), wm B5 (by omega), wm B6 (by omega), fun i hi => wm (B7 i hi) (by omega)⟩, nS20, nC12⟩
theorem wAis (h : cA bx sh cr hb nS nC C σ) {j : Nat} (hj : j < nC) (v : Int32) : cA bx sh cr hb nS nC C (gm_sta σ 1 (166 + j) v) := by
  obtain ⟨hB, L1, L3, hS, hC, ⟨B4, B5, B6, B7⟩, nS20, nC12⟩ := h
  obtain ⟨S5, Sn, S37, S38, S39, S40, S41, S42, S43⟩ := hS
  obtain ⟨C6, Cn, C44, C46, C47, C48, C49, C53, C54, C55, C56⟩ := hC
  have F : Fr [] [] (fun _ _ => false) C C := Fr.refl
  exact ⟨hB.fr F (by decide), L1.fr F (by decide) (by decide) (fun _ _ => rfl), L3.fr F (by decide) (by decide) (fun _ _ => rfl), ⟨S5, Sn, S37, fun i hi => wm (S38 i hi) (by omega), fun i hi => wm (S39 i hi) (by omega), fun i hi => wm (S40 i hi) (by omega), fun i hi => wm (S41 i hi) (by omega), fun i hi => wm (S42 i hi) (by omega), fun i hi => wmr (S43 i hi) (by omega)⟩, ⟨C6, Cn, C44, fun i hi => wm (C46 i hi) (by omega), fun i hi => wm (C47 i hi) (by omega), fun i hi => wm (C48 i hi) (by omega), fun i hi => wm (C49 i hi) (by omega), fun i hi => wmr (C53 i hi) (by omega), fun i hi => wmr (C54 i hi) (by omega), fun i hi => wmr (C55 i hi) (by omega), C56⟩, ⟨wm B4 (by omega), wm B5 (by omega), wm B6 (by omega), fun i hi => wm (B7 i hi) (by omega)⟩, nS20, nC12⟩
theorem wAdid (h : cA bx sh cr hb nS nC C σ) {j : Nat} (hj : j < nC) (v : Int32) : cA bx sh cr hb nS nC C (gm_sta σ 1 (226 + j) v) := by
  obtain ⟨hB, L1, L3, hS, hC, ⟨B4, B5, B6, B7⟩, nS20, nC12⟩ := h
  obtain ⟨S5, Sn, S37, S38, S39, S40, S41, S42, S43⟩ := hS
  obtain ⟨C6, Cn, C44, C46, C47, C48, C49, C53, C54, C55, C56⟩ := hC
  have F : Fr [] [] (fun _ _ => false) C C := Fr.refl
  exact ⟨hB.fr F (by decide), L1.fr F (by decide) (by decide) (fun _ _ => rfl), L3.fr F (by decide) (by decide) (fun _ _ => rfl), ⟨S5, Sn, S37, fun i hi => wm (S38 i hi) (by omega), fun i hi => wm (S39 i hi) (by omega), fun i hi => wm (S40 i hi) (by omega), fun i hi => wm (S41 i hi) (by omega), fun i hi => wm (S42 i hi) (by omega), fun i hi => wmr (S43 i hi) (by omega)⟩, ⟨C6, Cn, C44, fun i hi => wm (C46 i hi) (by omega), fun i hi => wm (C47 i hi) (by omega), fun i hi => wm (C48 i hi) (by omega), fun i hi => wm (C49 i hi) (by omega), fun i hi => wmr (C53 i hi) (by omega), fun i hi => wmr (C54 i hi) (by omega), fun i hi => wmr (C55 i hi) (by omega), C56⟩, ⟨wm B4 (by omega), wm B5 (by omega), wm B6 (by omega), fun i hi => wm (B7 i hi) (by omega)⟩, nS20, nC12⟩
theorem wA50 (h : cA bx sh cr hb nS nC C σ) (a : Nat) (v : Int32) : cA bx sh cr hb nS nC (xk_si C 50 a v) σ := by
  obtain ⟨hB, L1, L3, hS, hC, ⟨B4, B5, B6, B7⟩, nS20, nC12⟩ := h
  obtain ⟨S5, Sn, S37, S38, S39, S40, S41, S42, S43⟩ := hS
  obtain ⟨C6, Cn, C44, C46, C47, C48, C49, C53, C54, C55, C56⟩ := hC
  have F : Fr [50] [] (fun _ _ => false) C (xk_si C 50 a v) := Fr.si Fr.refl _ _ _ (.inl (by decide))
  exact ⟨hB.fr F (by decide), L1.fr F (by decide) (by decide) (fun _ _ => rfl), L3.fr F (by decide) (by decide) (fun _ _ => rfl), ⟨S5, Sn, fun i hi => wi1 (S37 i hi) (by decide), fun i hi => wi1 (S38 i hi) (by decide), fun i hi => wi1 (S39 i hi) (by decide), fun i hi => wi1 (S40 i hi) (by decide), fun i hi => wi1 (S41 i hi) (by decide), fun i hi => wi1 (S42 i hi) (by decide), S43⟩, ⟨C6, Cn, fun i hi => wi1 (C44 i hi) (by decide), fun i hi => wi1 (C46 i hi) (by decide), fun i hi => wi1 (C47 i hi) (by decide), fun i hi => wi1 (C48 i hi) (by decide), fun i hi => wi1 (C49 i hi) (by decide), C53, C54, C55, C56⟩, ⟨wi1 B4 (by decide), wi1 B5 (by decide), wi1 B6 (by decide), B7⟩, nS20, nC12⟩
theorem wA51 (h : cA bx sh cr hb nS nC C σ) (a : Nat) (v : Int32) : cA bx sh cr hb nS nC (xk_si C 51 a v) σ := by
  obtain ⟨hB, L1, L3, hS, hC, ⟨B4, B5, B6, B7⟩, nS20, nC12⟩ := h
  obtain ⟨S5, Sn, S37, S38, S39, S40, S41, S42, S43⟩ := hS
  obtain ⟨C6, Cn, C44, C46, C47, C48, C49, C53, C54, C55, C56⟩ := hC
  have F : Fr [51] [] (fun _ _ => false) C (xk_si C 51 a v) := Fr.si Fr.refl _ _ _ (.inl (by decide))
  exact ⟨hB.fr F (by decide), L1.fr F (by decide) (by decide) (fun _ _ => rfl), L3.fr F (by decide) (by decide) (fun _ _ => rfl), ⟨S5, Sn, fun i hi => wi1 (S37 i hi) (by decide), fun i hi => wi1 (S38 i hi) (by decide), fun i hi => wi1 (S39 i hi) (by decide), fun i hi => wi1 (S40 i hi) (by decide), fun i hi => wi1 (S41 i hi) (by decide), fun i hi => wi1 (S42 i hi) (by decide), S43⟩, ⟨C6, Cn, fun i hi => wi1 (C44 i hi) (by decide), fun i hi => wi1 (C46 i hi) (by decide), fun i hi => wi1 (C47 i hi) (by decide), fun i hi => wi1 (C48 i hi) (by decide), fun i hi => wi1 (C49 i hi) (by decide), C53, C54, C55, C56⟩, ⟨wi1 B4 (by decide), wi1 B5 (by decide), wi1 B6 (by decide), B7⟩, nS20, nC12⟩
theorem wA52 (h : cA bx sh cr hb nS nC C σ) (a : Nat) (v : Int32) : cA bx sh cr hb nS nC (xk_si C 52 a v) σ := by
  obtain ⟨hB, L1, L3, hS, hC, ⟨B4, B5, B6, B7⟩, nS20, nC12⟩ := h
  obtain ⟨S5, Sn, S37, S38, S39, S40, S41, S42, S43⟩ := hS
  obtain ⟨C6, Cn, C44, C46, C47, C48, C49, C53, C54, C55, C56⟩ := hC
  have F : Fr [52] [] (fun _ _ => false) C (xk_si C 52 a v) := Fr.si Fr.refl _ _ _ (.inl (by decide))
  exact ⟨hB.fr F (by decide), L1.fr F (by decide) (by decide) (fun _ _ => rfl), L3.fr F (by decide) (by decide) (fun _ _ => rfl), ⟨S5, Sn, fun i hi => wi1 (S37 i hi) (by decide), fun i hi => wi1 (S38 i hi) (by decide), fun i hi => wi1 (S39 i hi) (by decide), fun i hi => wi1 (S40 i hi) (by decide), fun i hi => wi1 (S41 i hi) (by decide), fun i hi => wi1 (S42 i hi) (by decide), S43⟩, ⟨C6, Cn, fun i hi => wi1 (C44 i hi) (by decide), fun i hi => wi1 (C46 i hi) (by decide), fun i hi => wi1 (C47 i hi) (by decide), fun i hi => wi1 (C48 i hi) (by decide), fun i hi => wi1 (C49 i hi) (by decide), C53, C54, C55, C56⟩, ⟨wi1 B4 (by decide), wi1 B5 (by decide), wi1 B6 (by decide), B7⟩, nS20, nC12⟩
theorem wA4 (h : cA bx sh cr hb nS nC C σ) (v : Int32) : cA bx sh cr hb nS nC (xk_si C 4 bx v) (gm_sta σ 1 2 v) := by
  obtain ⟨hB, L1, L3, hS, hC, ⟨B4, B5, B6, B7⟩, nS20, nC12⟩ := h
  obtain ⟨S5, Sn, S37, S38, S39, S40, S41, S42, S43⟩ := hS
  obtain ⟨C6, Cn, C44, C46, C47, C48, C49, C53, C54, C55, C56⟩ := hC
  have F : Fr [4] [] (fun _ _ => false) C (xk_si C 4 bx v) := Fr.si Fr.refl _ _ _ (.inl (by decide))
  exact ⟨hB.fr F (by decide), L1.fr F (by decide) (by decide) (fun _ _ => rfl), L3.fr F (by decide) (by decide) (fun _ _ => rfl), ⟨S5, Sn, fun i hi => wi1 (S37 i hi) (by decide), fun i hi => wi (S38 i hi) (by decide) (by omega), fun i hi => wi (S39 i hi) (by decide) (by omega), fun i hi => wi (S40 i hi) (by decide) (by omega), fun i hi => wi (S41 i hi) (by decide) (by omega), fun i hi => wi (S42 i hi) (by decide) (by omega), fun i hi => wmr (S43 i hi) (by omega)⟩, ⟨C6, Cn, fun i hi => wi1 (C44 i hi) (by decide), fun i hi => wi (C46 i hi) (by decide) (by omega), fun i hi => wi (C47 i hi) (by decide) (by omega), fun i hi => wi (C48 i hi) (by decide) (by omega), fun i hi => wi (C49 i hi) (by decide) (by omega), fun i hi => wmr (C53 i hi) (by omega), fun i hi => wmr (C54 i hi) (by omega), fun i hi => wmr (C55 i hi) (by omega), C56⟩, ⟨by rw [i_si, ga_sta, if_pos ⟨rfl, rfl⟩, if_pos ⟨rfl, rfl⟩], wi B5 (by decide) (by omega), wi B6 (by decide) (by omega), fun i hi => wm (B7 i hi) (by omega)⟩, nS20, nC12⟩
theorem wA5 (h : cA bx sh cr hb nS nC C σ) (v : Int32) : cA bx sh cr hb nS nC (xk_si C 5 bx v) (gm_sta σ 1 3 v) := by
  obtain ⟨hB, L1, L3, hS, hC, ⟨B4, B5, B6, B7⟩, nS20, nC12⟩ := h
  obtain ⟨S5, Sn, S37, S38, S39, S40, S41, S42, S43⟩ := hS
  obtain ⟨C6, Cn, C44, C46, C47, C48, C49, C53, C54, C55, C56⟩ := hC
  have F : Fr [5] [] (fun _ _ => false) C (xk_si C 5 bx v) := Fr.si Fr.refl _ _ _ (.inl (by decide))
  exact ⟨hB.fr F (by decide), L1.fr F (by decide) (by decide) (fun _ _ => rfl), L3.fr F (by decide) (by decide) (fun _ _ => rfl), ⟨S5, Sn, fun i hi => wi1 (S37 i hi) (by decide), fun i hi => wi (S38 i hi) (by decide) (by omega), fun i hi => wi (S39 i hi) (by decide) (by omega), fun i hi => wi (S40 i hi) (by decide) (by omega), fun i hi => wi (S41 i hi) (by decide) (by omega), fun i hi => wi (S42 i hi) (by decide) (by omega), fun i hi => wmr (S43 i hi) (by omega)⟩, ⟨C6, Cn, fun i hi => wi1 (C44 i hi) (by decide), fun i hi => wi (C46 i hi) (by decide) (by omega), fun i hi => wi (C47 i hi) (by decide) (by omega), fun i hi => wi (C48 i hi) (by decide) (by omega), fun i hi => wi (C49 i hi) (by decide) (by omega), fun i hi => wmr (C53 i hi) (by omega), fun i hi => wmr (C54 i hi) (by omega), fun i hi => wmr (C55 i hi) (by omega), C56⟩, ⟨wi B4 (by decide) (by omega), by rw [i_si, ga_sta, if_pos ⟨rfl, rfl⟩, if_pos ⟨rfl, rfl⟩], wi B6 (by decide) (by omega), fun i hi => wm (B7 i hi) (by omega)⟩, nS20, nC12⟩
theorem wA6 (h : cA bx sh cr hb nS nC C σ) (v : Int32) : cA bx sh cr hb nS nC (xk_si C 6 bx v) (gm_sta σ 1 4 v) := by
  obtain ⟨hB, L1, L3, hS, hC, ⟨B4, B5, B6, B7⟩, nS20, nC12⟩ := h
  obtain ⟨S5, Sn, S37, S38, S39, S40, S41, S42, S43⟩ := hS
  obtain ⟨C6, Cn, C44, C46, C47, C48, C49, C53, C54, C55, C56⟩ := hC
  have F : Fr [6] [] (fun _ _ => false) C (xk_si C 6 bx v) := Fr.si Fr.refl _ _ _ (.inl (by decide))
  exact ⟨hB.fr F (by decide), L1.fr F (by decide) (by decide) (fun _ _ => rfl), L3.fr F (by decide) (by decide) (fun _ _ => rfl), ⟨S5, Sn, fun i hi => wi1 (S37 i hi) (by decide), fun i hi => wi (S38 i hi) (by decide) (by omega), fun i hi => wi (S39 i hi) (by decide) (by omega), fun i hi => wi (S40 i hi) (by decide) (by omega), fun i hi => wi (S41 i hi) (by decide) (by omega), fun i hi => wi (S42 i hi) (by decide) (by omega), fun i hi => wmr (S43 i hi) (by omega)⟩, ⟨C6, Cn, fun i hi => wi1 (C44 i hi) (by decide), fun i hi => wi (C46 i hi) (by decide) (by omega), fun i hi => wi (C47 i hi) (by decide) (by omega), fun i hi => wi (C48 i hi) (by decide) (by omega), fun i hi => wi (C49 i hi) (by decide) (by omega), fun i hi => wmr (C53 i hi) (by omega), fun i hi => wmr (C54 i hi) (by omega), fun i hi => wmr (C55 i hi) (by omega), C56⟩, ⟨wi B4 (by decide) (by omega), wi B5 (by decide) (by omega), by rw [i_si, ga_sta, if_pos ⟨rfl, rfl⟩, if_pos ⟨rfl, rfl⟩], fun i hi => wm (B7 i hi) (by omega)⟩, nS20, nC12⟩
theorem wA7 (h : cA bx sh cr hb nS nC C σ) {j : Nat} (hj : j < 3) (v : Int32) : cA bx sh cr hb nS nC (xk_se C (bx + 4) j v) (gm_sta σ 1 (5 + j) v) := by
  obtain ⟨hB, L1, L3, hS, hC, ⟨B4, B5, B6, B7⟩, nS20, nC12⟩ := h
  obtain ⟨S5, Sn, S37, S38, S39, S40, S41, S42, S43⟩ := hS
  obtain ⟨C6, Cn, C44, C46, C47, C48, C49, C53, C54, C55, C56⟩ := hC
  have F : Fr [] [] (fun k _ => k == 30) C (xk_se C (bx + 4) j v) := Fr.se Fr.refl _ _ _ (.inl (by rw [hB.2.2.1.2.2.2.1]; rfl))
  exact ⟨hB.fr F (by decide), L1.fr F (by decide) (by decide) (fun _ _ => rfl), L3.fr F (by decide) (by decide) (fun _ _ => rfl), ⟨S5, Sn, S37, fun i hi => wm (S38 i hi) (by omega), fun i hi => wm (S39 i hi) (by omega), fun i hi => wm (S40 i hi) (by omega), fun i hi => wm (S41 i hi) (by omega), fun i hi => wm (S42 i hi) (by omega), fun i hi => wmr (S43 i hi) (by omega)⟩, ⟨C6, Cn, C44, fun i hi => wm (C46 i hi) (by omega), fun i hi => wm (C47 i hi) (by omega), fun i hi => wm (C48 i hi) (by omega), fun i hi => wm (C49 i hi) (by omega), fun i hi => wmr (C53 i hi) (by omega), fun i hi => wmr (C54 i hi) (by omega), fun i hi => wmr (C55 i hi) (by omega), C56⟩, ⟨wm B4 (by omega), wm B5 (by omega), wm B6 (by omega), weS B7⟩, nS20, nC12⟩
end
end
section
/-! STAGE 2: of, fit, set, exchanges, walk, end -/
theorem s_rdE (σ : gm_S) (i : Nat) (h : i < 3) : gm_rd σ 1 (5 + nI i) = some (ga σ 1 (5 + i)) := m_rd1 σ 5 i (by omega)
def oI : List Nat := [4, 5, 6, 27, 28, 29, 30, 31, 41, 42, 46, 47, 48, 49, 50, 51, 52]
def oR : List Nat := [43, 53, 54, 55]
def oE (bx k a : Nat) : Bool := k == 30 && a == bx + 4
/-- what an op on the core leaves -/
def oC (bx : Nat) (sh cr hb : Nat → Nat) (nS nC nH : Nat) (C : xk_C) (σ : gm_S) (C' : xk_C) (σ' : gm_S) : Prop := cR bx sh cr hb nS nC nH C' σ' ∧ (Fr oI oR (oE bx) C C' ∧ xk_n C' = xk_n C ∧ xk_s C' = xk_s C) ∧ Mf [] [1, 16, 19] σ σ'
section
variable {bx : Nat} {sh cr hb : Nat → Nat} {nS nC nH : Nat} {C : xk_C} {σ : gm_S}
theorem oC.id (h : cR bx sh cr hb nS nC nH C σ) : oC bx sh cr hb nS nC nH C σ C σ := ⟨h, ⟨Fr.refl, rfl, rfl⟩, Mf.refl⟩
theorem oC.trans {C1 C2 : xk_C} {σ1 σ2 : gm_S} (h : oC bx sh cr hb nS nC nH C σ C1 σ1) (h' : oC bx sh cr hb nS nC nH C1 σ1 C2 σ2) : oC bx sh cr hb nS nC nH C σ C2 σ2 := ⟨h'.1, ⟨h.2.1.1.trans h'.2.1.1, h'.2.1.2.1.trans h.2.1.2.1, h'.2.1.2.2.trans h.2.1.2.2⟩, h.2.2.trans h'.2.2⟩
theorem op_of (h : cR bx sh cr hb nS nC nH C σ) (a1 a2 : Int32) : ∃ r, fX0_of bx C a1 a2 = some r ∧ fX3_of σ a1 a2 = some r := by
  have hn := h.n20
  rcases s_rng nS (by omega) a1 with ⟨i, hi, rfl⟩ | hv
  · unfold fX0_of fX3_of
    rw [isShell_in h.v0 hn hi]
    simp only [ev_is _ _ _ h.kB, ev_b, shellAt_in h hi]
    obtain ⟨⟨⟨⟨kB, nB, uB⟩, ⟨r0, r2, r3, r7, r8, r10, r11, r12, r13, r17, r18, r19, r23⟩, ⟨k1, k2, k3, k4, k5, k6, k7, k8, k14, k15, k16, k17, k18⟩, ⟨l2, l4, l5, l14, l15, l16, l17⟩⟩, L1, L3, ⟨S5, Sn, S37, S38, S39, S40, S41, S42, S43⟩, ⟨C6, Cn, C44, C46, C47, C48, C49, C53, C54, C55, C56⟩, ⟨B4, B5, B6, B7⟩, nS20, nC12⟩, ⟨F50, F51, F52⟩, ⟨⟨-, -, nH8, v0, v1, v3, v4⟩, vS, vC, vO, vN⟩⟩ := h
    simp only [ev_gi, ev_gr, ev_pi, ev_pr, ev_pz0, ev_pz1, ev_is, ev_ck, ev_ckn, ev_b, ev_10, if_true, if_false, false_and, and_false, true_and, and_true, reduceCtorEq, k_si, k_sr, k_se, k_sq, S5 i hi, h_5_37, h_5_38, h_5_39, h_5_40, h_5_41, h_5_42, h_5_43, S38 i hi, S39 i hi, S40 i hi, S41 i hi, S42 i hi, S43 i hi, m_rd1 σ _ i (by omega : 10 + i < 240), m_rd1 σ _ i (by omega : 30 + i < 240), m_rd1 σ _ i (by omega : 50 + i < 240), m_rd1 σ _ i (by omega : 70 + i < 240), m_rd1 σ _ i (by omega : 90 + i < 240), m_rd1 σ _ i (by omega : 110 + i < 240)]
    by_cases e0 : a2 = 0
    · simp only [if_pos e0]; exact ⟨_, rfl, rfl⟩
    by_cases e1 : a2 = 1
    · simp only [if_neg e0, if_pos e1]; exact ⟨_, rfl, rfl⟩
    by_cases e2 : a2 = 2
    · simp only [if_neg e0, if_neg e1, if_pos e2]; exact ⟨_, rfl, rfl⟩
    by_cases e3 : a2 = 3
    · simp only [if_neg e0, if_neg e1, if_neg e2, if_pos e3]; exact ⟨_, rfl, rfl⟩
    by_cases e4 : a2 = 4
    · simp only [if_neg e0, if_neg e1, if_neg e2, if_neg e3, if_pos e4]; exact ⟨_, rfl, rfl⟩
    by_cases e5 : a2 = 5
    · simp only [if_neg e0, if_neg e1, if_neg e2, if_neg e3, if_neg e4, if_pos e5]
      rcases vO i hi with ⟨e, -⟩ | ⟨c, hc, e, -⟩
      · rw [e, rf_n]; exact ⟨_, rfl, rfl⟩
      · rw [e, rf_s cr c (by omega), if_neg (by simp), if_neg (s_m1 c (by omega))]
        simp only [ev_gi, ev_gr, ev_pi, ev_pr, ev_pz0, ev_pz1, ev_is, ev_ck, ev_ckn, ev_b, ev_10, if_true, if_false, false_and, and_false, true_and, and_true, reduceCtorEq, k_si, k_sr, k_se, k_sq, C6 c hc, h_6_44, h_6_45, h_6_46, h_6_47, h_6_48, h_6_49, h_6_50, h_6_51, h_6_52, h_6_53, h_6_54, h_6_55, h_6_56, C44 c hc]
        exact ⟨_, rfl, rfl⟩
    · simp only [if_neg e0, if_neg e1, if_neg e2, if_neg e3, if_neg e4, if_neg e5]; exact ⟨_, rfl, rfl⟩
  · unfold fX0_of fX3_of
    rw [isShell_out h.v0 hn hv]
    simp only [ev_is _ _ _ h.kB, ev_b, shellAt_out h hv]
    exact ⟨_, rfl, rfl⟩
theorem op_fit (h : cR bx sh cr hb nS nC nH C σ) (a1 a2 : Int32) : ∃ r, fX0_fit bx C a1 a2 = some r ∧ fX3_fit σ a1 a2 = some r := by
  have hn := h.n20
  rcases s_rng nS (by omega) a1 with ⟨i, hi, rfl⟩ | hv
  · unfold fX0_fit fX3_fit
    rw [isShell_in h.v0 hn hi]
    simp only [ev_is _ _ _ h.kB, ev_b, shellAt_in h hi, in_eq]
    rcases in_ok a2 1 (nI 40) with e | ⟨e, h1, h2⟩
    · rw [e]; exact ⟨_, rfl, rfl⟩
    · rw [e, fs_m h.2.2 hi ⟨h1, h2⟩]
      simp only [ev_b, ev_is _ _ _ (h.1.2.2.2.1.1 i hi), fs_x h hi]
      exact ⟨_, rfl, rfl⟩
  · unfold fX0_fit fX3_fit
    rw [isShell_out h.v0 hn hv]
    simp only [ev_is _ _ _ h.kB, ev_b, shellAt_out h hv]
    exact ⟨_, rfl, rfl⟩
theorem op_exchanges (h : cR bx sh cr hb nS nC nH C σ) (a1 : Int32) : ∃ r, fX0_exchanges bx C a1 = some r ∧ fX3_exchanges σ a1 = some r := by
  unfold fX0_exchanges fX3_exchanges
  rw [in_eq]
  rcases in_ok a1 0 2 with e | ⟨e, h1, h2⟩
  · rw [e]; exact ⟨_, rfl, rfl⟩
  · obtain ⟨i, hi, rfl⟩ := s_get (n := 3) (by omega) h1 (Int32.lt_of_le_of_lt h2 (by decide))
    obtain ⟨⟨⟨⟨kB, nB, uB⟩, ⟨r0, r2, r3, r7, r8, r10, r11, r12, r13, r17, r18, r19, r23⟩, ⟨k1, k2, k3, k4, k5, k6, k7, k8, k14, k15, k16, k17, k18⟩, ⟨l2, l4, l5, l14, l15, l16, l17⟩⟩, L1, L3, ⟨S5, Sn, S37, S38, S39, S40, S41, S42, S43⟩, ⟨C6, Cn, C44, C46, C47, C48, C49, C53, C54, C55, C56⟩, ⟨B4, B5, B6, B7⟩, nS20, nC12⟩, ⟨F50, F51, F52⟩, ⟨⟨-, -, nH8, v0, v1, v3, v4⟩, vS, vC, vO, vN⟩⟩ := h
    rw [e]
    simp only [ev_gi, ev_gr, ev_pi, ev_pr, ev_pz0, ev_pz1, ev_is, ev_ck, ev_ckn, ev_b, ev_10, if_true, if_false, false_and, and_false, true_and, and_true, reduceCtorEq, k_si, k_sr, k_se, k_sq, kB, r0, r2, r3, r7, r8, r10, r11, r12, r13, r17, r18, r19, r23, k1, k2, k3, k4, k5, k6, k7, k8, k14, k15, k16, k17, k18, h_1_0, h_1_1, h_1_2, h_1_3, h_1_4, h_1_5, h_1_6, h_1_7, h_1_8, h_1_9, h_1_10, h_1_11, h_1_12, h_1_13, h_1_14, h_1_15, h_1_16, h_1_17, h_1_18, h_1_19, h_1_20, h_1_21, h_1_22, h_1_23, h_1_24, h_1_25, h_1_26, g_ld (C := C) (t := 0) (a := bx + 4) k4 (by rw [l4]; omega) (by omega : i < 2147483648), s_rdE σ i hi, B7 i hi]
    exact ⟨_, rfl, rfl⟩
/-- the numbers of the row that the invariant looks at are the same -/
theorem Iv.same {s s' : Nat → Int32} (h : Iv nS nC nH s) (e0 : s' 0 = s 0) (e1 : s' 1 = s 1) (e3 : 0 ≤ s' 3 ∧ s' 3 ≤ 5) (e4 : 0 ≤ s' 4 ∧ s' 4 ≤ 50) (eS : ∀ i, i < nS → s' (10 + i) = s (10 + i) ∧ s' (30 + i) = s (30 + i) ∧ s' (50 + i) = s (50 + i) ∧ s' (90 + i) = s (90 + i) ∧ s' (110 + i) = s (110 + i)) (eC : ∀ i, i < nC → s' (130 + i) = s (130 + i) ∧ s' (166 + i) = s (166 + i) ∧ s' (226 + i) = s (226 + i) ∧ ix nH (s' (154 + i)) ∧ s' (178 + i) = s (178 + i) ∧ ix nC (s' (214 + i))) : Iv nS nC nH s' := by
  obtain ⟨⟨i1, i2, i3, i4, i5, i6, i7⟩, hS, hC, hO, hN⟩ := h
  refine ⟨⟨i1, i2, i3, e0.trans i4, e1.trans i5, e3, e4⟩, fun i hi => ?_, fun c hc => ?_, fun i hi => ?_, fun c hc => ?_⟩
  · obtain ⟨a, b, c, -⟩ := eS i hi; rw [a, b, c]; exact hS i hi
  · obtain ⟨a, b, c', d, -, f⟩ := eC c hc; rw [a, b, c']
    obtain ⟨x, y, z, -⟩ := hC c hc
    exact ⟨x, y, z, d, f⟩
  · obtain ⟨-, -, -, a, b⟩ := eS i hi
    rw [a, b]
    rcases hO i hi with h | ⟨c, hc, h1, h2, h3⟩
    · exact .inl h
    · exact .inr ⟨c, hc, h1, by rw [(eC c hc).2.2.2.2.1]; exact h2, h3⟩
  · obtain ⟨-, b, -, -, e, -⟩ := eC c hc
    rw [b, e]
    rcases hN c hc with h | ⟨i, hi, h1, h2, h3⟩
    · exact .inl h
    · exact .inr ⟨i, hi, h1, by rw [(eS i hi).2.2.2.2]; exact h2, by rw [(eS i hi).2.2.2.1]; exact h3⟩
theorem cF.same {C' : xk_C} {σ' : gm_S} (h : cF cr nC C σ) (hx : ∀ i, i < nC → xk_i C' 50 (cr i) = xk_i C 50 (cr i) ∧ xk_i C' 51 (cr i) = xk_i C 51 (cr i) ∧ xk_i C' 52 (cr i) = xk_i C 52 (cr i)) (hm : ∀ i, i < nC → ga σ' 1 (166 + i) = ga σ 1 (166 + i) ∧ ga σ' 1 (226 + i) = ga σ 1 (226 + i)) : cF cr nC C' σ' := by
  refine ⟨fun i hi => ?_, fun i hi => ?_, fun i hi => ?_⟩
  · rw [(hx i hi).1, (hm i hi).1]; exact h.1 i hi
  · rw [(hx i hi).2.1, (hm i hi).2]; exact h.2.1 i hi
  · rw [(hx i hi).2.2, (hm i hi).2]; exact h.2.2 i hi
theorem gn (σ : gm_S) (p : Nat) (v : Int32) (q : Nat) (h : q ≠ p) : ga (gm_sta σ 1 p v) 1 q = ga σ 1 q := by rw [ga_sta, if_neg (fun e => h e.2)]
theorem ge (σ : gm_S) (p : Nat) (v : Int32) : ga (gm_sta σ 1 p v) 1 p = v := by rw [ga_sta, if_pos ⟨rfl, rfl⟩]
theorem op_set (h : cR bx sh cr hb nS nC nH C σ) (a1 a2 : Int32) : ∃ C' σ' r, fX0_set bx C a1 a2 = some (C', r) ∧ fX3_set σ a1 a2 = some (σ', r) ∧ oC bx sh cr hb nS nC nH C σ C' σ' := by
  have hA := h.1
  have hF := h.2.1
  have hI := h.2.2
  have h' := h
  unfold fX0_set fX3_set fX0_set_B23 fX0_set_B47 fX3_set_B23
  obtain ⟨⟨⟨⟨kB, nB, uB⟩, ⟨r0, r2, r3, r7, r8, r10, r11, r12, r13, r17, r18, r19, r23⟩, ⟨k1, k2, k3, k4, k5, k6, k7, k8, k14, k15, k16, k17, k18⟩, ⟨l2, l4, l5, l14, l15, l16, l17⟩⟩, L1, L3, ⟨S5, Sn, S37, S38, S39, S40, S41, S42, S43⟩, ⟨C6, Cn, C44, C46, C47, C48, C49, C53, C54, C55, C56⟩, ⟨B4, B5, B6, B7⟩, nS20, nC12⟩, ⟨F50, F51, F52⟩, ⟨⟨-, -, nH8, v0, v1, v3, v4⟩, vS, vC, vO, vN⟩⟩ := h
  simp only [in_eq]
  have same : ∀ p v, (p = 3 ∧ 0 ≤ v ∧ v ≤ 5) ∨ (p = 4 ∧ 0 ≤ v ∧ v ≤ 50) → Iv nS nC nH (ga (gm_sta σ 1 p v) 1) := fun p v hp => by
    refine hI.same ?_ ?_ ?_ ?_ (fun i hi => ?_) (fun i hi => ?_)
    · rw [ga_sta, if_neg (by omega)]
    · rw [ga_sta, if_neg (by omega)]
    · rw [ga_sta]; split
      · rename_i e; rcases hp with hp | hp
        · exact hp.2
        · omega
      · exact v3
    · rw [ga_sta]; split
      · rename_i e; rcases hp with hp | hp
        · omega
        · exact hp.2
      · exact v4
    · simp only [ga_sta]; refine ⟨?_, ?_, ?_, ?_, ?_⟩ <;> rw [if_neg (by omega)]
    · simp only [ga_sta]; refine ⟨?_, ?_, ?_, ?_, ?_, ?_⟩ <;> rw [if_neg (by omega)]
      · exact (vC i hi).2.2.2.1
      · exact (vC i hi).2.2.2.2
  rcases in_ok a1 0 1 with e | ⟨e, h1, h2⟩
  · simp only [e, ev_b, if_true]; exact ⟨_, _, _, rfl, rfl, oC.id h'⟩
  · simp only [e, ev_b, ev_10, if_false]
    by_cases e0 : a1 = 0
    · simp only [if_pos e0]
      rcases in_ok a2 0 5 with f | ⟨f, h3, h4⟩
      · simp only [f, ev_b, if_true]; exact ⟨_, _, _, rfl, rfl, oC.id h'⟩
      · subst e0
        simp only [f, ev_gi, ev_gr, ev_pi, ev_pr, ev_pz0, ev_pz1, ev_is, ev_ck, ev_ckn, ev_b, ev_10, if_true, if_false, false_and, and_false, true_and, and_true, reduceCtorEq, k_si, k_sr, k_se, k_sq, kB, r0, r2, r3, r7, r8, r10, r11, r12, r13, r17, r18, r19, r23, k1, k2, k3, k4, k5, k6, k7, k8, k14, k15, k16, k17, k18, h_1_0, h_1_1, h_1_2, h_1_3, h_1_4, h_1_5, h_1_6, h_1_7, h_1_8, h_1_9, h_1_10, h_1_11, h_1_12, h_1_13, h_1_14, h_1_15, h_1_16, h_1_17, h_1_18, h_1_19, h_1_20, h_1_21, h_1_22, h_1_23, h_1_24, h_1_25, h_1_26, B5, show gm_rd σ 1 (3 + 0) = some (ga σ 1 3) from rfl, show ∀ v, gm_wr σ 1 (3 + 0) v = some (gm_sta σ 1 3 v) from fun _ => rfl]
        refine ⟨_, _, _, rfl, rfl, ⟨wA5 hA a2, hF.same (fun i hi => ⟨wi1 rfl (by decide), wi1 rfl (by decide), wi1 rfl (by decide)⟩) (fun i hi => ⟨gn _ _ _ _ (by omega), gn _ _ _ _ (by omega)⟩), same 3 a2 (.inl ⟨rfl, h3, h4⟩)⟩, ⟨Fr.si Fr.refl _ _ _ (.inl (by decide)), rfl, rfl⟩, Mf.sta Mf.refl _ _ _ (by decide)⟩
    · simp only [if_neg e0]
      rcases in_ok a2 0 (nI 50) with f | ⟨f, h3, h4⟩
      · simp only [f, ev_b, if_true]; exact ⟨_, _, _, rfl, rfl, oC.id h'⟩
      · obtain ⟨i, hi, rfl⟩ := s_get (n := 2) (by omega) h1 (Int32.lt_of_le_of_lt h2 (by decide))
        have hi1 : i = 1 := by
          have : i ≠ 0 := fun h => e0 (by rw [h]; rfl)
          omega
        subst hi1
        simp only [f, ev_gi, ev_gr, ev_pi, ev_pr, ev_pz0, ev_pz1, ev_is, ev_ck, ev_ckn, ev_b, ev_10, if_true, if_false, false_and, and_false, true_and, and_true, reduceCtorEq, k_si, k_sr, k_se, k_sq, kB, r0, r2, r3, r7, r8, r10, r11, r12, r13, r17, r18, r19, r23, k1, k2, k3, k4, k5, k6, k7, k8, k14, k15, k16, k17, k18, h_1_0, h_1_1, h_1_2, h_1_3, h_1_4, h_1_5, h_1_6, h_1_7, h_1_8, h_1_9, h_1_10, h_1_11, h_1_12, h_1_13, h_1_14, h_1_15, h_1_16, h_1_17, h_1_18, h_1_19, h_1_20, h_1_21, h_1_22, h_1_23, h_1_24, h_1_25, h_1_26, B6, show gm_rd σ 1 (3 + nI 1) = some (ga σ 1 4) from rfl, show ∀ v, gm_wr σ 1 (3 + nI 1) v = some (gm_sta σ 1 4 v) from fun _ => rfl]
        refine ⟨_, _, _, rfl, rfl, ⟨wA6 hA a2, hF.same (fun i hi => ⟨wi1 rfl (by decide), wi1 rfl (by decide), wi1 rfl (by decide)⟩) (fun i hi => ⟨gn _ _ _ _ (by omega), gn _ _ _ _ (by omega)⟩), same 4 a2 (.inr ⟨rfl, h3, h4⟩)⟩, ⟨Fr.si Fr.refl _ _ _ (.inl (by decide)), rfl, rfl⟩, Mf.sta Mf.refl _ _ _ (by decide)⟩
end
end
