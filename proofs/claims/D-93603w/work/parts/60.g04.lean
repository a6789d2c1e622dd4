set_option maxRecDepth 16384
section
/-! STAGE 2: about, as, act, trace -/
/-- what ran -/
def rB (bx m : Nat) (C : xk_C) (σ : gm_S) : Prop := xk_i C 1 bx = nI m ∧ gs σ 35 = nI m ∧ ∀ j, j < 20 → xk_e C (bx + 2) j = ga σ 34 j
def aE (bx k a : Nat) : Bool := k == 30 && a == bx + 2
/-- in an act -/
def AP (bx a cc c t : Nat) (z : Int32) (C0 : xk_C) (σ0 : gm_S) (m : Nat) (C : xk_C) (σ : gm_S) : Prop :=
  (xk_k C bx = 1 ∧ xk_r C 2 bx = some (bx + 2) ∧ xk_k C (bx + 2) = 30 ∧ xk_l C (bx + 2) = 20) ∧
  (xk_k C a = 7 + t ∧ xk_r C 57 a = some cc ∧ (∀ f, 58 ≤ f → f ≤ 64 → xk_has (7 + t) f = true → xk_r C f a = some bx) ∧ xk_k C cc = 6 ∧ xk_i C 44 cc = nI c ∧ xk_i C 47 cc = z) ∧
  (gs σ 36 = nI t ∧ gs σ 37 = nI c ∧ gs σ 38 = z) ∧ rB bx m C σ ∧ (Fr [1] [] (aE bx) C0 C ∧ xk_n C = xk_n C0 ∧ xk_s C = xk_s C0 ∧ bx + 2 < xk_n C0) ∧ Mf [35, 36, 37, 38] [34] σ0 σ
section
variable {bx a cc c t : Nat} {z : Int32} {C0 : xk_C} {σ0 : gm_S} {m : Nat} {C : xk_C} {σ : gm_S}
theorem body_l (h : AP bx a cc c t z C0 σ0 m C σ) (hm : m < 100) (v : Int32) : ∃ C' σ', fX0_body bx C v = some (C', ()) ∧ fX3_runs σ v = some σ' ∧ AP bx a cc c t z C0 σ0 (m + 1) C' σ' := by
  obtain ⟨⟨kB, r2, k2, l2⟩, hA, ⟨g1, g2, g3⟩, ⟨b1, b2, b3⟩, ⟨F, e1, e2, e3⟩, M⟩ := h
  unfold fX0_body fX3_runs fX0_body_B22 fX3_runs_B19
  simp only [ev_gi, ev_gr, ev_pi, ev_pr, ev_pz0, ev_pz1, ev_is, ev_ck, ev_ckn, ev_b, ev_10, if_true, if_false, false_and, and_false, true_and, and_true, reduceCtorEq, k_si, k_sr, k_se, k_sq, kB, h_1_0, h_1_1, h_1_2, h_1_3, h_1_4, h_1_5, h_1_6, h_1_7, h_1_8, h_1_9, h_1_10, h_1_11, h_1_12, h_1_13, h_1_14, h_1_15, h_1_16, h_1_17, h_1_18, h_1_19, h_1_20, h_1_21, h_1_22, h_1_23, h_1_24, h_1_25, h_1_26, r2, b1, b2, g_al (C := C) (t := 0) (a := bx + 2) k2, l2]
  have hA2 : ∀ w, xk_k (xk_si C 1 bx w) a = 7 + t ∧ xk_r (xk_si C 1 bx w) 57 a = some cc ∧ (∀ f, 58 ≤ f → f ≤ 64 → xk_has (7 + t) f = true → xk_r (xk_si C 1 bx w) f a = some bx) ∧ xk_k (xk_si C 1 bx w) cc = 6 ∧ xk_i (xk_si C 1 bx w) 44 cc = nI c ∧ xk_i (xk_si C 1 bx w) 47 cc = z := fun w => by
    obtain ⟨a1, a2, a3, a4, a5, a6⟩ := hA
    exact ⟨a1, a2, a3, a4, wi1 a5 (by decide), wi1 a6 (by decide)⟩
  by_cases h20 : 20 ≤ m
  · have c1 : nI 20 ≤ nI m := (s_le _ _ (by omega) (by omega)).mpr h20
    simp only [c1, if_true, m_pt, ev_b, b2]
    refine ⟨_, _, rfl, rfl, ⟨kB, r2, k2, l2⟩, hA2 _, ⟨g1, g2, g3⟩, ⟨?_, ?_, b3⟩, ⟨F.si _ _ _ (.inl (by decide)), e1, e2, e3⟩, M.set _ _ (by decide)⟩
    · rw [i_si, if_pos ⟨rfl, rfl⟩, s_a1]
    · rw [gs_set, if_pos rfl, s_a1]
  · have c1 : ¬ nI 20 ≤ nI m := fun h => h20 ((s_le _ _ (by omega) (by omega)).mp h)
    simp only [c1, if_false, p_st (C := C) (a := bx + 2) (i := m) (v := v) k2 (by omega) (by omega), m_wr σ (k := 34) (j := m) v (show m < 20 by omega) (by omega), ev_b, ev_gi, ev_gr, ev_pi, ev_pr, ev_pz0, ev_pz1, ev_is, ev_ck, ev_ckn, ev_b, ev_10, if_true, if_false, false_and, and_false, true_and, and_true, reduceCtorEq, k_si, k_sr, k_se, k_sq, kB, h_1_0, h_1_1, h_1_2, h_1_3, h_1_4, h_1_5, h_1_6, h_1_7, h_1_8, h_1_9, h_1_10, h_1_11, h_1_12, h_1_13, h_1_14, h_1_15, h_1_16, h_1_17, h_1_18, h_1_19, h_1_20, h_1_21, h_1_22, h_1_23, h_1_24, h_1_25, h_1_26, i_se, b1, m_pt, gs_sta, b2]
    refine ⟨_, _, rfl, rfl, ⟨kB, r2, k2, l2⟩, hA2 _, ⟨g1, g2, g3⟩, ⟨?_, ?_, fun j hj => ?_⟩, ⟨(F.se _ _ _ ?_).si _ _ _ (.inl (by decide)), e1, e2, e3⟩, (M.sta _ _ _ (by decide)).set _ _ (by decide)⟩
    · rw [i_si, if_pos ⟨rfl, rfl⟩, s_a1]
    · rw [gs_set, if_pos rfl, s_a1]
    · rw [e_si, e_se, ga_set, ga_sta]
      by_cases hjm : j = m
      · rw [if_pos ⟨rfl, hjm⟩, if_pos ⟨rfl, hjm⟩]
      · rw [if_neg (fun h => hjm h.2), if_neg (fun h => hjm h.2), b3 j hj]
    · left; unfold aE; rw [← F.k (show bx + 2 < xk_n C0 by omega), k2]; simp
theorem AP.kB (h : AP bx a cc c t z C0 σ0 m C σ) : xk_k C bx = 1 := h.1.1
theorem AP.ka (h : AP bx a cc c t z C0 σ0 m C σ) : xk_k C a = 7 + t := h.2.1.1
theorem AP.io (h : AP bx a cc c t z C0 σ0 m C σ) (ht : t < 7) : xk_io C (some a) = some a := by
  show (if xk_k C a ≠ 0 ∧ xk_k C a < 22 ∧ xk_k C a ≠ 4 then some a else none) = some a
  rw [h.ka, if_pos ⟨by omega, by omega, by omega⟩]
theorem AP.rf (h : AP bx a cc c t z C0 σ0 m C σ) (f : Nat) (h1 : 58 ≤ f) (h2 : f ≤ 64) (h3 : xk_has (7 + t) f = true) : xk_gr C f (some a) = some (some bx) := by
  rw [g_r h.ka h3, h.2.1.2.2.1 f h1 h2 h3]
theorem AP.r57 (h : AP bx a cc c t z C0 σ0 m C σ) (h3 : xk_has (7 + t) 57 = true) : xk_gr C 57 (some a) = some (some cc) := by
  rw [g_r h.ka h3, h.2.1.2.1]
theorem AP.i44 (h : AP bx a cc c t z C0 σ0 m C σ) : xk_gi C 44 (some cc) = some (nI c) := by
  rw [g_i h.2.1.2.2.2.1 rfl, h.2.1.2.2.2.2.1]
theorem AP.i47 (h : AP bx a cc c t z C0 σ0 m C σ) : xk_gi C 47 (some cc) = some z := by
  rw [g_i h.2.1.2.2.2.1 rfl, h.2.1.2.2.2.2.2]
/-- a body's answer -/
def AA (bx a cc c t : Nat) (z : Int32) (C0 : xk_C) (σ0 : gm_S) (q : Nat) (x : Option (xk_C × Int32)) (y : Option (gm_S × Int32)) : Prop := ∃ C' σ' r m', x = some (C', r) ∧ y = some (σ', r) ∧ m' ≤ q ∧ AP bx a cc c t z C0 σ0 m' C' σ'
theorem ht7 : ∀ t, t < 7 → xk_has (7 + t) 57 = true ∧ xk_has (7 + t) 58 = true := by decide
theorem fits0 (h : AP bx a cc c t z C0 σ0 m C σ) (ht : t < 7) (hm : m < 90) (x : Int32) : AA bx a cc c t z C0 σ0 (m + 1) (fX6_fits a C x) (fX3_plainFits σ x) := by
  unfold fX6_fits fX3_plainFits
  obtain ⟨C1, σ1, f1, f2, h1⟩ := body_l h (by omega) 1
  simp only [h.rf 58 (by omega) (by omega) (ht7 t ht).2, g_is h.kB, ev_b, f1, f2, h1.r57 (ht7 t ht).1, h1.i44, h1.2.2.1.2.1]
  exact ⟨_, _, _, m + 1, rfl, rfl, by omega, h1⟩
theorem fits1 (h : AP bx a cc c t z C0 σ0 m C σ) (ht : t < 7) (h59 : xk_has (7 + t) 59 = true) (hm : m < 80) (x : Int32) : AA bx a cc c t z C0 σ0 (m + 2) (fX7_fits a C x) ((fX3_runs σ (nI 11)).bind fun r3 => fX3_plainFits r3 (x * 2)) := by
  unfold fX7_fits
  obtain ⟨C1, σ1, f1, f2, h1⟩ := body_l h (by omega) (nI 11)
  simp only [h.rf 59 (by omega) (by omega) h59, g_is h.kB, ev_b, f1, f2, h1.io ht]
  obtain ⟨C2, σ2, r, m2, g1, g2, g3, h2⟩ := fits0 h1 ht (by omega) (x * 2)
  rw [g1, g2]
  exact ⟨_, _, _, m2, rfl, rfl, by omega, h2⟩
theorem fitsV (h : AP bx a cc c t z C0 σ0 m C σ) (ht : 1 ≤ t ∧ t < 7) (hm : m < 70) (x : Int32) : AA bx a cc c t z C0 σ0 (m + 2) (fV_X6_fits a C x) (fX3_fits σ x) := by
  unfold fV_X6_fits fX3_fits
  have g36 := h.2.2.1.1
  have ka := h.ka
  have bs : ∀ o : Option (gm_S × Int32), (o.bind fun v => some (v.1, v.2)) = o := fun o => by cases o <;> rfl
  have one : ∀ {x y}, AA bx a cc c t z C0 σ0 (m + 1) x y → AA bx a cc c t z C0 σ0 (m + 2) x y := fun h => by
    obtain ⟨C', σ', r, m', g1, g2, g3, g4⟩ := h
    exact ⟨C', σ', r, m', g1, g2, by omega, g4⟩
  have cs : t = 1 ∨ t = 2 ∨ t = 3 ∨ t = 4 ∨ t = 5 ∨ t = 6 := by omega
  rcases cs with rfl | rfl | rfl | rfl | rfl | rfl
  · simp only [ka, g36, bs]
    exact fits1 h ht.2 rfl (by omega) x
  · simp only [ka, g36, bs]
    exact one (fits0 h ht.2 (by omega) x)
  · simp only [ka, g36, bs]
    exact fits1 h ht.2 rfl (by omega) x
  · simp only [ka, g36, bs]
    exact fits1 h ht.2 rfl (by omega) x
  · simp only [ka, g36, bs]
    exact fits1 h ht.2 rfl (by omega) x
  · simp only [ka, g36, bs]
    unfold fX12_fits
    obtain ⟨C1, σ1, f1, f2, h1⟩ := body_l h (by omega) (nI 61)
    simp only [h.rf 64 (by omega) (by omega) rfl, g_is h.kB, ev_b, f1, f2, h1.io ht.2]
    obtain ⟨C2, σ2, r, m2, g1, g2, g3, h2⟩ := fits0 h1 ht.2 (by omega) x
    show AA bx a cc c 6 z C0 σ0 (m + 2) ((fX6_fits a C1 x).bind fun r4 => some (r4.1, -r4.2)) ((fX3_plainFits σ1 x).bind fun r6 => some (r6.1, -r6.2))
    rw [g1, g2]
    exact ⟨_, _, _, m2, rfl, rfl, by omega, h2⟩
theorem asks0 (h : AP bx a cc c t z C0 σ0 m C σ) (ht : 1 ≤ t ∧ t < 7) (hm : m < 60) (x : Int32) : AA bx a cc c t z C0 σ0 (m + 3) (fX6_asks a C x) (fX3_plainAsks σ x) := by
  unfold fX6_asks fX3_plainAsks
  obtain ⟨C1, σ1, f1, f2, h1⟩ := body_l h (by omega) 2
  simp only [h.rf 58 (by omega) (by omega) (ht7 t ht.2).2, g_is h.kB, ev_b, f1, f2, h1.io ht.2]
  obtain ⟨C2, σ2, r, m2, g1, g2, g3, h2⟩ := fitsV h1 ht (by omega) x
  rw [g1, g2]
  simp only [ev_b, h2.r57 (ht7 t ht.2).1, h2.i47, h2.2.2.1.2.2]
  exact ⟨_, _, _, m2, rfl, rfl, by omega, h2⟩
theorem asks3 (h : AP bx a cc c t z C0 σ0 m C σ) (ht : 1 ≤ t ∧ t < 7) (h61 : xk_has (7 + t) 61 = true) (hm : m < 50) (x : Int32) : AA bx a cc c t z C0 σ0 (m + 4) (fX9_asks a C x) (fX3_waitingAsks σ x) := by
  unfold fX9_asks fX3_waitingAsks
  obtain ⟨C1, σ1, f1, f2, h1⟩ := body_l h (by omega) (nI 31)
  simp only [h.rf 61 (by omega) (by omega) h61, g_is h.kB, ev_b, f1, f2, h1.io ht.2]
  obtain ⟨C2, σ2, r, m2, g1, g2, g3, h2⟩ := asks0 h1 ht (by omega) x
  rw [g1, g2]
  exact ⟨_, _, _, m2, rfl, rfl, by omega, h2⟩
theorem asksV (h : AP bx a cc c t z C0 σ0 m C σ) (ht : 1 ≤ t ∧ t < 7) (hm : m < 40) (x : Int32) : AA bx a cc c t z C0 σ0 (m + 7) (fV_X6_asks a C x) (fX3_askedActs σ x) := by
  unfold fV_X6_asks fX3_askedActs
  have g36 := h.2.2.1.1
  have ka := h.ka
  have bs : ∀ o : Option (gm_S × Int32), (o.bind fun v => some (v.1, v.2)) = o := fun o => by cases o <;> rfl
  have up : ∀ {x y} k, k ≤ 7 → AA bx a cc c t z C0 σ0 (m + k) x y → AA bx a cc c t z C0 σ0 (m + 7) x y := fun k hk h => by
    obtain ⟨C', σ', r, m', g1, g2, g3, g4⟩ := h
    exact ⟨C', σ', r, m', g1, g2, by omega, g4⟩
  have cs : t = 1 ∨ t = 2 ∨ t = 3 ∨ t = 4 ∨ t = 5 ∨ t = 6 := by omega
  rcases cs with rfl | rfl | rfl | rfl | rfl | rfl
  · simp only [ka, g36, bs]; exact up 3 (by omega) (asks0 h ht (by omega) x)
  · simp only [ka, g36, bs]; exact up 3 (by omega) (asks0 h ht (by omega) x)
  · simp only [ka, g36, bs]; exact up 4 (by omega) (asks3 h ht rfl (by omega) x)
  · simp only [ka, g36, bs]
    show AA bx a cc c 4 z C0 σ0 (m + 7) (fX10_asks a C x) ((fX3_runs σ (nI 41)).bind fun r3 => (fX3_waitingAsks r3 (x + 1)).bind fun r4 => (fX3_fits r4.1 1).bind fun r5 => some (r5.1, r4.2 + r5.2))
    unfold fX10_asks
    obtain ⟨C1, σ1, f1, f2, h1⟩ := body_l h (by omega) (nI 41)
    simp only [h.rf 62 (by omega) (by omega) rfl, g_is h.kB, ev_b, f1, f2, h1.io ht.2]
    obtain ⟨C2, σ2, r, m2, g1, g2, g3, h2⟩ := asks3 h1 ht rfl (by omega) (x + 1)
    rw [g1, g2]
    simp only [ev_b, g_is (k := 11) h2.ka]
    obtain ⟨C3, σ3, r', m3, g1', g2', g3', h3⟩ := fitsV h2 ht (by omega) 1
    have e7 : fV_X6_fits a C2 1 = fX7_fits a C2 1 := by unfold fV_X6_fits; simp only [h2.ka]; rfl
    rw [← e7, g1', g2']
    exact ⟨_, _, _, m3, rfl, rfl, by omega, h3⟩
  · simp only [ka, g36, bs]; exact up 3 (by omega) (asks0 h ht (by omega) x)
  · simp only [ka, g36, bs]; exact up 3 (by omega) (asks0 h ht (by omega) x)
theorem moves0 (h : AP bx a cc c t z C0 σ0 m C σ) (ht : 1 ≤ t ∧ t < 7) (hm : m < 30) (x : Int32) : AA bx a cc c t z C0 σ0 (m + 8) (fX6_moves a C x) (fX3_plainMoves σ x) := by
  unfold fX6_moves fX3_plainMoves
  obtain ⟨C1, σ1, f1, f2, h1⟩ := body_l h (by omega) 3
  simp only [h.rf 58 (by omega) (by omega) (ht7 t ht.2).2, g_is h.kB, ev_b, f1, f2, h1.io ht.2]
  obtain ⟨C2, σ2, r, m2, g1, g2, g3, h2⟩ := asksV h1 ht (by omega) x
  rw [g1, g2]
  exact ⟨_, _, _, m2, rfl, rfl, by omega, h2⟩
theorem movesV (h : AP bx a cc c t z C0 σ0 m C σ) (ht : 1 ≤ t ∧ t < 7) (hm : m < 20) (x : Int32) : AA bx a cc c t z C0 σ0 (m + 9) (fV_X6_moves a C x) (fX3_movesActs σ x) := by
  unfold fV_X6_moves fX3_movesActs
  have g36 := h.2.2.1.1
  have ka := h.ka
  have bs : ∀ o : Option (gm_S × Int32), (o.bind fun v => some (v.1, v.2)) = o := fun o => by cases o <;> rfl
  have up : ∀ {x y}, AA bx a cc c t z C0 σ0 (m + 8) x y → AA bx a cc c t z C0 σ0 (m + 9) x y := fun h => by
    obtain ⟨C', σ', r, m', g1, g2, g3, g4⟩ := h
    exact ⟨C', σ', r, m', g1, g2, by omega, g4⟩
  have cs : t = 1 ∨ t = 2 ∨ t = 3 ∨ t = 4 ∨ t = 5 ∨ t = 6 := by omega
  rcases cs with rfl | rfl | rfl | rfl | rfl | rfl
  · simp only [ka, g36, bs]; exact up (moves0 h ht (by omega) x)
  · simp only [ka, g36, bs]
    show AA bx a cc c 2 z C0 σ0 (m + 9) (fX8_moves a C x) ((fX3_runs σ (nI 21)).bind fun r4 => (fX3_plainMoves r4 x).bind fun r5 => some (r5.1, -r5.2))
    unfold fX8_moves
    obtain ⟨C1, σ1, f1, f2, h1⟩ := body_l h (by omega) (nI 21)
    simp only [h.rf 60 (by omega) (by omega) rfl, g_is h.kB, ev_b, f1, f2, h1.io ht.2]
    obtain ⟨C2, σ2, r, m2, g1, g2, g3, h2⟩ := moves0 h1 ht (by omega) x
    rw [g1, g2]
    exact ⟨_, _, _, m2, rfl, rfl, by omega, h2⟩
  · simp only [ka, g36, bs]; exact up (moves0 h ht (by omega) x)
  · simp only [ka, g36, bs]; exact up (moves0 h ht (by omega) x)
  · simp only [ka, g36, bs]
    show AA bx a cc c 5 z C0 σ0 (m + 9) (fX11_moves a C x) ((fX3_runs σ (nI 51)).bind fun r2 => fX3_plainMoves r2 (x - 2))
    unfold fX11_moves
    obtain ⟨C1, σ1, f1, f2, h1⟩ := body_l h (by omega) (nI 51)
    simp only [h.rf 63 (by omega) (by omega) rfl, g_is h.kB, ev_b, f1, f2, h1.io ht.2]
    obtain ⟨C2, σ2, r, m2, g1, g2, g3, h2⟩ := moves0 h1 ht (by omega) (x - 2)
    rw [g1, g2]
    exact ⟨_, _, _, m2, rfl, rfl, by omega, h2⟩
  · simp only [ka, g36, bs]; exact up (moves0 h ht (by omega) x)
end
section
variable {bx : Nat} {sh cr hb : Nat → Nat} {nS nC nH : Nat} {C : xk_C} {σ : gm_S}
theorem kindV {a t : Nat} (ht : 1 ≤ t ∧ t < 7) (ka : xk_k C a = 7 + t) : fV_X6_kind a C = some (nI t) := by
  unfold fV_X6_kind
  have cs : t = 1 ∨ t = 2 ∨ t = 3 ∨ t = 4 ∨ t = 5 ∨ t = 6 := by omega
  rcases cs with rfl | rfl | rfl | rfl | rfl | rfl <;> simp only [ka] <;> rfl
theorem io_k {a t : Nat} (ht : t < 7) (ka : xk_k C a = 7 + t) : xk_io C (some a) = some a := by
  show (if xk_k C a ≠ 0 ∧ xk_k C a < 22 ∧ xk_k C a ≠ 4 then some a else none) = some a
  rw [ka, if_pos ⟨by omega, by omega, by omega⟩]
theorem under_m : ∀ t, t < 7 → 1 ≤ t → ∀ k, k < 7 → fX3_isUnder (nI t) (nI k) = some (if k = 0 ∨ k = t ∨ (k = 1 ∧ 2 < t ∧ t < 6) ∨ (k = 3 ∧ t = 4) then 1 else 0) := by decide +kernel
theorem under_x {a t : Nat} (ht : 1 ≤ t ∧ t < 7) (ka : xk_k C a = 7 + t) {k : Nat} (hk : k < 7) : fV_X6_isUnder a C (nI k) = some (if k = 0 ∨ k = t ∨ (k = 1 ∧ 2 < t ∧ t < 6) ∨ (k = 3 ∧ t = 4) then 1 else 0) := by
  have hio := io_k ht.2 ka
  unfold fV_X6_isUnder fX10_isUnder fX10_isUnder_B13 fX9_isUnder fX9_isUnder_B13 fX11_isUnder fX11_isUnder_B13 fX7_isUnder fX7_isUnder_B13 fX12_isUnder fX12_isUnder_B14 fX8_isUnder fX8_isUnder_B13 fX6_isUnder
  have cs : t = 1 ∨ t = 2 ∨ t = 3 ∨ t = 4 ∨ t = 5 ∨ t = 6 := by omega
  have ck : k = 0 ∨ k = 1 ∨ k = 2 ∨ k = 3 ∨ k = 4 ∨ k = 5 ∨ k = 6 := by omega
  simp only [hio, ev_b, ka]
  rcases cs with rfl | rfl | rfl | rfl | rfl | rfl <;> rcases ck with rfl | rfl | rfl | rfl | rfl | rfl | rfl <;> rfl
theorem op_as {N : Nat} (hN : 100 ≤ N) (h : cR bx sh cr hb nS nC nH C σ) (hW : cW bx cr nC C) (a1 a2 : Int32) : ∃ r, fX0_as N bx C a1 a2 = some r ∧ fX3_as N σ a1 a2 = some r := by
  have hn := h.n12
  unfold fX0_as fX3_as
  rcases s_rng nC (by omega) a1 with ⟨c, hc, rfl⟩ | hv
  · rw [isCrab_in h.v1 hn hc]
    simp only [ev_is _ _ _ h.kB, ev_b, crabAt_in h hc, in_eq]
    rcases in_ok a2 0 (nI 6) with e | ⟨e, h1, h2⟩
    · rw [e]; exact ⟨_, rfl, rfl⟩
    · obtain ⟨k, hk, rfl⟩ := s_get (n := 7) (by omega) h1 (Int32.lt_of_le_of_lt h2 (by decide))
      obtain ⟨t, a, t7, t1, w1, w2, -, ka, -⟩ := way_l hN h hW hc
      simp only [e, ev_b, xq6 h hc, w1, w2, io_k t7 ka, under_x ⟨t1, t7⟩ ka hk, under_m t t7 t1 k hk, x47 h hc, m_rd1 σ _ c (by omega : 130 + c < 240), reduceCtorEq, ev_10, if_false]
      by_cases q : k = 0 ∨ k = t ∨ (k = 1 ∧ 2 < t ∧ t < 6) ∨ (k = 3 ∧ t = 4)
      · simp only [q, if_true, ev_10, if_false]; exact ⟨_, rfl, rfl⟩
      · simp only [q, if_true, if_false]; exact ⟨_, rfl, rfl⟩
  · rw [isCrab_out h.v1 hn hv]
    simp only [ev_is _ _ _ h.kB, ev_b, crabAt_out h hv]
    exact ⟨_, rfl, rfl⟩
theorem op_about {N : Nat} (hN : 100 ≤ N) (h : cR bx sh cr hb nS nC nH C σ) (hW : cW bx cr nC C) (a1 a2 : Int32) : ∃ r, fX0_about N bx C a1 a2 = some r ∧ fX3_about N σ a1 a2 = some r := by
  have hn := h.n12
  have hn2 := h.n20
  unfold fX0_about fX3_about
  rcases s_rng nC (by omega) a1 with ⟨c, hc, rfl⟩ | hv
  · rw [isCrab_in h.v1 hn hc]
    obtain ⟨t, a, t7, t1, w1, w2, -, ka, -⟩ := way_l hN h hW hc
    simp only [ev_is _ _ _ h.kB, ev_b, crabAt_in h hc, xq6 h hc, w1, w2, io_k t7 ka, kindV ⟨t1, t7⟩ ka, x46 h hc, x47 h hc, x48 h hc, x49 h hc, x53 h hc, x54 h hc, ow_x h hc, ow_m h.2.2 hc, m_rd1 σ _ c (by omega : 142 + c < 240), m_rd1 σ _ c (by omega : 130 + c < 240), m_rd1 σ _ c (by omega : 178 + c < 240), m_rd1 σ _ c (by omega : 190 + c < 240), m_rd1 σ _ c (by omega : 202 + c < 240), m_rd1 σ _ c (by omega : 214 + c < 240), reduceCtorEq, ev_10, if_false]
    by_cases e0 : a2 = 0
    · simp only [if_pos e0]; exact ⟨_, rfl, rfl⟩
    by_cases e1 : a2 = 1
    · simp only [if_neg e0, if_pos e1]; exact ⟨_, rfl, rfl⟩
    by_cases e2 : a2 = 2
    · simp only [if_neg e0, if_neg e1, if_pos e2]; exact ⟨_, rfl, rfl⟩
    by_cases e3 : a2 = 3
    · simp only [if_neg e0, if_neg e1, if_neg e2, if_pos e3]
      rcases h.2.2.2.2.2.2 c hc with ⟨e, -⟩ | ⟨i, hi, e, -⟩
      · rw [e, rf_n]; exact ⟨_, rfl, rfl⟩
      · rw [e, rf_s sh i (by omega), if_neg (by simp), if_neg (s_m1 i (by omega)), x37 h hi]; exact ⟨_, rfl, rfl⟩
    by_cases e4 : a2 = 4
    · simp only [if_neg e0, if_neg e1, if_neg e2, if_neg e3, if_pos e4]; exact ⟨_, rfl, rfl⟩
    by_cases e5 : a2 = 5
    · simp only [if_neg e0, if_neg e1, if_neg e2, if_neg e3, if_neg e4, if_pos e5]; exact ⟨_, rfl, rfl⟩
    by_cases e6 : a2 = nI 6
    · simp only [if_neg e0, if_neg e1, if_neg e2, if_neg e3, if_neg e4, if_neg e5, if_pos e6]; exact ⟨_, rfl, rfl⟩
    by_cases e7 : a2 = nI 7
    · simp only [if_neg e0, if_neg e1, if_neg e2, if_neg e3, if_neg e4, if_neg e5, if_neg e6, if_pos e7]
      rcases (h.2.2.2.2.1 c hc).2.2.2.2 with e | ⟨i, hi, e⟩
      · rw [e, rf_n]; exact ⟨_, rfl, rfl⟩
      · rw [e, rf_s cr i (by omega), if_neg (by simp), if_neg (s_m1 i (by omega)), x44 h hi]; exact ⟨_, rfl, rfl⟩
    · simp only [if_neg e0, if_neg e1, if_neg e2, if_neg e3, if_neg e4, if_neg e5, if_neg e6, if_neg e7]; exact ⟨_, rfl, rfl⟩
  · rw [isCrab_out h.v1 hn hv]
    simp only [ev_is _ _ _ h.kB, ev_b, crabAt_out h hv]
    exact ⟨_, rfl, rfl⟩
/-- the core stays, where it isn't touched -/
theorem cR.fr {fi fr : List Nat} {E : Nat → Nat → Bool} {C' : xk_C} {σ' : gm_S} (h : cR bx sh cr hb nS nC nH C σ) (F : Fr fi fr E C C') (hs : ∀ j, ga σ' 1 j = ga σ 1 j) (h1 : ∀ f, f ∈ fi → f ∉ [4, 5, 6, 37, 38, 39, 40, 41, 42, 44, 46, 47, 48, 49, 50, 51, 52, 103]) (h2 : ∀ f, f ∈ fr → f ∉ [0, 2, 3, 7, 8, 10, 11, 12, 13, 17, 18, 19, 23, 43, 53, 54, 55, 56, 102]) (h3 : ∀ e, e < xk_n C → E 34 e = false) (h4 : E 30 (bx + 4) = false) : cR bx sh cr hb nS nC nH C' σ' := by
  have g1 : ∀ f, f ∈ [4, 5, 6, 37, 38, 39, 40, 41, 42, 44, 46, 47, 48, 49, 50, 51, 52, 103] → f ∉ fi := fun f hf hx => h1 f hx hf
  have g2 : ∀ f, f ∈ [0, 2, 3, 7, 8, 10, 11, 12, 13, 17, 18, 19, 23, 43, 53, 54, 55, 56, 102] → f ∉ fr := fun f hf hx => h2 f hx hf
  have es : ga σ' 1 = ga σ 1 := funext hs
  obtain ⟨⟨hB, L1, L3, ⟨S5, Sn, S37, S38, S39, S40, S41, S42, S43⟩, ⟨C6, Cn, C44, C46, C47, C48, C49, C53, C54, C55, C56⟩, ⟨B4, B5, B6, B7⟩, nS20, nC12⟩, ⟨F50, F51, F52⟩, hI⟩ := h
  have nb := hB.1.2.1
  have k4 := hB.2.2.1.2.2.2.1
  refine ⟨⟨hB.fr F (fun f hf => g2 f ?_), L1.fr F (g1 _ (by decide)) (g2 _ (by decide)) h3, L3.fr F (g1 _ (by decide)) (g2 _ (by decide)) h3, ⟨?_, ?_, ?_, ?_, ?_, ?_, ?_, ?_, ?_⟩, ⟨?_, ?_, ?_, ?_, ?_, ?_, ?_, ?_, ?_, ?_, ?_⟩, ⟨?_, ?_, ?_, ?_⟩, nS20, nC12⟩, ⟨?_, ?_, ?_⟩, by rw [es]; exact hI⟩
  · revert f; decide
  · intro i hi; rw [F.k (Sn i hi)]; exact S5 i hi
  · intro i hi; exact F.lt (Sn i hi)
  · intro i hi; rw [F.i (Sn i hi) (g1 _ (by decide))]; exact S37 i hi
  · intro i hi; rw [F.i (Sn i hi) (g1 _ (by decide)), hs]; exact S38 i hi
  · intro i hi; rw [F.i (Sn i hi) (g1 _ (by decide)), hs]; exact S39 i hi
  · intro i hi; rw [F.i (Sn i hi) (g1 _ (by decide)), hs]; exact S40 i hi
  · intro i hi; rw [F.i (Sn i hi) (g1 _ (by decide)), hs]; exact S41 i hi
  · intro i hi; rw [F.i (Sn i hi) (g1 _ (by decide)), hs]; exact S42 i hi
  · intro i hi; rw [F.r (Sn i hi) (g2 _ (by decide)), hs]; exact S43 i hi
  · intro i hi; rw [F.k (Cn i hi)]; exact C6 i hi
  · intro i hi; exact F.lt (Cn i hi)
  · intro i hi; rw [F.i (Cn i hi) (g1 _ (by decide))]; exact C44 i hi
  · intro i hi; rw [F.i (Cn i hi) (g1 _ (by decide)), hs]; exact C46 i hi
  · intro i hi; rw [F.i (Cn i hi) (g1 _ (by decide)), hs]; exact C47 i hi
  · intro i hi; rw [F.i (Cn i hi) (g1 _ (by decide)), hs]; exact C48 i hi
  · intro i hi; rw [F.i (Cn i hi) (g1 _ (by decide)), hs]; exact C49 i hi
  · intro i hi; rw [F.r (Cn i hi) (g2 _ (by decide)), hs]; exact C53 i hi
  · intro i hi; rw [F.r (Cn i hi) (g2 _ (by decide)), hs]; exact C54 i hi
  · intro i hi; rw [F.r (Cn i hi) (g2 _ (by decide)), hs]; exact C55 i hi
  · intro i hi; rw [F.r (Cn i hi) (g2 _ (by decide))]; exact C56 i hi
  · rw [F.i (by omega) (g1 _ (by decide)), hs]; exact B4
  · rw [F.i (by omega) (g1 _ (by decide)), hs]; exact B5
  · rw [F.i (by omega) (g1 _ (by decide)), hs]; exact B6
  · intro j hj; rw [F.e (by omega) (by rw [k4]; exact h4), hs]; exact B7 j hj
  · intro i hi; rw [F.i (Cn i hi) (g1 _ (by decide)), hs]; exact F50 i hi
  · intro i hi; rw [F.i (Cn i hi) (g1 _ (by decide)), hs]; exact F51 i hi
  · intro i hi; rw [F.i (Cn i hi) (g1 _ (by decide)), hs]; exact F52 i hi
theorem op_act {N m0 : Nat} (hN : 100 ≤ N) (h : cR bx sh cr hb nS nC nH C σ) (hW : cW bx cr nC C) (hr : rB bx m0 C σ) (a1 a2 a3 : Int32) : ∃ C' σ' r m, fX0_act N bx C a1 a2 a3 = some (C', r) ∧ fX3_act N σ a1 a2 a3 = some (σ', r) ∧ m ≤ 100 ∧ rB bx m C' σ' ∧ (Fr [1] [] (aE bx) C C' ∧ xk_n C' = xk_n C ∧ xk_s C' = xk_s C) ∧ Mf [35, 36, 37, 38] [34] σ σ' := by
  have hn := h.n12
  have kB := h.kB
  unfold fX0_act fX3_act
  simp only [ev_gi, ev_gr, ev_pi, ev_pr, ev_pz0, ev_pz1, ev_is, ev_ck, ev_ckn, ev_b, ev_10, if_true, if_false, false_and, and_false, true_and, and_true, reduceCtorEq, k_si, k_sr, k_se, k_sq, kB, h_1_0, h_1_1, h_1_2, h_1_3, h_1_4, h_1_5, h_1_6, h_1_7, h_1_8, h_1_9, h_1_10, h_1_11, h_1_12, h_1_13, h_1_14, h_1_15, h_1_16, h_1_17, h_1_18, h_1_19, h_1_20, h_1_21, h_1_22, h_1_23, h_1_24, h_1_25, h_1_26, m_pt]
  have F1 : Fr [1] [] (aE bx) C (xk_si C 1 bx 0) := Fr.si Fr.refl _ _ _ (.inl (by decide))
  have M1 : Mf [35, 36, 37, 38] [34] σ (gm_set σ 35 0) := Mf.set Mf.refl _ _ (by decide)
  have h1 : cR bx sh cr hb nS nC nH (xk_si C 1 bx 0) (gm_set σ 35 0) := h.fr F1 (fun j => rfl) (by decide) (by decide) (fun e he => rfl) (by unfold aE; simp)
  have nb := h.1.1.1.2.1
  have hW1 : cW bx cr nC (xk_si C 1 bx 0) := hW.fr h.1.2.2.2.2.1.2.1 F1 (by decide) (fun f _ _ => by simp) (fun a _ => rfl)
  have r1 : rB bx 0 (xk_si C 1 bx 0) (gm_set σ 35 0) := ⟨by rw [i_si, if_pos ⟨rfl, rfl⟩]; rfl, by rw [gs_set, if_pos rfl]; rfl, hr.2.2⟩
  rcases s_rng nC (by omega) a1 with ⟨c, hc, rfl⟩ | hv
  · rw [isCrab_in h1.v1 hn hc]
    simp only [ev_b, crabAt_in h1 hc, in_eq, reduceCtorEq, ev_10, if_false]
    rcases in_ok a2 0 2 with e | ⟨e, -, -⟩
    · rw [e]; exact ⟨_, _, _, 0, rfl, rfl, by omega, r1, ⟨F1, rfl, rfl⟩, M1⟩
    · obtain ⟨t, a, t7, t1, w1, w2, -, ka, w57, w58⟩ := way_l hN h1 hW1 hc
      have rd : ∀ s' : gm_S, (∀ j, ga s' 1 j = ga σ 1 j) → gm_rd s' 1 (nI 130 + nI c) = some (ga σ 1 (130 + c)) := fun s' hs' => by rw [m_rd1 _ _ _ (by omega), hs']
      simp only [e, ev_b, xq6 h1 hc, w1, w2, io_k t7 ka, ev_10, if_false]
      rw [rd (gm_set (gm_set (gm_set σ 35 0) 36 (nI t)) 37 (nI c)) (fun j => rfl)]
      simp only [ev_b]
      have hAP : AP bx a (cr c) c t (ga σ 1 (130 + c)) C σ 0 (xk_si C 1 bx 0) (gm_set (gm_set (gm_set (gm_set σ 35 0) 36 (nI t)) 37 (nI c)) 38 (ga σ 1 (130 + c))) := by
        have k6 := h1.1.2.2.2.2.1.1 c hc
        have i44 := h1.1.2.2.2.2.1.2.2.1 c hc
        have i47 := h1.1.2.2.2.2.1.2.2.2.2.1 c hc
        exact ⟨⟨kB, h.1.1.2.1.2.1, h.1.1.2.2.1.2.1, h.1.1.2.2.2.1⟩, ⟨ka, w57, w58, k6, i44, i47⟩, ⟨rfl, rfl, rfl⟩, r1, ⟨F1, rfl, rfl, by omega⟩, ((M1.set _ _ (by decide)).set _ _ (by decide)).set _ _ (by decide)⟩
      have bs1 : ∀ o : Option (xk_C × Int32), (o.bind fun v => some (v.1, v.2)) = o := fun o => by cases o <;> rfl
      have bs2 : ∀ o : Option (gm_S × Int32), (o.bind fun v => some (v.1, v.2)) = o := fun o => by cases o <;> rfl
      simp only [bs1, bs2]
      have fin : ∀ {x y}, AA bx a (cr c) c t (ga σ 1 (130 + c)) C σ 9 x y → ∃ C' σ' r m, x = some (C', r) ∧ y = some (σ', r) ∧ m ≤ 100 ∧ rB bx m C' σ' ∧ (Fr [1] [] (aE bx) C C' ∧ xk_n C' = xk_n C ∧ xk_s C' = xk_s C) ∧ Mf [35, 36, 37, 38] [34] σ σ' := fun h => by
        obtain ⟨C', σ', r, m', g1, g2, g3, -, -, -, g4, g5, g6⟩ := h
        exact ⟨C', σ', r, m', g1, g2, by omega, g4, ⟨g5.1, g5.2.1, g5.2.2.1⟩, g6⟩
      have up : ∀ {x y} k, k ≤ 9 → AA bx a (cr c) c t (ga σ 1 (130 + c)) C σ k x y → AA bx a (cr c) c t (ga σ 1 (130 + c)) C σ 9 x y := fun k hk h => by
        obtain ⟨C', σ', r, m', g1, g2, g3, g4⟩ := h
        exact ⟨C', σ', r, m', g1, g2, by omega, g4⟩
      by_cases e0 : a2 = 0
      · simp only [if_pos e0]; exact fin (up 2 (by omega) (fitsV hAP ⟨t1, t7⟩ (by omega) a3))
      by_cases e1 : a2 = 1
      · simp only [if_neg e0, if_pos e1]; exact fin (up 7 (by omega) (asksV hAP ⟨t1, t7⟩ (by omega) a3))
      · simp only [if_neg e0, if_neg e1]; exact fin (up 9 (by omega) (movesV hAP ⟨t1, t7⟩ (by omega) a3))
  · rw [isCrab_out h1.v1 hn hv]
    simp only [ev_b, crabAt_out h1 hv]
    exact ⟨_, _, _, 0, rfl, rfl, by omega, r1, ⟨F1, rfl, rfl⟩, M1⟩
theorem op_trace {m : Nat} (hm : m ≤ 100) (h : cR bx sh cr hb nS nC nH C σ) (hr : rB bx m C σ) (a1 : Int32) : ∃ r, fX0_trace bx C a1 = some r ∧ fX3_trace σ a1 = some r := by
  have kB := h.kB
  have k2 := h.1.1.2.2.1.2.1
  have l2 := h.1.1.2.2.2.1
  obtain ⟨b1, b2, b3⟩ := hr
  unfold fX0_trace fX3_trace fX3_trace_B20
  simp only [ev_gi, ev_gr, ev_pi, ev_pr, ev_pz0, ev_pz1, ev_is, ev_ck, ev_ckn, ev_b, ev_10, if_true, if_false, false_and, and_false, true_and, and_true, reduceCtorEq, k_si, k_sr, k_se, k_sq, kB, h_1_0, h_1_1, h_1_2, h_1_3, h_1_4, h_1_5, h_1_6, h_1_7, h_1_8, h_1_9, h_1_10, h_1_11, h_1_12, h_1_13, h_1_14, h_1_15, h_1_16, h_1_17, h_1_18, h_1_19, h_1_20, h_1_21, h_1_22, h_1_23, h_1_24, h_1_25, h_1_26, h.1.1.2.1.2.1, g_al (C := C) (t := 0) (a := bx + 2) k2, l2, b1, b2, in_eq]
  rcases s_rng 20 (by omega) a1 with ⟨i, hi, rfl⟩ | hv
  · rw [in_in i 20 (by omega) hi]
    simp only [ev_b, ev_10, if_false, g_ld (C := C) (t := 0) (a := bx + 2) k2 (by omega : i < xk_l C (bx + 2)) (by omega : i < 2147483648), b3 i hi, m_rd σ (k := 34) (j := i) hi (by omega)]
    by_cases hmi : m ≤ i
    · rw [if_pos ((s_le _ _ (by omega) (by omega)).mpr hmi), if_neg (fun h => by rw [s_le _ _ (by omega) (by omega)] at h; omega), in_out _ m (by omega) (.inr ((s_le _ _ (by omega) (by omega)).mpr hmi))]
      exact ⟨_, rfl, rfl⟩
    · rw [if_neg (fun h => hmi ((s_le _ _ (by omega) (by omega)).mp h)), in_in i m (by omega) (by omega)]
      simp only [ev_b, ev_10, if_false, ite_self]
      exact ⟨_, rfl, rfl⟩
  · rw [in_out _ 20 (by omega) hv]
    simp only [ev_b, if_true]
    by_cases c : nI 20 ≤ nI m
    · rw [if_pos c]; exact ⟨_, rfl, rfl⟩
    · rw [if_neg c, in_out _ m (by omega)]
      · exact ⟨_, rfl, rfl⟩
      · rcases hv with hv | hv
        · exact .inl hv
        · refine .inr (Int32.le_trans ?_ hv)
          rw [s_le _ _ (by omega) (by omega)] at c
          rw [s_le _ _ (by omega) (by omega)]; omega
end
end
section
/-! STAGE 2: bits of a set, counting, bounds of fits -/
def bt (g : Int32) (c : Nat) : Int32 := (g >>> (nI c &&& 31)) &&& 1
theorem bt01 (v : Int32) : v &&& 1 = 0 ∨ v &&& 1 = 1 := by
  have h : ∀ b : Bool, (v.toBitVec.getLsbD 0 = b) → v &&& 1 = if b then 1 else 0 := by
    intro b hb
    apply Int32.toBitVec_inj.mp
    apply BitVec.eq_of_getLsbD_eq
    intro i hi
    have e1 : (1 : Int32).toBitVec = 1#32 := rfl
    rw [Int32.toBitVec_and, BitVec.getLsbD_and, e1]
    by_cases hi0 : i = 0
    · subst hi0; rw [hb]; cases b <;> rfl
    · have : (1#32).getLsbD i = false := by
        simp [BitVec.getLsbD_one, hi0]
      rw [this, Bool.and_false]
      cases b
      · simp
      · simp [hi0]
  cases hb : v.toBitVec.getLsbD 0 with
  | false => left; exact h false hb
  | true => right; exact h true hb
theorem bt_iff (g : Int32) : ∀ c, c < 12 → (bt g c = 1 ↔ g.toBitVec.getLsbD c = true) := by
  intro c hc
  have key : ∀ v : Int32, (v &&& 1 = 1 ↔ v.toBitVec.getLsbD 0 = true) := by
    intro v
    constructor
    · intro h
      have := congrArg (fun x : Int32 => x.toBitVec.getLsbD 0) h
      simp only [Int32.toBitVec_and, BitVec.getLsbD_and] at this
      have e1 : (1 : Int32).toBitVec.getLsbD 0 = true := rfl
      rw [e1, Bool.and_true] at this
      exact this
    · intro h
      rcases bt01 v with h0 | h0
      · have := congrArg (fun x : Int32 => x.toBitVec.getLsbD 0) h0
        simp only [Int32.toBitVec_and, BitVec.getLsbD_and] at this
        rw [h] at this
        exact absurd this (by decide)
      · exact h0
  unfold bt
  rw [key, Int32.toBitVec_shiftRight]
  have sm : ∀ c, c < 12 → ((nI c &&& 31).toBitVec.smod 32).toNat = c := by decide +kernel
  rw [BitVec.sshiftRight', sm c hc, BitVec.getLsbD_sshiftRight]
  simp; omega
theorem bt_or {g x : Int32} {c : Nat} (hc : c < 12) (h : bt g c = 1) : bt (g ||| x) c = 1 := by
  rw [bt_iff _ c hc] at h ⊢
  rw [Int32.toBitVec_or, BitVec.getLsbD_or, h]; rfl
theorem bt_in (g : Int32) {c : Nat} (hc : c < 12) : bt (g ||| ((1 : Int32) <<< (nI c &&& 31))) c = 1 := by
  rw [bt_iff _ c hc]
  have : ∀ c, c < 12 → ((1 : Int32) <<< (nI c &&& 31)).toBitVec.getLsbD c = true := by decide +kernel
  rw [Int32.toBitVec_or, BitVec.getLsbD_or, this c hc, Bool.or_true]
/-- how many below k -/
def cn (b : Nat → Prop) [∀ k, Decidable (b k)] : Nat → Nat
  | 0 => 0
  | k + 1 => cn b k + if b k then 1 else 0
theorem cn_le (b : Nat → Prop) [∀ k, Decidable (b k)] (k : Nat) : cn b k ≤ k := by
  induction k with
  | zero => exact Nat.le_refl _
  | succ k ih => unfold cn; split <;> omega
theorem cn_mono {b b' : Nat → Prop} [∀ k, Decidable (b k)] [∀ k, Decidable (b' k)] (k : Nat) (h : ∀ i, i < k → b i → b' i) : cn b k ≤ cn b' k := by
  induction k with
  | zero => exact Nat.le_refl _
  | succ k ih =>
    have := ih (fun i hi => h i (by omega))
    unfold cn
    by_cases hb : b k
    · rw [if_pos hb, if_pos (h k (by omega) hb)]; omega
    · rw [if_neg hb]; split <;> omega
theorem cn_lt {b b' : Nat → Prop} [∀ k, Decidable (b k)] [∀ k, Decidable (b' k)] (k : Nat) (h : ∀ i, i < k → b i → b' i) {c : Nat} (hc : c < k) (h1 : ¬ b c) (h2 : b' c) : cn b k + 1 ≤ cn b' k := by
  induction k with
  | zero => omega
  | succ k ih =>
    unfold cn
    by_cases e : c = k
    · subst e
      have := cn_mono c (fun i hi => h i (by omega))
      rw [if_neg h1, if_pos h2]; omega
    · have := ih (fun i hi => h i (by omega)) (by omega)
      by_cases hb : b k
      · rw [if_pos hb, if_pos (h k (by omega) hb)]; omega
      · rw [if_neg hb]; split <;> omega
theorem s_d4 : ∀ l, l < 21 → nI l / 4 = nI (l / 4) := by decide +kernel
/-- a fit as a small number -/
theorem fi_b {r w h z : Int32} (hr : 1 ≤ r ∧ r ≤ 40) (hw : 0 ≤ w ∧ w ≤ 20) (hh : 0 ≤ h ∧ h ≤ 9) (hz : 1 ≤ z ∧ z ≤ 40) : ∃ e, 30 ≤ e ∧ e ≤ 170 ∧ fi r w h z = nI e - nI 140 := by
  obtain ⟨i, hi1, hi2, rfl⟩ := s_range hr
  obtain ⟨j, hj1, hj2, rfl⟩ := s_range hz
  obtain ⟨k, hk, rfl⟩ := s_get (n := 21) (by omega) hw.1 (Int32.lt_of_le_of_lt hw.2 (by decide))
  obtain ⟨l, hl, rfl⟩ := s_get (n := 10) (by omega) hh.1 (Int32.lt_of_le_of_lt hh.2 (by decide))
  unfold fi
  have e1 : (if nI i < nI j then 3 * (nI j - nI i) else nI i - nI j) = nI (if i < j then 3 * (j - i) else i - j) := by
    by_cases hlt : i < j
    · rw [if_pos ((s_lt _ _ (by omega) (by omega)).mpr hlt), if_pos hlt, s_sub _ _ (by omega)]; exact s_mul 3 _
    · rw [if_neg (fun h => hlt ((s_lt _ _ (by omega) (by omega)).mp h)), if_neg hlt, s_sub _ _ (by omega)]
  have e2 : 2 * nI l = nI (2 * l) := s_mul 2 l
  rw [e1, e2, s_d4 k (by omega)]
  generalize ha : (if i < j then 3 * (j - i) else i - j) = a
  have ha2 : a ≤ 117 := by rw [← ha]; split <;> omega
  refine ⟨170 - a - 2 * l - k / 4, by omega, by omega, ?_⟩
  have e3 : ∀ x y : Int32, x = y - nI 140 ↔ x + nI 140 = y := fun x y => by
    constructor
    · intro h; rw [h]; exact Int32.sub_add_cancel _ _
    · intro h; rw [← h]; exact (Int32.add_sub_cancel _ _).symm
  rw [e3]
  have e4 : ∀ (x y : Int32), x - y = x + -y := fun x y => Int32.sub_eq_add_neg x y
  have e5 : nI (170 - a - 2 * l - k / 4) = nI 30 + nI 140 - nI a - nI (2 * l) - nI (k / 4) := by
    rw [s_add, s_sub _ _ (by omega), s_sub _ _ (by omega), s_sub _ _ (by omega)]
  rw [e5]
  simp only [e4]
  ac_rfl
end
section
/-! STAGE 2: chains -/
def chE (bx k a : Nat) : Bool := k == 30 && a == bx + 14
/-- a chain under way: m moved, p points, its end e -/
def CH (bx : Nat) (sh cr hb : Nat → Nat) (nS nC nH : Nat) (C0 : xk_C) (σ0 : gm_S) (m p e : Nat) (C : xk_C) (σ : gm_S) : Prop :=
  cR bx sh cr hb nS nC nH C σ ∧
  (xk_r C 16 bx = some e ∧ xk_k C e = 5 ∧ e < xk_n C ∧ xk_i C 37 e = gs σ 26 ∧ (1 ≤ xk_i C 38 e ∧ xk_i C 38 e ≤ 40) ∧ (0 ≤ xk_i C 39 e ∧ xk_i C 39 e ≤ 20) ∧ (0 ≤ xk_i C 40 e ∧ xk_i C 40 e ≤ 9)) ∧
  (xk_i C 14 bx = nI m ∧ gs σ 24 = nI m ∧ xk_i C 15 bx = nI p ∧ gs σ 25 = nI p ∧ p ≤ 140 * m ∧ m ≤ nC ∧ ∀ j, j < m → xk_e C (bx + 14) j = ga σ 23 j) ∧
  (Fr [14, 15] [16] (chE bx) C0 C ∧ xk_n C = xk_n C0 ∧ xk_s C = xk_s C0) ∧ Mf [24, 25, 26] [23] σ0 σ
/-- how many of the crabs are in a set -/
def gn2 (g : Int32) (n : Nat) : Nat := cn (fun c => bt g c = 1) n
section
variable {bx : Nat} {sh cr hb : Nat → Nat} {nS nC nH : Nat} {C0 : xk_C} {σ0 : gm_S}
theorem ow_b {σ : gm_S} (hI : Iv nS nC nH (ga σ 1)) {c : Nat} (hc : c < nC) (h0 : ga σ 1 (166 + c) = 0) : ∃ e, 30 ≤ e ∧ e ≤ 170 ∧ ow σ c = nI e - nI 140 := by
  obtain ⟨i, hi, -, e, z⟩ := hsd hI hc h0
  rw [e]
  obtain ⟨a, b, c'⟩ := hI.2.1 i hi
  exact fi_b a b c' z
/-- one crab moves on -/
theorem ch_step {m p e : Nat} {C : xk_C} {σ : gm_S} (H : CH bx sh cr hb nS nC nH C0 σ0 m p e C σ) {c q : Nat} (hc : c < nC) (hh : ga σ 1 (166 + c) = 0) (hq : q ≤ 140) (hm : m < nC) : ∃ C' σ' e', 
    (∀ (K : xk_C → Int32 → Option (xk_C × Unit)) (g : Int32), ((xk_gi C 44 (some (cr c))).bind fun v7 => (xk_gr C 13 (some bx)).bind fun v8 => (xk_gi C 14 (some bx)).bind fun v9 => (xk_pi C 14 (some bx) (v9 + 1)).bind fun σ10 => (xk_gi σ10 44 (some (cr c))).bind fun v11 => (xk_st σ10 0 v8 v9 v11).bind fun σ12 => (xk_gi σ12 15 (some bx)).bind fun v13 => (xk_pi σ12 15 (some bx) (v13 + nI q)).bind fun σ14 => (xk_gr σ14 53 (some (cr c))).bind fun v15 => (xk_pr σ14 16 (some bx) v15).bind fun σ16 => K σ16 (g ||| ((1 : Int32) <<< (v7 &&& 31)))) = K C' (g ||| ((1 : Int32) <<< (nI c &&& 31)))) ∧
    (∀ (N : Nat) (K : gm_S → Int32 → Int32 → Int32 → Int32 → Int32 → Option gm_S) (r w h g : Int32), fX3_chains_B157 N K σ r w h g (nI c) (nI q) 1 = K σ' (xk_i C' 38 e') (xk_i C' 39 e') (xk_i C' 40 e') (g ||| ((1 : Int32) <<< (nI c &&& 31))) 1) ∧
    CH bx sh cr hb nS nC nH C0 σ0 (m + 1) (p + q) e' C' σ' := by
  obtain ⟨h, ⟨h16, he5, hen, h37, hr, hw, hh9⟩, ⟨i14, g24, i15, g25, hp, hmC, hj⟩, ⟨F, n1, n2⟩, M⟩ := H
  have hI := h.2.2
  have h' := h
  obtain ⟨i, hi, e53, -, -⟩ := hsd hI hc hh
  have hn := h.n12
  have hn2 := h.n20
  have nb := h.1.1.1.2.1
  have k14 := h.1.1.2.2.1.2.2.2.2.2.2.2.2.1
  have l14 := h.1.1.2.2.2.2.2.2.1
  have r13 := h.1.1.2.1.2.2.2.2.2.2.2.2.1
  have kB := h.kB
  have k6 := h.1.2.2.2.2.1.1 c hc
  have i44 := h.1.2.2.2.2.1.2.2.1 c hc
  have r53 := h.1.2.2.2.2.1.2.2.2.2.2.2.2.1 c hc
  have S := h.1.2.2.2.1
  refine ⟨xk_sr (xk_si (xk_se (xk_si C 14 bx (nI m + 1)) (bx + 14) m (nI c)) 15 bx (nI p + nI q)) 16 bx (some (sh i)), gm_set (gm_set (gm_set (gm_sta σ 23 m (nI c)) 24 (nI m + 1)) 25 (nI p + nI q)) 26 (nI i), sh i, fun K g => ?_, fun N K r w h g => ?_, ?_⟩
  · simp only [ev_gi, ev_gr, ev_pi, ev_pr, ev_pz0, ev_pz1, ev_is, ev_ck, ev_ckn, ev_b, ev_10, if_true, if_false, false_and, and_false, true_and, and_true, reduceCtorEq, k_si, k_sr, k_se, k_sq, k6, kB, h_6_44, h_6_45, h_6_46, h_6_47, h_6_48, h_6_49, h_6_50, h_6_51, h_6_52, h_6_53, h_6_54, h_6_55, h_6_56, h_1_0, h_1_1, h_1_2, h_1_3, h_1_4, h_1_5, h_1_6, h_1_7, h_1_8, h_1_9, h_1_10, h_1_11, h_1_12, h_1_13, h_1_14, h_1_15, h_1_16, h_1_17, h_1_18, h_1_19, h_1_20, h_1_21, h_1_22, h_1_23, h_1_24, h_1_25, h_1_26, i44, r13, i14, i_si, Nat.reduceEqDiff, p_st (C := xk_si C 14 bx (nI m + 1)) (a := bx + 14) (i := m) (v := nI c) k14 (by rw [l_si]; omega) (by omega), i_se, i15, r_si, r_se, r53, e53, rf_s sh i (by omega : i < 2147483648)]
  · unfold fX3_chains_B157 fX3_chains_B262
    have e178 : ∀ s' : gm_S, (∀ j, ga s' 1 j = ga σ 1 j) → gm_rd s' 1 (nI 178 + nI c) = some (nI i) := fun s' hs' => by rw [m_rd1 _ _ _ (by omega), hs', e53]
    have eS : ∀ (s' : gm_S) b, b ≤ 50 → (∀ j, ga s' 1 j = ga σ 1 j) → gm_rd s' 1 (nI b + nI i) = some (ga σ 1 (b + i)) := fun s' b hb hs' => by rw [m_rd1 _ _ _ (by omega), hs']
    have g1 : ∀ s' : gm_S, ∀ v k, gs (gm_set s' k v) k = v := fun s' v k => by rw [gs_set, if_pos rfl]
    have hs1 : ∀ j, ga (gm_set (gm_set (gm_sta σ 23 m (nI c)) 24 (nI m + 1)) 25 (nI p + nI q)) 1 j = ga σ 1 j := fun j => by rw [ga_set, ga_set, ga_sta, if_neg (by omega)]
    have hs2 : ∀ v j, ga (gm_set (gm_set (gm_set (gm_sta σ 23 m (nI c)) 24 (nI m + 1)) 25 (nI p + nI q)) 26 v) 1 j = ga σ 1 j := fun v j => by rw [ga_set, hs1]
    rw [if_neg (by decide), g24, m_wr σ (k := 23) (j := m) (nI c) (show m < 12 by omega) (by omega)]
    simp only [ev_b, m_pt, gs_sta, g24, gs_set, Nat.reduceEqDiff, if_false, g25]
    rw [e178 _ hs1]
    simp only [ev_b, if_true]
    rw [eS _ 10 (by omega) (hs2 _), eS _ 30 (by omega) (hs2 _), eS _ 50 (by omega) (hs2 _)]
    simp only [ev_b]
    have e38 : xk_i (xk_sr (xk_si (xk_se (xk_si C 14 bx (nI m + 1)) (bx + 14) m (nI c)) 15 bx (nI p + nI q)) 16 bx (some (sh i))) 38 (sh i) = ga σ 1 (10 + i) := by
      rw [i_sr, wi1 (f' := 15) rfl (by decide), i_se, wi1 (f' := 14) rfl (by decide)]; exact S.2.2.2.1 i hi
    have e39 : xk_i (xk_sr (xk_si (xk_se (xk_si C 14 bx (nI m + 1)) (bx + 14) m (nI c)) 15 bx (nI p + nI q)) 16 bx (some (sh i))) 39 (sh i) = ga σ 1 (30 + i) := by
      rw [i_sr, wi1 (f' := 15) rfl (by decide), i_se, wi1 (f' := 14) rfl (by decide)]; exact S.2.2.2.2.1 i hi
    have e40 : xk_i (xk_sr (xk_si (xk_se (xk_si C 14 bx (nI m + 1)) (bx + 14) m (nI c)) 15 bx (nI p + nI q)) 16 bx (some (sh i))) 40 (sh i) = ga σ 1 (50 + i) := by
      rw [i_sr, wi1 (f' := 15) rfl (by decide), i_se, wi1 (f' := 14) rfl (by decide)]; exact S.2.2.2.2.2.1 i hi
    rw [e38, e39, e40]
  · have F2 : Fr [14, 15] [16] (chE bx) C (xk_sr (xk_si (xk_se (xk_si C 14 bx (nI m + 1)) (bx + 14) m (nI c)) 15 bx (nI p + nI q)) 16 bx (some (sh i))) := Fr.sr (Fr.si (Fr.se (Fr.si Fr.refl _ _ _ (.inl (by decide))) _ _ _ (.inl (by rw [k14]; unfold chE; simp))) _ _ _ (.inl (by decide))) _ _ _ (.inl (by decide)) (by decide)
    have M2 : Mf [24, 25, 26] [23] σ (gm_set (gm_set (gm_set (gm_sta σ 23 m (nI c)) 24 (nI m + 1)) 25 (nI p + nI q)) 26 (nI i)) := (((Mf.refl.sta _ _ _ (by decide)).set _ _ (by decide)).set _ _ (by decide)).set _ _ (by decide)
    refine ⟨h.fr F2 (fun j => M2.2 1 (by decide) j) (by decide) (by decide) (fun _ _ => rfl) (by unfold chE; simp), ⟨?_, S.1 i hi, S.2.1 i hi, ?_, ?_, ?_, ?_⟩, ⟨?_, ?_, ?_, ?_, by omega, by omega, fun j hj' => ?_⟩, ⟨F.trans F2, n1, n2⟩, M.trans M2⟩
    · rw [r_sr, if_pos ⟨rfl, rfl⟩]
    · rw [F2.i (S.2.1 i hi) (by decide), S.2.2.1 i hi, gs_set, if_pos rfl]
    · rw [F2.i (S.2.1 i hi) (by decide), S.2.2.2.1 i hi]; exact (hI.2.1 i hi).1
    · rw [F2.i (S.2.1 i hi) (by decide), S.2.2.2.2.1 i hi]; exact (hI.2.1 i hi).2.1
    · rw [F2.i (S.2.1 i hi) (by decide), S.2.2.2.2.2.1 i hi]; exact (hI.2.1 i hi).2.2
    · rw [i_sr, wi1 (f' := 15) rfl (by decide), i_se, i_si, if_pos ⟨rfl, rfl⟩, s_a1]
    · rw [gs_set, if_neg (by decide), gs_set, if_neg (by decide), gs_set, if_pos rfl, s_a1]
    · rw [i_sr, i_si, if_pos ⟨rfl, rfl⟩, s_add]
    · rw [gs_set, if_neg (by decide), gs_set, if_pos rfl, s_add]
    · show xk_e (xk_se (xk_si C 14 bx (nI m + 1)) (bx + 14) m (nI c)) (bx + 14) j = ga (gm_sta σ 23 m (nI c)) 23 j
      rw [e_se, ga_sta]
      by_cases e : j = m
      · rw [if_pos ⟨rfl, e⟩, if_pos ⟨rfl, e⟩]
      · rw [if_neg (fun h => e h.2), if_neg (fun h => e h.2)]; exact hj j (by omega)
/-- the inner loop: who gains most -/
theorem ch_in (N : Nat) {m p e : Nat} {C : xk_C} {σ : gm_S} (H : CH bx sh cr hb nS nC nH C0 σ0 m p e C σ) (g : Int32) (Kx : xk_C → Int32 → Option (xk_C × Unit)) (Km : gm_S → Int32 → Int32 → Int32 → Int32 → Int32 → Option gm_S) (P : xk_C → gm_S → Prop)
    (hE : Km σ (xk_i C 38 e) (xk_i C 39 e) (xk_i C 40 e) g 0 = some σ) (hP : P C σ)
    (hK : ∀ c q, c < nC → q ≤ 140 → ga σ 1 (166 + c) = 0 → bt g c = 0 → ∃ C' σ', ((xk_gi C 44 (some (cr c))).bind fun v7 => (xk_gr C 13 (some bx)).bind fun v8 => (xk_gi C 14 (some bx)).bind fun v9 => (xk_pi C 14 (some bx) (v9 + 1)).bind fun σ10 => (xk_gi σ10 44 (some (cr c))).bind fun v11 => (xk_st σ10 0 v8 v9 v11).bind fun σ12 => (xk_gi σ12 15 (some bx)).bind fun v13 => (xk_pi σ12 15 (some bx) (v13 + nI q)).bind fun σ14 => (xk_gr σ14 53 (some (cr c))).bind fun v15 => (xk_pr σ14 16 (some bx) v15).bind fun σ16 => Kx σ16 (g ||| ((1 : Int32) <<< (v7 &&& 31)))) = some (C', ()) ∧ fX3_chains_B157 N Km σ (xk_i C 38 e) (xk_i C 39 e) (xk_i C 40 e) g (nI c) (nI q) 1 = some σ' ∧ P C' σ') :
    ∀ d k i (b : Int32) q, i + d = nC → d < k → q ≤ 140 → (b = -1 ∨ ∃ c, c < nC ∧ b = nI c ∧ ga σ 1 (166 + c) = 0 ∧ bt g c = 0) → ∃ C' σ', fX0_findChain_L25 N bx Kx k C g (rf cr b) (nI q) (nI i) = some (C', ()) ∧ fX3_chains_L45 N Km k σ (xk_i C 38 e) (xk_i C 39 e) (xk_i C 40 e) g b (nI q) (nI i) = some σ' ∧ P C' σ' := by
  obtain ⟨h, ⟨h16, he5, hen, h37, hr, hw, hh9⟩, -⟩ := H
  have hI := h.2.2
  have hn := h.n12
  have kB := h.kB
  intro d
  induction d with
  | zero =>
    intro k i b q hid hk hq hb
    obtain ⟨k, rfl⟩ : ∃ k', k = k' + 1 := ⟨k - 1, by omega⟩
    have : i = nC := by omega
    subst this
    unfold fX0_findChain_L25 fX3_chains_L45
    simp only [xr3 h, xi3 h, xs3 h, xr0 h, xi0 h, xs0 h, ev_b, lp_end, if_true, ev_r1, h.v1]
    rcases hb with rfl | ⟨c, hc, rfl, c1, c2⟩
    · rw [rf_n, if_pos rfl, if_pos rfl]
      unfold fX3_chains_B157 fX3_chains_B262
      rw [if_pos rfl, hE]
      exact ⟨C, σ, rfl, rfl, hP⟩
    · rw [rf_s cr c (by omega), if_neg (by simp), if_neg (s_m1 c (by omega))]
      exact hK c q hc hq c1 c2
  | succ d ih =>
    intro k i b q hid hk hq hb
    obtain ⟨k, rfl⟩ : ∃ k', k = k' + 1 := ⟨k - 1, by omega⟩
    have hi : i < nC := by omega
    unfold fX0_findChain_L25 fX3_chains_L45 fX3_chains_B105 fX3_chains_B106 fX3_chains_B122 fX3_chains_B138 fX0_findChain_B118
    have q0 : (0 : Int32) ≤ nI q := s_ge0 q (by omega)
    simp only [xr3 h, xi3 h, xs3 h, xr0 h, xi0 h, xs0 h, xg3 h hi, xc6 h hi, xq6 h hi, hs_x h hi, x47 h hi, ow_x h hi, ev_b, lp_go hi (by omega : nC ≤ 1000), if_false, ev_r1, h.v1, hs_m σ (by omega : i < 12), ow_m hI hi, m_rd1 σ _ i (by omega : 130 + i < 240), fi_m hr (hI.2.2.1 i hi).1, q0, if_true, s_a1, ev_gr, kB, h_1_0, h_1_1, h_1_2, h_1_3, h_1_4, h_1_5, h_1_6, h_1_7, h_1_8, h_1_9, h_1_10, h_1_11, h_1_12, h_1_13, h_1_14, h_1_15, h_1_16, h_1_17, h_1_18, h_1_19, h_1_20, h_1_21, h_1_22, h_1_23, h_1_24, h_1_25, h_1_26, h16, ev_is, he5, fi_x he5]
    have IH := ih k (i + 1) b q (by omega) (by omega) hq hb
    by_cases e0 : ga σ 1 (166 + i) = 0
    · simp only [hs_1 e0, ev_10, if_false]
      by_cases eb : bt g i = 1
      · have eb' : g >>> (nI i &&& 31) &&& 1 = 1 := eb
        simp only [eb', if_true, ev_10, if_false]; exact IH
      · have eb0 : bt g i = 0 := (bt01 _).resolve_right eb
        have eb1 : ¬ (g >>> (nI i &&& 31) &&& 1 = 1) := eb
        have eb2 : g >>> (nI i &&& 31) &&& 1 = 0 := eb0
        simp only [eb1, eb2, if_false, if_true, show ¬ ((0 : Int32) = 1) from by decide]
        obtain ⟨x1, a1, a2, a3⟩ := fi_b hr hw hh9 (hI.2.2.1 i hi).1
        obtain ⟨x2, b1, b2, b3⟩ := ow_b hI hi e0
        have e4 : ∀ x y z : Int32, (x - z) - (y - z) = x - y := fun x y z => by
          simp only [Int32.sub_eq_add_neg, Int32.neg_add, Int32.neg_neg]
          have : x + -z + (-y + z) = (x + -y) + (z + -z) := by ac_rfl
          rw [this, Int32.add_right_neg, Int32.add_zero]
        rw [a3, b3, e4]
        by_cases hx : x2 + q < x1
        · rw [s_sub _ _ (by omega)]
          have l1 : nI q < nI (x1 - x2) := (s_lt _ _ (by omega) (by omega)).mpr (by omega)
          rw [if_pos l1, if_neg (Int32.not_le.mpr l1), if_neg (Int32.not_le.mpr l1)]
          have := ih k (i + 1) (nI i) (x1 - x2) (by omega) (by omega) (by omega) (.inr ⟨i, hi, rfl, e0, eb0⟩)
          rw [rf_s cr i (by omega)] at this
          exact this
        · have l1 : ¬ (nI q < nI x1 - nI x2) := by
            by_cases hx2 : x2 ≤ x1
            · rw [s_sub _ _ hx2, s_lt _ _ (by omega) (by omega)]; omega
            · intro hlt
              rw [Int32.lt_iff_toInt_lt, Int32.toInt_sub, s_ti _ (by omega), s_ti _ (by omega), s_ti _ (by omega), Int.bmod_def] at hlt
              split at hlt <;> omega
          rw [if_neg l1, if_pos (Int32.not_lt.mp l1), if_pos (Int32.not_lt.mp l1)]
          exact IH
    · simp only [hs_0 e0, if_true]; exact IH
theorem ch_out (N : Nat) (hN : 100 ≤ N) : ∀ d k m p e (g : Int32) (C : xk_C) (σ : gm_S), CH bx sh cr hb nS nC nH C0 σ0 m p e C σ → nC ≤ gn2 g nC + d → m ≤ gn2 g nC → d + 1 < k → ∃ C' σ', fX0_findChain_L17 N bx k C g = some (C', ()) ∧ fX3_chains_L31 N k σ (xk_i C 38 e) (xk_i C 39 e) (xk_i C 40 e) g 1 = some σ' ∧ ∃ m' p' e', CH bx sh cr hb nS nC nH C0 σ0 m' p' e' C' σ' := by
  intro d
  induction d with
  | zero =>
    intro k m p e g C σ H hd hm hk
    obtain ⟨k, rfl⟩ : ∃ k', k = k' + 2 := ⟨k - 2, by omega⟩
    have hn := H.1.n12
    unfold fX0_findChain_L17 fX3_chains_L31
    rw [if_neg (by decide)]
    refine ch_in N H g _ _ (fun C' σ' => ∃ m' p' e', CH bx sh cr hb nS nC nH C0 σ0 m' p' e' C' σ') ?_ ⟨m, p, e, H⟩ ?_ nC N 0 (-1) 0 (by omega) (by omega) (by omega) (.inl rfl)
    · unfold fX3_chains_L31; rw [if_pos rfl]
    · intro c q hc hq c1 c2
      exfalso
      have : gn2 g nC + 1 ≤ nC := by
        have h1 := cn_lt (b := fun c => bt g c = 1) (b' := fun _ => True) nC (fun _ _ _ => trivial) hc (by rw [c2]; decide) trivial
        have h2 := cn_le (fun _ => True) nC
        exact Nat.le_trans h1 h2
      omega
  | succ d ih =>
    intro k m p e g C σ H hd hm hk
    obtain ⟨k, rfl⟩ : ∃ k', k = k' + 2 := ⟨k - 2, by omega⟩
    have hn := H.1.n12
    unfold fX0_findChain_L17 fX3_chains_L31
    rw [if_neg (by decide)]
    refine ch_in N H g _ _ (fun C' σ' => ∃ m' p' e', CH bx sh cr hb nS nC nH C0 σ0 m' p' e' C' σ') ?_ ⟨m, p, e, H⟩ ?_ nC N 0 (-1) 0 (by omega) (by omega) (by omega) (.inl rfl)
    · unfold fX3_chains_L31; rw [if_pos rfl]
    · intro c q hc hq c1 c2
      have hlt : gn2 g nC + 1 ≤ gn2 (g ||| ((1 : Int32) <<< (nI c &&& 31))) nC := cn_lt (b := fun c => bt g c = 1) (b' := fun d => bt (g ||| ((1 : Int32) <<< (nI c &&& 31))) d = 1) nC (fun i hi h => bt_or (by omega) h) hc (by rw [c2]; decide) (bt_in g (by omega))
      have hle := cn_le (fun d => bt (g ||| ((1 : Int32) <<< (nI c &&& 31))) d = 1) nC
      have hle' : gn2 (g ||| ((1 : Int32) <<< (nI c &&& 31))) nC ≤ nC := hle
      obtain ⟨C', σ', e', f1, f2, H'⟩ := ch_step H hc c1 hq (by omega)
      obtain ⟨C'', σ'', g1, g2, H''⟩ := ih (k + 1) (m + 1) (p + q) e' (g ||| ((1 : Int32) <<< (nI c &&& 31))) C' σ' H' (by omega) (by omega) (by omega)
      refine ⟨C'', σ'', ?_, ?_, H''⟩
      · rw [f1, g1]
      · rw [f2, g2]
end
end
