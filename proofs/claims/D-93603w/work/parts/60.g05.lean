set_option maxRecDepth 16384
section
/-! STAGE 2: chain, value, first -/
section
variable {bx : Nat} {sh cr hb : Nat → Nat} {nS nC nH : Nat} {C : xk_C} {σ : gm_S}
theorem find_l {N : Nat} (hN : 100 ≤ N) (h : cR bx sh cr hb nS nC nH C σ) {e : Nat} (he : e < xk_n C) (hk : xk_k C e = 5) (v : Int32) (hv : xk_i C 37 e = v) (hr : 1 ≤ xk_i C 38 e ∧ xk_i C 38 e ≤ 40) (hw : 0 ≤ xk_i C 39 e ∧ xk_i C 39 e ≤ 20) (hh : 0 ≤ xk_i C 40 e ∧ xk_i C 40 e ≤ 9) : ∃ C' σ' m p e', fX0_findChain N bx C (some e) = some (C', ()) ∧ fX3_chains N σ v (xk_i C 38 e) (xk_i C 39 e) (xk_i C 40 e) = some σ' ∧ CH bx sh cr hb nS nC nH C σ m p e' C' σ' := by
  have kB := h.kB
  have nb := h.1.1.1.2.1
  have hn := h.n12
  unfold fX0_findChain fX3_chains
  simp only [ev_gi, ev_gr, ev_pi, ev_pr, ev_pz0, ev_pz1, ev_is, ev_ck, ev_ckn, ev_b, ev_10, if_true, if_false, false_and, and_false, true_and, and_true, reduceCtorEq, k_si, k_sr, k_se, k_sq, kB, h_1_0, h_1_1, h_1_2, h_1_3, h_1_4, h_1_5, h_1_6, h_1_7, h_1_8, h_1_9, h_1_10, h_1_11, h_1_12, h_1_13, h_1_14, h_1_15, h_1_16, h_1_17, h_1_18, h_1_19, h_1_20, h_1_21, h_1_22, h_1_23, h_1_24, h_1_25, h_1_26, m_pt]
  have F2 : Fr [14, 15] [16] (chE bx) C (xk_sr (xk_si (xk_si C 14 bx 0) 15 bx 0) 16 bx (some e)) := Fr.sr (Fr.si (Fr.si Fr.refl _ _ _ (.inl (by decide))) _ _ _ (.inl (by decide))) _ _ _ (.inl (by decide)) (by decide)
  have M2 : Mf [24, 25, 26] [23] σ (gm_set (gm_set (gm_set σ 24 0) 25 0) 26 v) := ((Mf.refl.set _ _ (by decide)).set _ _ (by decide)).set _ _ (by decide)
  have e38 : xk_i (xk_sr (xk_si (xk_si C 14 bx 0) 15 bx 0) 16 bx (some e)) 38 e = xk_i C 38 e := F2.i he (by decide)
  have e39 : xk_i (xk_sr (xk_si (xk_si C 14 bx 0) 15 bx 0) 16 bx (some e)) 39 e = xk_i C 39 e := F2.i he (by decide)
  have e40 : xk_i (xk_sr (xk_si (xk_si C 14 bx 0) 15 bx 0) 16 bx (some e)) 40 e = xk_i C 40 e := F2.i he (by decide)
  have H : CH bx sh cr hb nS nC nH C σ 0 0 e (xk_sr (xk_si (xk_si C 14 bx 0) 15 bx 0) 16 bx (some e)) (gm_set (gm_set (gm_set σ 24 0) 25 0) 26 v) := by
    refine ⟨h.fr F2 (fun j => M2.2 1 (by decide) j) (by decide) (by decide) (fun _ _ => rfl) (by unfold chE; simp), ⟨?_, hk, he, ?_, by rw [e38]; exact hr, by rw [e39]; exact hw, by rw [e40]; exact hh⟩, ⟨?_, ?_, ?_, ?_, by omega, by omega, fun j hj => by omega⟩, ⟨F2, rfl, rfl⟩, M2⟩
    · rw [r_sr, if_pos ⟨rfl, rfl⟩]
    · rw [F2.i he (by decide), hv, gs_set, if_pos rfl]
    · rw [i_sr, wi1 (f' := 15) rfl (by decide), i_si, if_pos ⟨rfl, rfl⟩]; rfl
    · rw [gs_set, if_neg (by decide), gs_set, if_neg (by decide), gs_set, if_pos rfl]; rfl
    · rw [i_sr, i_si, if_pos ⟨rfl, rfl⟩]; rfl
    · rw [gs_set, if_neg (by decide), gs_set, if_pos rfl]; rfl
  obtain ⟨C', σ', f1, f2, m, p, e', H'⟩ := ch_out N hN nC N 0 0 e 0 _ _ H (by omega) (by omega) (by omega)
  rw [e38, e39, e40] at f2
  exact ⟨C', σ', m, p, e', f1, f2, H'⟩
theorem op_chain {N : Nat} (hN : 100 ≤ N) (h : cR bx sh cr hb nS nC nH C σ) (a1 a2 : Int32) : ∃ C' σ' r, fX0_chain N bx C a1 a2 = some (C', r) ∧ fX3_chain N σ a1 a2 = some (σ', r) ∧ cR bx sh cr hb nS nC nH C' σ' ∧ (Fr [14, 15] [16] (chE bx) C C' ∧ xk_n C' = xk_n C ∧ xk_s C' = xk_s C) ∧ Mf [24, 25, 26] [23] σ σ' := by
  have hn := h.n20
  have hn2 := h.n12
  unfold fX0_chain fX3_chain
  have idc : cR bx sh cr hb nS nC nH C σ ∧ (Fr [14, 15] [16] (chE bx) C C ∧ xk_n C = xk_n C ∧ xk_s C = xk_s C) ∧ Mf [24, 25, 26] [23] σ σ := ⟨h, ⟨Fr.refl, rfl, rfl⟩, Mf.refl⟩
  rcases s_rng nS (by omega) a1 with ⟨i, hi, rfl⟩ | hv
  · rw [isShell_in h.v0 hn hi]
    simp only [ev_is _ _ _ h.kB, ev_b, shellAt_in h hi, x42 h hi, m_rd1 σ _ i (by omega : 90 + i < 240), m_rd1 σ _ i (by omega : 10 + i < 240), m_rd1 σ _ i (by omega : 30 + i < 240), m_rd1 σ _ i (by omega : 50 + i < 240), reduceCtorEq, ev_10, if_false]
    by_cases c3 : -3 ≤ a2
    · simp only [c3, if_true]
      by_cases c0 : ga σ 1 (90 + i) = 0
      · simp only [c0, if_true]
        have S := h.1.2.2.2.1
        have hI := h.2.2
        have S38 := S.2.2.2.1 i hi
        have S39 := S.2.2.2.2.1 i hi
        have S40 := S.2.2.2.2.2.1 i hi
        obtain ⟨C', σ', m, p, e', f1, f2, H⟩ := find_l hN h (S.2.1 i hi) (S.1 i hi) (nI i) (S.2.2.1 i hi) (by rw [S38]; exact (hI.2.1 i hi).1) (by rw [S39]; exact (hI.2.1 i hi).2.1) (by rw [S40]; exact (hI.2.1 i hi).2.2)
        rw [S38, S39, S40] at f2
        rw [f1, f2]
        obtain ⟨h', ⟨h16, he5, hen, h37, -⟩, ⟨i14, g24, i15, g25, -, hmC, hj⟩, F, M⟩ := H
        have kB := h'.kB
        simp only [ev_gi, ev_gr, ev_pi, ev_pr, ev_pz0, ev_pz1, ev_is, ev_ck, ev_ckn, ev_b, ev_10, if_true, if_false, false_and, and_false, true_and, and_true, reduceCtorEq, k_si, k_sr, k_se, k_sq, kB, h_1_0, h_1_1, h_1_2, h_1_3, h_1_4, h_1_5, h_1_6, h_1_7, h_1_8, h_1_9, h_1_10, h_1_11, h_1_12, h_1_13, h_1_14, h_1_15, h_1_16, h_1_17, h_1_18, h_1_19, h_1_20, h_1_21, h_1_22, h_1_23, h_1_24, h_1_25, h_1_26, h16, he5, h_5_37, h_5_38, h_5_39, h_5_40, h_5_41, h_5_42, h_5_43, h37, i14, g24, i15, g25, h'.1.1.2.1.2.2.2.2.2.2.2.2.1]
        by_cases d3 : a2 = -3
        · simp only [if_pos d3]; exact ⟨_, _, _, rfl, rfl, h', F, M⟩
        by_cases d2 : a2 = -2
        · simp only [if_neg d3, if_pos d2]; exact ⟨_, _, _, rfl, rfl, h', F, M⟩
        by_cases d1 : a2 = -1
        · simp only [if_neg d3, if_neg d2, if_pos d1]; exact ⟨_, _, _, rfl, rfl, h', F, M⟩
        · simp only [if_neg d3, if_neg d2, if_neg d1]
          by_cases c : nI m ≤ a2
          · simp only [if_pos c]; exact ⟨_, _, _, rfl, rfl, h', F, M⟩
          · simp only [if_neg c]
            have g0 : 0 ≤ a2 := by
              rw [Int32.le_iff_toInt_le] at c3 ⊢
              have t1 : (-3 : Int32).toInt = -3 := by decide
              have t0 : (0 : Int32).toInt = 0 := by decide
              have n3 : a2.toInt ≠ -3 := fun e => d3 (Int32.toInt_inj.mp (by rw [e]; decide))
              have n2 : a2.toInt ≠ -2 := fun e => d2 (Int32.toInt_inj.mp (by rw [e]; decide))
              have n1 : a2.toInt ≠ -1 := fun e => d1 (Int32.toInt_inj.mp (by rw [e]; decide))
              omega
            obtain ⟨j, hjm, rfl⟩ := s_get (n := m) (by omega) g0 (Int32.not_le.mp c)
            rw [g_ld (t := 0) h'.1.1.2.2.1.2.2.2.2.2.2.2.2.1 (by rw [h'.1.1.2.2.2.2.2.2.1]; omega) (by omega), m_rd σ' (k := 23) (j := j) (show j < 12 by omega) (by omega), hj j hjm]
            exact ⟨_, _, _, rfl, rfl, h', F, M⟩
      · simp only [c0, if_false]; exact ⟨_, _, _, rfl, rfl, idc⟩
    · simp only [c3, if_false]; exact ⟨_, _, _, rfl, rfl, idc⟩
  · rw [isShell_out h.v0 hn hv]
    simp only [ev_is _ _ _ h.kB, ev_b, shellAt_out h hv]
    exact ⟨_, _, _, rfl, rfl, idc⟩
theorem value_l {N : Nat} (hN : 100 ≤ N) (h : cR bx sh cr hb nS nC nH C σ) {v : Int32} (hv : 1 ≤ v ∧ v ≤ 40) : ∃ C' σ' p, fX0_valueOf N bx C v = some (C', nI p) ∧ fX3_valueOf N σ v = some (σ', nI p) ∧ p ≤ 2000 ∧ cR bx sh cr hb nS nC nH C' σ' ∧ (Fr [14, 15] [16] (chE bx) C C' ∧ xk_n C' = xk_n C + 1 ∧ xk_s C' = xk_s C + 7 ∧ xk_k C' (xk_n C) = 5) ∧ Mf [24, 25, 26] [23] σ σ' := by
  have kB := h.kB
  have nb := h.1.1.1.2.1
  have nb2 : ¬ bx = xk_n C := by omega
  unfold fX0_valueOf fX3_valueOf fX4_init
  have F1 : Fr [14, 15] [16] (chE bx) C (xk_si (xk_si (xk_si (xk_si (xk_si (xk_mk C 5 0 7) 37 (xk_n C) (-1)) 41 (xk_n C) 0) 38 (xk_n C) v) 39 (xk_n C) 0) 40 (xk_n C) 0) := Fr.si (Fr.si (Fr.si (Fr.si (Fr.si (Fr.mk Fr.refl 5 0 7 (by decide)) _ _ _ (.inr (Nat.le_refl _))) _ _ _ (.inr (Nat.le_refl _))) _ _ _ (.inr (Nat.le_refl _))) _ _ _ (.inr (Nat.le_refl _))) _ _ _ (.inr (Nat.le_refl _))
  have e : xk_nw C 4 = some (xk_mk C 5 0 7) := rfl
  simp only [e, ev_gi, ev_gr, ev_pi, ev_pr, ev_pz0, ev_pz1, ev_is, ev_ck, ev_ckn, ev_b, ev_10, if_true, if_false, false_and, and_false, true_and, and_true, reduceCtorEq, k_si, k_sr, k_se, k_sq, k_mk, h_5_37, h_5_38, h_5_39, h_5_40, h_5_41, h_5_42, h_5_43, nb2, kB]
  have h1 := h.fr F1 (fun j => rfl) (by decide) (by decide) (fun _ _ => rfl) (by unfold chE; simp)
  have e37 : xk_i (xk_si (xk_si (xk_si (xk_si (xk_si (xk_mk C 5 0 7) 37 (xk_n C) (-1)) 41 (xk_n C) 0) 38 (xk_n C) v) 39 (xk_n C) 0) 40 (xk_n C) 0) 37 (xk_n C) = -1 := by
    rw [wi1 (f' := 40) rfl (by decide), wi1 (f' := 39) rfl (by decide), wi1 (f' := 38) rfl (by decide), wi1 (f' := 41) rfl (by decide), i_si, if_pos ⟨rfl, rfl⟩]
  have e38 : xk_i (xk_si (xk_si (xk_si (xk_si (xk_si (xk_mk C 5 0 7) 37 (xk_n C) (-1)) 41 (xk_n C) 0) 38 (xk_n C) v) 39 (xk_n C) 0) 40 (xk_n C) 0) 38 (xk_n C) = v := by
    rw [wi1 (f' := 40) rfl (by decide), wi1 (f' := 39) rfl (by decide), i_si, if_pos ⟨rfl, rfl⟩]
  have e39 : xk_i (xk_si (xk_si (xk_si (xk_si (xk_si (xk_mk C 5 0 7) 37 (xk_n C) (-1)) 41 (xk_n C) 0) 38 (xk_n C) v) 39 (xk_n C) 0) 40 (xk_n C) 0) 39 (xk_n C) = 0 := by
    rw [wi1 (f' := 40) rfl (by decide), i_si, if_pos ⟨rfl, rfl⟩]
  have e40 : xk_i (xk_si (xk_si (xk_si (xk_si (xk_si (xk_mk C 5 0 7) 37 (xk_n C) (-1)) 41 (xk_n C) 0) 38 (xk_n C) v) 39 (xk_n C) 0) 40 (xk_n C) 0) 40 (xk_n C) = 0 := by
    rw [i_si, if_pos ⟨rfl, rfl⟩]
  have kn : xk_k (xk_si (xk_si (xk_si (xk_si (xk_si (xk_mk C 5 0 7) 37 (xk_n C) (-1)) 41 (xk_n C) 0) 38 (xk_n C) v) 39 (xk_n C) 0) 40 (xk_n C) 0) (xk_n C) = 5 := by
    simp only [k_si, k_mk, if_true]
  have n1 : xk_n (xk_si (xk_si (xk_si (xk_si (xk_si (xk_mk C 5 0 7) 37 (xk_n C) (-1)) 41 (xk_n C) 0) 38 (xk_n C) v) 39 (xk_n C) 0) 40 (xk_n C) 0) = xk_n C + 1 := rfl
  have s1 : xk_s (xk_si (xk_si (xk_si (xk_si (xk_si (xk_mk C 5 0 7) 37 (xk_n C) (-1)) 41 (xk_n C) 0) 38 (xk_n C) v) 39 (xk_n C) 0) 40 (xk_n C) 0) = xk_s C + 7 := rfl
  generalize xk_si (xk_si (xk_si (xk_si (xk_si (xk_mk C 5 0 7) 37 (xk_n C) (-1)) 41 (xk_n C) 0) 38 (xk_n C) v) 39 (xk_n C) 0) 40 (xk_n C) 0 = C1 at *
  obtain ⟨C', σ', m, p, e', f1, f2, H⟩ := find_l hN h1 (by omega) kn (-1) e37 (by rw [e38]; exact hv) (by rw [e39]; decide) (by rw [e40]; decide)
  rw [e38, e39, e40] at f2
  rw [f1, f2]
  obtain ⟨h', -, ⟨i14, g24, i15, g25, hp, hmC, hj⟩, ⟨F, m1, m2⟩, M⟩ := H
  have hn := h.n12
  simp only [ev_b, g_i h'.kB (show xk_has 1 15 = true from rfl), i15, g25]
  exact ⟨C', σ', p, rfl, rfl, by omega, h', ⟨F1.trans F, by omega, by omega, by rw [F.k (by omega)]; exact kn⟩, M⟩
/-- what a value leaves -/
def oV (bx : Nat) (sh cr hb : Nat → Nat) (nS nC nH q : Nat) (C : xk_C) (σ : gm_S) (C' : xk_C) (σ' : gm_S) : Prop := cR bx sh cr hb nS nC nH C' σ' ∧ (Fr [14, 15] [16] (chE bx) C C' ∧ xk_n C' ≤ xk_n C + q ∧ xk_s C' ≤ xk_s C + 7 * q) ∧ Mf [24, 25, 26] [23] σ σ'
theorem op_value {N : Nat} (hN : 100 ≤ N) (h : cR bx sh cr hb nS nC nH C σ) (a1 : Int32) : ∃ C' σ' r, fX0_value N bx C a1 = some (C', r) ∧ fX3_value N σ a1 = some (σ', r) ∧ oV bx sh cr hb nS nC nH 1 C σ C' σ' := by
  unfold fX0_value fX3_value
  rw [in_eq]
  rcases in_ok a1 1 (nI 40) with e | ⟨e, h1, h2⟩
  · rw [e]; exact ⟨_, _, _, rfl, rfl, h, ⟨Fr.refl, by omega, by omega⟩, Mf.refl⟩
  · obtain ⟨C', σ', p, f1, f2, -, h', ⟨F, n1, s1, -⟩, M⟩ := value_l hN h ⟨h1, h2⟩
    rw [e, g_is h.kB]
    simp only [ev_b, ev_10, if_false, f1, f2]
    exact ⟨_, _, _, rfl, rfl, h', ⟨F, by omega, by omega⟩, M⟩
theorem first_l {N : Nat} (hN : 100 ≤ N) : ∀ d k k' i (b : Int32) q (C : xk_C) (σ : gm_S), i + d = 41 → 1 ≤ i → d < k → d < k' → q ≤ 2000 → cR bx sh cr hb nS nC nH C σ → ∃ C' σ' r, fX0_first_L6 N bx k C b (nI q) (nI i) = some (C', r) ∧ fX3_first_L10 N k' σ b (nI q) (nI i) = some (σ', r) ∧ oV bx sh cr hb nS nC nH d C σ C' σ' := by
  intro d
  induction d with
  | zero =>
    intro k k' i b q C σ hid hi hk hk' hq h
    obtain ⟨k, rfl⟩ : ∃ j, k = j + 1 := ⟨k - 1, by omega⟩
    obtain ⟨k', rfl⟩ : ∃ j, k' = j + 1 := ⟨k' - 1, by omega⟩
    have : i = 41 := by omega
    subst this
    unfold fX0_first_L6 fX3_first_L10
    rw [if_pos (by decide), if_pos (by decide)]
    exact ⟨_, _, _, rfl, rfl, h, ⟨Fr.refl, by omega, by omega⟩, Mf.refl⟩
  | succ d ih =>
    intro k k' i b q C σ hid hi hk hk' hq h
    obtain ⟨k, rfl⟩ : ∃ j, k = j + 1 := ⟨k - 1, by omega⟩
    obtain ⟨k', rfl⟩ : ∃ j, k' = j + 1 := ⟨k' - 1, by omega⟩
    unfold fX0_first_L6 fX3_first_L10 fX3_first_B34 fX0_first_B33 fX3_first_B47
    have l1 : ¬ (nI 40 < nI i) := by rw [s_lt _ _ (by omega) (by omega)]; omega
    obtain ⟨C', σ', p, f1, f2, hp, h', ⟨F, n1, s1, -⟩, M⟩ := value_l hN h (v := nI i) ⟨(s_le 1 i (by omega) (by omega)).mpr hi, (s_le i 40 (by omega) (by omega)).mpr (by omega)⟩
    rw [if_neg l1, if_neg l1, g_is h.kB]
    simp only [ev_b, f1, f2, s_a1]
    by_cases c : nI q < nI p
    · rw [if_pos c, if_neg (Int32.not_le.mpr c), if_neg (Int32.not_le.mpr c)]
      obtain ⟨C2, σ2, r, g1, g2, h2, ⟨F2, n2, s2⟩, M2⟩ := ih k k' (i + 1) (nI i) p C' σ' (by omega) (by omega) (by omega) (by omega) hp h'
      exact ⟨C2, σ2, r, g1, g2, h2, ⟨F.trans F2, by omega, by omega⟩, M.trans M2⟩
    · rw [if_neg c, if_pos (Int32.not_lt.mp c), if_pos (Int32.not_lt.mp c)]
      obtain ⟨C2, σ2, r, g1, g2, h2, ⟨F2, n2, s2⟩, M2⟩ := ih k k' (i + 1) b q C' σ' (by omega) (by omega) (by omega) (by omega) hq h'
      exact ⟨C2, σ2, r, g1, g2, h2, ⟨F.trans F2, by omega, by omega⟩, M.trans M2⟩
theorem op_first {N : Nat} (hN : 100 ≤ N) (h : cR bx sh cr hb nS nC nH C σ) : ∃ C' σ' r, fX0_first N bx C = some (C', r) ∧ fX3_first N σ = some (σ', r) ∧ oV bx sh cr hb nS nC nH 40 C σ C' σ' := by
  obtain ⟨N, rfl⟩ : ∃ k', N = k' + 1 := ⟨N - 1, by omega⟩
  unfold fX0_first fX3_first fX0_first_L6 fX0_first_B33
  obtain ⟨C', σ', p, f1, f2, hp, h', ⟨F, n1, s1, -⟩, M⟩ := value_l hN h (v := 1) ⟨by decide, by decide⟩
  have hlt : (-1 : Int32) < nI p := Int32.lt_of_lt_of_le (by decide : (-1 : Int32) < 0) (s_ge0 p (by omega))
  rw [if_neg (by decide), g_is h.kB]
  simp only [ev_b, f1, f2]
  rw [if_pos hlt]
  obtain ⟨C2, σ2, r, g1, g2, h2, ⟨F2, n2, s2⟩, M2⟩ := first_l hN 39 N (N + 1) 2 1 p C' σ' (by omega) (by omega) (by omega) (by omega) hp h'
  exact ⟨C2, σ2, r, g1, g2, h2, ⟨F.trans F2, by omega, by omega⟩, M.trans M2⟩
end
end
section
/-! STAGE 2: rows -/
section
variable {bx : Nat} {sh cr hb : Nat → Nat} {nS nC nH : Nat} {C : xk_C} {σ : gm_S}
theorem ah_iff (σ : gm_S) {a b : Nat} (ha : a < 12) (hb : b < 12) : ¬ ah σ a b = 0 ↔ (ga σ 1 (130 + b) < ga σ 1 (130 + a) ∨ (ga σ 1 (130 + a) = ga σ 1 (130 + b) ∧ a < b)) := by
  unfold ah
  by_cases h1 : ga σ 1 (130 + b) < ga σ 1 (130 + a)
  · simp [h1]
  · by_cases h2 : ga σ 1 (130 + a) = ga σ 1 (130 + b)
    · by_cases h3 : a < b
      · rw [if_neg h1, if_pos h2, if_neg (by rw [s_le _ _ (by omega) (by omega)]; omega)]
        simp [h2, h3]
      · rw [if_neg h1, if_pos h2, if_pos (by rw [s_le _ _ (by omega) (by omega)]; omega)]
        simp [h1, h3]
    · rw [if_neg h1, if_neg h2]; simp [h1, h2]
/-- who is ahead of c in a cell -/
def aw (σ : gm_S) (cell : Int32) (c j : Nat) : Prop := j ≠ c ∧ ¬ wt σ j = 0 ∧ ga σ 1 (142 + j) = cell ∧ ¬ ah σ j c = 0
def awD (σ : gm_S) (cell : Int32) (c j : Nat) : Decidable (aw σ cell c j) := inferInstanceAs (Decidable (j ≠ c ∧ ¬ wt σ j = 0 ∧ ga σ 1 (142 + j) = cell ∧ ¬ ah σ j c = 0))
def ct (σ : gm_S) (cell : Int32) (c n : Nat) : Nat := @cn (aw σ cell c) (awD σ cell c) n
theorem ct_s (σ : gm_S) (cell : Int32) (c n : Nat) : ct σ cell c (n + 1) = ct σ cell c n + @ite Nat (aw σ cell c n) (awD σ cell c n) 1 0 := rfl
theorem ct_ne {cell : Int32} (hn : nC ≤ 12) {c c' : Nat} (hc : c < nC) (hc' : c' < nC) (hne : c ≠ c') (h1 : ¬ wt σ c = 0) (h2 : ga σ 1 (142 + c) = cell) (h1' : ¬ wt σ c' = 0) (h2' : ga σ 1 (142 + c') = cell) : ct σ cell c nC ≠ ct σ cell c' nC := by
  have key : ∀ a b, a < nC → b < nC → a ≠ b → ¬ wt σ a = 0 → ga σ 1 (142 + a) = cell → ¬ ah σ a b = 0 → ct σ cell a nC + 1 ≤ ct σ cell b nC := by
    intro a b ha hb hab w1 w2 hh
    refine @cn_lt _ _ (awD σ cell a) (awD σ cell b) nC (fun j hj hq => ?_) a ha (fun h => h.1 rfl) ⟨hab, w1, w2, hh⟩
    obtain ⟨q1, q2, q3, q4⟩ := hq
    rw [ah_iff σ (by omega) (by omega)] at q4 hh
    refine ⟨fun e => ?_, q2, q3, ?_⟩
    · subst e
      rcases q4 with q4 | q4 <;> rcases hh with hh | hh
      · exact Int32.lt_irrefl (Int32.lt_trans q4 hh)
      · rw [hh.1] at q4; exact Int32.lt_irrefl q4
      · rw [q4.1] at hh; exact Int32.lt_irrefl hh
      · omega
    · rw [ah_iff σ (by omega) (by omega)]
      rcases q4 with q4 | q4 <;> rcases hh with hh | hh
      · exact .inl (Int32.lt_trans hh q4)
      · exact .inl (by rw [← hh.1]; exact q4)
      · exact .inl (by rw [q4.1]; exact hh)
      · exact .inr ⟨q4.1.trans hh.1, by omega⟩
  by_cases h : ah σ c c' = 0
  · have : ¬ ah σ c' c = 0 := by
      rw [ah_iff σ (by omega) (by omega)]
      have hn' : ¬ (ga σ 1 (130 + c') < ga σ 1 (130 + c) ∨ (ga σ 1 (130 + c) = ga σ 1 (130 + c') ∧ c < c')) := fun e => ((ah_iff σ (by omega) (by omega)).mpr e) h
      by_cases e : ga σ 1 (130 + c') = ga σ 1 (130 + c)
      · refine .inr ⟨e, ?_⟩
        have : ¬ c < c' := fun l => hn' (.inr ⟨e.symm, l⟩)
        omega
      · left
        refine Int32.lt_of_le_of_ne (Int32.not_lt.mp (fun l => hn' (.inl l))) (fun e' => e e'.symm)
    have := key c' c hc' hc (Ne.symm hne) h1' h2' this
    omega
  · have := key c c' hc hc' hne h1 h2 h
    omega
theorem row_x (N : Nat) (h : cR bx sh cr hb nS nC nH C σ) {cell idx : Int32} {c : Nat} (hc : c < nC) (K : Int32 → Int32 → Int32 → Int32 → Option Int32) (many : Int32) : ∀ d k i, i + d = nC → d < k → fX0_row_L74 N bx C K k cell idx many (nI c) (some (cr c)) (nI (ct σ cell c i)) (nI i) = if nI (ct σ cell c nC) = idx then some (nI c) else K cell idx many (nI (c + 1)) := by
  have hn := h.n12
  intro d
  induction d with
  | zero =>
    intro k i hid hk
    obtain ⟨k, rfl⟩ : ∃ k', k = k' + 1 := ⟨k - 1, by omega⟩
    have : i = nC := by omega
    subst this
    unfold fX0_row_L74 fX0_row_B175
    simp only [xr3 h, xi3 h, xs3 h, xr0 h, xi0 h, xs0 h, ev_b, lp_end, if_true, s_a1]
  | succ d ih =>
    intro k i hid hk
    obtain ⟨k, rfl⟩ : ∃ k', k = k' + 1 := ⟨k - 1, by omega⟩
    have hi : i < nC := by omega
    rw [← ih k (i + 1) (by omega) (by omega)]
    conv => lhs; unfold fX0_row_L74
    unfold fX0_row_B156 fX0_row_B157
    have en : (nI i = nI c) = (i = c) := propext (s_eq _ _ (by omega) (by omega))
    simp only [xr3 h, xi3 h, xs3 h, xr0 h, xi0 h, xs0 h, xg3 h hi, xc6 h hi, xq6 h hi, wt_x h hi, x46 h hi, ah_x h hi hc, ev_b, lp_go hi (by omega : nC ≤ 1000), if_false, s_a1, en, ct_s]
    by_cases e : i = c
    · rw [if_pos e, @if_neg _ (awD σ cell c i) (fun h => h.1 e)]; simp only [Int32.add_zero, Nat.add_zero]
    rw [if_neg e]
    by_cases e1 : wt σ i = 0
    · rw [if_pos e1, @if_neg _ (awD σ cell c i) (fun h => h.2.1 e1)]; simp only [Int32.add_zero, Nat.add_zero]
    rw [if_neg e1]
    by_cases e2 : ga σ 1 (142 + i) = cell
    · rw [if_pos e2]
      by_cases e3 : ah σ i c = 0
      · rw [if_pos e3, @if_neg _ (awD σ cell c i) (fun h => h.2.2.2 e3)]; simp only [Int32.add_zero, Nat.add_zero]
      · rw [if_neg e3, @if_pos _ (awD σ cell c i) ⟨e, e1, e2, e3⟩]; try rw [← s_add]
    · rw [if_neg e2, @if_neg _ (awD σ cell c i) (fun h => e2 h.2.2.1)]; simp only [Int32.add_zero, Nat.add_zero]
theorem row_m (N : Nat) (h : cR bx sh cr hb nS nC nH C σ) {cell idx : Int32} {c : Nat} (hc : c < nC) (K : Int32 → Int32 → Int32 → Int32 → Int32 → Option Int32) (many f : Int32) : ∀ d k i, i + d = nC → d < k → fX3_row_L63 N σ K k cell idx many f (nI c) (nI (ct σ cell c i)) (nI i) = if nI (ct σ cell c nC) = idx then K cell idx (many + 1) (nI c) (nI (c + 1)) else K cell idx (many + 1) f (nI (c + 1)) := by
  have hn := h.n12
  intro d
  induction d with
  | zero =>
    intro k i hid hk
    obtain ⟨k, rfl⟩ : ∃ k', k = k' + 1 := ⟨k - 1, by omega⟩
    have : i = nC := by omega
    subst this
    unfold fX3_row_L63 fX3_row_B145 fX3_row_B150
    simp only [ev_r1, h.v1, ev_b, lp_end, if_true, s_a1]
  | succ d ih =>
    intro k i hid hk
    obtain ⟨k, rfl⟩ : ∃ k', k = k' + 1 := ⟨k - 1, by omega⟩
    have hi : i < nC := by omega
    rw [← ih k (i + 1) (by omega) (by omega)]
    conv => lhs; unfold fX3_row_L63
    unfold fX3_row_B122 fX3_row_B123
    have en : (nI i = nI c) = (i = c) := propext (s_eq _ _ (by omega) (by omega))
    simp only [ev_r1, h.v1, ev_b, lp_go hi (by omega : nC ≤ 1000), if_false, s_a1, en, ct_s, wt_m σ (by omega : i < 12), m_rd1 σ _ i (by omega : 142 + i < 240), ah_m σ (by omega : i < 12) (by omega : c < 12)]
    by_cases e : i = c
    · rw [if_pos e, @if_neg _ (awD σ cell c i) (fun h => h.1 e)]; simp only [Int32.add_zero, Nat.add_zero]
    rw [if_neg e]
    by_cases e1 : wt σ i = 0
    · rw [if_pos e1, @if_neg _ (awD σ cell c i) (fun h => h.2.1 e1)]; simp only [Int32.add_zero, Nat.add_zero]
    rw [if_neg e1]
    by_cases e2 : ga σ 1 (142 + i) = cell
    · rw [if_pos e2]
      by_cases e3 : ah σ i c = 0
      · rw [if_pos e3, @if_neg _ (awD σ cell c i) (fun h => h.2.2.2 e3)]; simp only [Int32.add_zero, Nat.add_zero]
      · rw [if_neg e3, @if_pos _ (awD σ cell c i) ⟨e, e1, e2, e3⟩]; try rw [← s_add]
    · rw [if_neg e2, @if_neg _ (awD σ cell c i) (fun h => e2 h.2.2.1)]; simp only [Int32.add_zero, Nat.add_zero]
/-- nobody else is found -/
theorem row_tail {N : Nat} (hN : 100 ≤ N) (h : cR bx sh cr hb nS nC nH C σ) {cell idx : Int32} (hidx : idx ≠ -1) (f : Int32) : ∀ d k i (many : Int32), i + d = nC → d < k → (∀ c, i ≤ c → c < nC → ¬ wt σ c = 0 → ga σ 1 (142 + c) = cell → nI (ct σ cell c nC) ≠ idx) → fX3_row_L22 N σ k cell idx many f (nI i) = some f := by
  have hn := h.n12
  intro d
  induction d with
  | zero =>
    intro k i many hid hk hq
    obtain ⟨k, rfl⟩ : ∃ k', k = k' + 1 := ⟨k - 1, by omega⟩
    have : i = nC := by omega
    subst this
    unfold fX3_row_L22
    simp only [ev_r1, h.v1, ev_b, lp_end, if_true, hidx, if_false]
  | succ d ih =>
    intro k i many hid hk hq
    obtain ⟨k, rfl⟩ : ∃ k', k = k' + 1 := ⟨k - 1, by omega⟩
    have hi : i < nC := by omega
    have IH := fun many => ih k (i + 1) many (by omega) (by omega) (fun c hc => hq c (by omega))
    unfold fX3_row_L22 fX3_row_B150
    simp only [ev_r1, h.v1, ev_b, lp_go hi (by omega : nC ≤ 1000), if_false, s_a1, wt_m σ (by omega : i < 12), m_rd1 σ _ i (by omega : 142 + i < 240)]
    by_cases e1 : wt σ i = 0
    · rw [if_pos e1]; exact IH many
    rw [if_neg e1]
    by_cases e2 : ga σ 1 (142 + i) = cell
    · rw [if_pos e2]
      have := row_m N h (cell := cell) (idx := idx) hi (fX3_row_L22 N σ k) many f nC N 0 (by omega) (by omega)
      have e0 : nI (ct σ cell i 0) = 0 := rfl
      rw [e0] at this
      rw [show (nI 0 : Int32) = 0 from rfl] at this
      rw [this, if_neg (hq i (by omega) hi e1 e2)]
      exact IH _
    · rw [if_neg e2]; exact IH many
theorem row_l {N : Nat} (hN : 100 ≤ N) (h : cR bx sh cr hb nS nC nH C σ) (cell idx : Int32) : ∀ d k i (many : Int32), i + d = nC → d < k → ∃ r, fX0_row_L19 N bx C k cell idx many (nI i) = some r ∧ fX3_row_L22 N σ k cell idx many (-1) (nI i) = some r := by
  have hn := h.n12
  intro d
  induction d with
  | zero =>
    intro k i many hid hk
    obtain ⟨k, rfl⟩ : ∃ k', k = k' + 1 := ⟨k - 1, by omega⟩
    have : i = nC := by omega
    subst this
    unfold fX0_row_L19 fX3_row_L22
    simp only [xr3 h, xi3 h, xs3 h, xr0 h, xi0 h, xs0 h, ev_r1, h.v1, ev_b, lp_end, if_true]
    by_cases e : idx = -1
    · simp only [if_pos e]; exact ⟨_, rfl, rfl⟩
    · simp only [if_neg e]; exact ⟨_, rfl, rfl⟩
  | succ d ih =>
    intro k i many hid hk
    obtain ⟨k, rfl⟩ : ∃ k', k = k' + 1 := ⟨k - 1, by omega⟩
    have hi : i < nC := by omega
    have IH := fun many => ih k (i + 1) many (by omega) (by omega)
    unfold fX0_row_L19 fX3_row_L22 fX0_row_B175 fX3_row_B150
    simp only [xr3 h, xi3 h, xs3 h, xr0 h, xi0 h, xs0 h, xg3 h hi, xc6 h hi, xq6 h hi, wt_x h hi, x46 h hi, ev_r1, h.v1, ev_b, lp_go hi (by omega : nC ≤ 1000), if_false, s_a1, wt_m σ (by omega : i < 12), m_rd1 σ _ i (by omega : 142 + i < 240)]
    by_cases e1 : wt σ i = 0
    · rw [if_pos e1, if_pos e1]; exact IH many
    rw [if_neg e1, if_neg e1]
    by_cases e2 : ga σ 1 (142 + i) = cell
    · rw [if_pos e2, if_pos e2]
      have g1 := row_m N h (cell := cell) (idx := idx) hi (fX3_row_L22 N σ k) many (-1) nC N 0 (by omega) (by omega)
      have g2 := row_x N h (cell := cell) (idx := idx) hi (fX0_row_L19 N bx C k) (many + 1) nC N 0 (by omega) (by omega)
      have e0 : nI (ct σ cell i 0) = 0 := rfl
      rw [e0, show (nI 0 : Int32) = 0 from rfl] at g1 g2
      rw [g1, g2]
      by_cases e3 : nI (ct σ cell i nC) = idx
      · rw [if_pos e3, if_pos e3]
        have hcl : ∀ c, ct σ cell c nC ≤ 12 := fun c => Nat.le_trans (@cn_le (aw σ cell c) (awD σ cell c) nC) hn
        refine ⟨_, rfl, row_tail hN h (by rw [← e3]; exact s_m1 _ (by have := hcl i; omega)) (nI i) d k (i + 1) _ (by omega) (by omega) (fun c hc hc' w1 w2 e => ?_)⟩
        rw [← e3, s_eq _ _ (by have := hcl c; omega) (by have := hcl i; omega)] at e
        exact ct_ne hn hc' hi (by omega) w1 w2 e1 e2 e
      · rw [if_neg e3, if_neg e3]; exact IH _
    · rw [if_neg e2, if_neg e2]; exact IH many
theorem op_row {N : Nat} (hN : 100 ≤ N) (h : cR bx sh cr hb nS nC nH C σ) (a1 a2 : Int32) : ∃ r, fX0_row N bx C a1 a2 = some r ∧ fX3_row N σ a1 a2 = some r := by
  unfold fX0_row fX3_row
  rw [cell_eq]
  rcases cell_ok a1 with e | e
  · rw [e]; exact ⟨_, rfl, rfl⟩
  · rw [e]
    simp only [ev_b, ev_10, if_false]
    by_cases c : -1 ≤ a2
    · rw [if_pos c, if_pos c]
      exact row_l hN h a1 a2 nC N 0 0 (by omega) (by have := h.n12; omega)
    · rw [if_neg c, if_neg c]; exact ⟨_, rfl, rfl⟩
end
end
section
/-! STAGE 2: habits: trees of tests against steps -/
theorem s_div (a b : Nat) (ha : a < 2147483648) (hb : b < 2147483648) (hb0 : 0 < b) : nI a / nI b = nI (a / b) := by
  apply Int32.toInt_inj.mp
  have hd : a / b ≤ a := Nat.div_le_self a b
  rw [Int32.toInt_div, s_ti a ha, s_ti b hb, s_ti _ (by omega), ← Int.ofNat_tdiv, Int.bmod_def]
  generalize a / b = q at *
  split <;> omega
theorem s_dv (a b : Nat) (ha : a < 2147483648) (hb : b < 2147483648) (hb0 : 0 < b) : gx_dv (nI a) (nI b) = some (nI (a / b)) := by
  unfold gx_dv; rw [if_neg (fun e => by rw [s_n0, s_eq _ _ (by omega) (by omega)] at e; omega), s_div a b ha hb hb0]
theorem s_rm (a b : Nat) (ha : a < 2147483648) (hb : b < 2147483648) (hb0 : 0 < b) : gx_rm (nI a) (nI b) = some (nI (a % b)) := by
  unfold gx_rm
  rw [if_neg (fun e => by rw [s_n0, s_eq _ _ (by omega) (by omega)] at e; omega), s_div a b ha hb hb0, s_mul, s_sub _ _ (Nat.div_mul_le_self a b)]
  congr 2
  have := Nat.div_add_mod a b
  rw [Nat.mul_comm] at this
  omega
theorem s_eqd (a b : Nat) (ha : a < 2147483648) (hb : b < 2147483648) : (nI a = nI b) = (a = b) := propext (s_eq a b ha hb)
/-- the letters -/
def lc (w : Nat) : Nat := if w = 0 then 102 else if w = 1 then 103 else if w = 2 then 115 else if w = 3 then 111 else 110
def tr2 (C : xk_C) : Nat → Nat → List Int32 → List (Nat × Nat) → Prop
  | 0, _, _, _ => False
  | d + 1, a, cd, ls =>
    (∃ w h v, xk_k C a = 17 ∧ a < xk_n C ∧ w < 5 ∧ h < 3 ∧ v < 1000 ∧ xk_i C 78 a = nI (lc w) ∧ xk_i C 79 a = nI (60 + h) ∧ cd = [nI (w + 8 * h + 32 * v)] ∧ ls = [(a, v)]) ∨
    (∃ b cd', xk_k C a = 16 ∧ a < xk_n C ∧ xk_r C 77 a = some b ∧ tr2 C d b cd' ls ∧ cd = cd' ++ [-1]) ∨
    (∃ b c cd1 cd2 ls1 ls2, ∃ both : Bool, xk_k C a = 18 ∧ a < xk_n C ∧ xk_r C 81 a = some b ∧ xk_r C 82 a = some c ∧ xk_i C 83 a = (if both = true then 1 else 0) ∧ tr2 C d b cd1 ls1 ∧ tr2 C d c cd2 ls2 ∧ cd = cd1 ++ cd2 ++ [if both = true then -2 else -3] ∧ ls = ls1 ++ ls2)
theorem tr2.fr {fi fr : List Nat} {E : Nat → Nat → Bool} {C C' : xk_C} (F : Fr fi fr E C C') (h78 : 78 ∉ fi) (h79 : 79 ∉ fi) (h83 : 83 ∉ fi) (h77 : 77 ∉ fr) (h81 : 81 ∉ fr) (h82 : 82 ∉ fr) : ∀ d a cd ls, tr2 C d a cd ls → tr2 C' d a cd ls := by
  intro d
  induction d with
  | zero => intro a cd ls h; exact h
  | succ d ih =>
    intro a cd ls h
    rcases h with ⟨w, hh, v, k, n, h1, h2, h3, h4, h5, h6, h7⟩ | ⟨b, cd', k, n, h1, h2, h3⟩ | ⟨b, c, cd1, cd2, ls1, ls2, both, k, n, h1, h2, h3, h4, h5, h6, h7⟩
    · exact .inl ⟨w, hh, v, (F.k n).trans k, F.lt n, h1, h2, h3, (F.i n h78).trans h4, (F.i n h79).trans h5, h6, h7⟩
    · exact .inr (.inl ⟨b, cd', (F.k n).trans k, F.lt n, (F.r n h77).trans h1, ih _ _ _ h2, h3⟩)
    · exact .inr (.inr ⟨b, c, cd1, cd2, ls1, ls2, both, (F.k n).trans k, F.lt n, (F.r n h81).trans h1, (F.r n h82).trans h2, (F.i n h83).trans h3, ih _ _ _ h4, ih _ _ _ h5, h6, h7⟩)
theorem tr2.mono {C : xk_C} : ∀ d d' a cd ls, d ≤ d' → tr2 C d a cd ls → tr2 C d' a cd ls := by
  intro d
  induction d with
  | zero => intro d' a cd ls _ h; exact h.elim
  | succ d ih =>
    intro d' a cd ls hd h
    obtain ⟨d', rfl⟩ : ∃ j, d' = j + 1 := ⟨d' - 1, by omega⟩
    rcases h with h | ⟨b, cd', k, n, h1, h2, h3⟩ | ⟨b, c, cd1, cd2, ls1, ls2, both, k, n, h1, h2, h3, h4, h5, h6⟩
    · exact .inl h
    · exact .inr (.inl ⟨b, cd', k, n, h1, ih d' _ _ _ (by omega) h2, h3⟩)
    · exact .inr (.inr ⟨b, c, cd1, cd2, ls1, ls2, both, k, n, h1, h2, h3, ih d' _ _ _ (by omega) h4, ih d' _ _ _ (by omega) h5, h6⟩)
theorem tr2.pos {C : xk_C} : ∀ d a cd ls, tr2 C d a cd ls → 1 ≤ ls.length := by
  intro d
  induction d with
  | zero => intro a cd ls h; exact h.elim
  | succ d ih =>
    intro a cd ls h
    rcases h with ⟨w, hh, v, k, n, h1, h2, h3, h4, h5, h6, h7⟩ | ⟨b, cd', k, n, h1, h2, h3⟩ | ⟨b, c, cd1, cd2, ls1, ls2, both, k, n, h1, h2, h3, h4, h5, h6, h7⟩
    · rw [h7]; simp
    · exact ih _ _ _ h2
    · have := ih _ _ _ h4; rw [h7, List.length_append]; omega
theorem tr2.kd {C : xk_C} {d a : Nat} {cd : List Int32} {ls : List (Nat × Nat)} (h : tr2 C d a cd ls) : (xk_k C a = 16 ∨ xk_k C a = 17 ∨ xk_k C a = 18) ∧ a < xk_n C := by
  cases d with
  | zero => exact h.elim
  | succ d =>
    rcases h with ⟨w, hh, v, k, n, -⟩ | ⟨b, cd', k, n, -⟩ | ⟨b, c, cd1, cd2, ls1, ls2, both, k, n, -⟩
    · exact ⟨.inr (.inl k), n⟩
    · exact ⟨.inl k, n⟩
    · exact ⟨.inr (.inr k), n⟩
theorem io_t {C : xk_C} {a : Nat} (h : xk_k C a = 16 ∨ xk_k C a = 17 ∨ xk_k C a = 18) : xk_io C (some a) = some a := by
  show (if xk_k C a ≠ 0 ∧ xk_k C a < 22 ∧ xk_k C a ≠ 4 then some a else none) = some a
  rw [if_pos]; rcases h with h | h | h <;> rw [h] <;> decide
theorem ct_t {C : xk_C} {a : Nat} (h : xk_k C a = 16 ∨ xk_k C a = 17 ∨ xk_k C a = 18) : xk_ct C (some a) = some () := by
  show (if xk_k C a = 16 ∨ xk_k C a = 17 ∨ xk_k C a = 18 then some () else none) = some ()
  rw [if_pos h]
/-- by how much a test's number is changed now -/
def dl (σ : gm_S) (h q : Nat) : Int32 := if nI h = gs σ 22 then (if nI q = gs σ 20 then gs σ 21 else 0) else 0
/-- code in its place -/
def cdAt (σ : gm_S) (pos : Nat) (cd : List Int32) : Prop := ∀ j (hj : j < cd.length), ga σ 17 (pos + j) = cd[j]
theorem cdAt.app {σ : gm_S} {pos : Nat} {a b : List Int32} (h : cdAt σ pos (a ++ b)) : cdAt σ pos a ∧ cdAt σ (pos + a.length) b := by
  refine ⟨fun j hj => ?_, fun j hj => ?_⟩
  · rw [h j (by rw [List.length_append]; omega), List.getElem_append_left hj]
  · have := h (a.length + j) (by rw [List.length_append]; omega)
    rw [Nat.add_assoc, this, List.getElem_append_right (by omega)]
    congr 1; omega
theorem cdAt.one {σ : gm_S} {pos : Nat} {v : Int32} (h : cdAt σ pos [v]) : ga σ 17 pos = v := h 0 (by simp)
theorem cdAt.same {σ σ' : gm_S} {pos : Nat} {cd : List Int32} (h : cdAt σ pos cd) (e : ∀ j, ga σ' 17 j = ga σ 17 j) : cdAt σ' pos cd := fun j hj => by rw [e, h j hj]
/-- what a case stands for -/
def csAt (C : xk_C) (cs : Nat) (σ : gm_S) : Prop := xk_k C cs = 2 ∧ ∀ w, w < 5 → ga σ 16 w = xk_i C (27 + w) cs
theorem gm_wz_ok (σ : gm_S) {k j : Nat} {v : Int32} (hv : v = 0 ∨ v = 1) (hj : j < gm_len k) (hl : j < 2147483648) : gm_wz σ k (nI j) v = some (gm_sta σ k j v) := by
  unfold gm_wz; rw [if_pos hv, m_wr σ v hj hl]
theorem fact_x {C : xk_C} {cs w : Nat} (kc : xk_k C cs = 2) (hw : w < 5) : fX1_fact cs C (nI (lc w)) = some (xk_i C (27 + w) cs) := by
  unfold fX1_fact
  simp only [ev_gi, ev_gr, ev_pi, ev_pr, ev_pz0, ev_pz1, ev_is, ev_ck, ev_ckn, ev_b, ev_10, if_true, if_false, false_and, and_false, true_and, and_true, reduceCtorEq, k_si, k_sr, k_se, k_sq, kc, h_2_27, h_2_28, h_2_29, h_2_30, h_2_31]
  have cs : w = 0 ∨ w = 1 ∨ w = 2 ∨ w = 3 ∨ w = 4 := by omega
  rcases cs with rfl | rfl | rfl | rfl | rfl <;> simp (disch := omega) only [lc, s_eqd, Nat.reduceEqDiff, if_true, if_false, Nat.reduceAdd, Nat.zero_add]
theorem isSo_a {σ : gm_S} {s v3 v4 v5 dd : Int32} {w : Nat} (f1 : gx_rm s (nI 8) = some (nI w)) (hw : w < 5) (f2 : gx_dv s (nI 32) = some v3) (f3 : gx_dv s (nI 8) = some v4) (f4 : gx_rm v4 4 = some v5) : fX3_isSo σ s dd = if v5 = 0 then (if v3 + dd ≤ ga σ 16 w then some 0 else some 1) else if v5 = 1 then (if ga σ 16 w = v3 + dd then some 1 else some 0) else (if ga σ 16 w ≤ v3 + dd then some 0 else some 1) := by
  unfold fX3_isSo
  rw [f1, ev_b, m_rd σ (k := 16) (j := w) hw (by omega), ev_b, f2, ev_b, f3, ev_b, f4, ev_b]
theorem isSo_b (w h v : Nat) (hw : w < 5) (hh : h < 3) (hv : v < 1000) : gx_rm (nI (w + 8 * h + 32 * v)) (nI 8) = some (nI w) ∧ gx_dv (nI (w + 8 * h + 32 * v)) (nI 32) = some (nI v) ∧ gx_dv (nI (w + 8 * h + 32 * v)) (nI 8) = some (nI (h + 4 * v)) ∧ gx_rm (nI (h + 4 * v)) 4 = some (nI h) := by
  have e1 : (w + 8 * h + 32 * v) % 8 = w := by omega
  have e2 : (w + 8 * h + 32 * v) / 32 = v := by omega
  have e3 : (w + 8 * h + 32 * v) / 8 = h + 4 * v := by omega
  have e4 : (h + 4 * v) % 4 = h := by omega
  refine ⟨?_, ?_, ?_, ?_⟩
  · rw [s_rm _ 8 (by omega) (by omega) (by omega), e1]
  · rw [s_dv _ 32 (by omega) (by omega) (by omega), e2]
  · rw [s_dv _ 8 (by omega) (by omega) (by omega), e3]
  · rw [show (4 : Int32) = nI 4 from rfl, s_rm _ 4 (by omega) (by omega) (by omega), e4]
/-- one test, both sides -/
theorem leaf_l {C : xk_C} {σ : gm_S} {cs a w h v : Nat} (hc : csAt C cs σ) (k : xk_k C a = 17) (hw : w < 5) (hh : h < 3) (hv : v < 1000) (i78 : xk_i C 78 a = nI (lc w)) (i79 : xk_i C 79 a = nI (60 + h)) {dd : Int32} (i80 : xk_i C 80 a = nI v + dd) : ∃ x, (x = 0 ∨ x = 1) ∧ fX16_holds a C (some cs) = some x ∧ fX3_isSo σ (nI (w + 8 * h + 32 * v)) dd = some x := by
  obtain ⟨kc, hst⟩ := hc
  obtain ⟨f1, f2, f3, f4⟩ := isSo_b w h v hw hh hv
  rw [isSo_a f1 hw f2 f3 f4, hst w hw]
  have hf := fact_x kc hw
  unfold fX16_holds
  simp only [ev_gi, ev_gr, ev_pi, ev_pr, ev_pz0, ev_pz1, ev_is, ev_ck, ev_ckn, ev_b, ev_10, if_true, if_false, false_and, and_false, true_and, and_true, reduceCtorEq, k_si, k_sr, k_se, k_sq, k, h_16_77, h_17_78, h_17_79, h_17_80, h_18_81, h_18_82, h_18_83, i78, i79, i80, kc, hf]
  have cs : h = 0 ∨ h = 1 ∨ h = 2 := by omega
  rcases cs with rfl | rfl | rfl
  · simp only [show nI (60 + 0) = nI 60 from rfl, show nI 0 = (0 : Int32) from rfl, if_true]
    by_cases c : nI v + dd ≤ xk_i C (27 + w) cs
    · rw [if_pos c]; exact ⟨0, .inl rfl, rfl, rfl⟩
    · rw [if_neg c]; exact ⟨1, .inr rfl, rfl, rfl⟩
  · simp only [show nI (60 + 1) = nI 61 from rfl, show ¬ (nI 61 = nI 60) from by decide, show ¬ (nI 1 = (0 : Int32)) from by decide, show nI 1 = (1 : Int32) from rfl, if_true, if_false, ev_10]
    by_cases c : xk_i C (27 + w) cs = nI v + dd
    · rw [if_pos c]; exact ⟨1, .inr rfl, rfl, rfl⟩
    · rw [if_neg c]; exact ⟨0, .inl rfl, rfl, rfl⟩
  · simp only [show nI (60 + 2) = nI 62 from rfl, show ¬ (nI 62 = nI 60) from by decide, show ¬ (nI 62 = nI 61) from by decide, show ¬ (nI 2 = (0 : Int32)) from by decide, show ¬ (nI 2 = (1 : Int32)) from by decide, if_false]
    by_cases c : xk_i C (27 + w) cs ≤ nI v + dd
    · rw [if_pos c]; exact ⟨0, .inl rfl, rfl, rfl⟩
    · rw [if_neg c]; exact ⟨1, .inr rfl, rfl, rfl⟩
end
section
/-! STAGE 2: a habit's steps run -/
theorem Mf.dl {as : List Nat} {σ σ' : gm_S} (M : Mf [] as σ σ') (h q : Nat) : dl σ' h q = dl σ h q := by
  unfold Jvm.Pilot.CShellBeachLaw_law_r8847_fc0b71.dl
  rw [M.1 22 (by simp), M.1 20 (by simp), M.1 21 (by simp)]
theorem csAt.same {C : xk_C} {cs : Nat} {σ σ' : gm_S} (h : csAt C cs σ) (e : ∀ j, ga σ' 16 j = ga σ 16 j) : csAt C cs σ' := ⟨h.1, fun w hw => by rw [e, h.2 w hw]⟩
/-- the loop's head -/
theorem goes_hd {σ : gm_S} {h M pos : Nat} (hh : h < 8) (hM : ga σ 18 h = nI M) (hM9 : M ≤ 139) (hp : pos < 140 * h + M) : gm_rd σ 18 (nI h) = some (nI M) ∧ ¬ (nI 140 * nI h + nI M ≤ nI pos) ∧ gm_rd σ 17 (nI pos) = some (ga σ 17 pos) := by
  refine ⟨?_, ?_, ?_⟩
  · rw [m_rd σ (k := 18) (j := h) hh (by omega), hM]
  · rw [s_mul, s_add, s_le _ _ (by omega) (by omega)]; omega
  · exact m_rd σ (k := 17) (j := pos) (show pos < 1120 by omega) (by omega)
theorem goes_leaf {N : Nat} {σ : gm_S} {h M pos t n k s : Nat} {wq x : Int32} (hh : h < 8) (hM : ga σ 18 h = nI M) (hM9 : M ≤ 139) (hp : pos < 140 * h + M) (hs : ga σ 17 pos = nI s) (hs9 : s < 100000) (ht : t < 64) (hx : x = 0 ∨ x = 1) (hso : fX3_isSo σ (nI s) (dl σ h n) = some x) : fX3_goes_L12 N (k + 1) σ (nI h) wq (nI t) (nI n) (nI pos) = fX3_goes_L12 N k (gm_sta σ 19 t x) (nI h) wq (nI (t + 1)) (nI (n + 1)) (nI (pos + 1)) := by
  obtain ⟨e1, e2, e3⟩ := goes_hd hh hM hM9 hp
  conv => lhs; unfold fX3_goes_L12
  unfold fX3_goes_B75 fX3_goes_B76 fX3_goes_B225
  rw [e1, ev_b, if_neg e2, e3, ev_b, hs, if_neg (s_nn s (by omega))]
  unfold dl at hso
  by_cases c1 : nI h = gs σ 22
  · rw [if_pos c1]
    rw [if_pos c1] at hso
    by_cases c2 : nI n = gs σ 20
    · rw [if_pos c2]
      rw [if_pos c2] at hso
      rw [hso, ev_b, gm_wz_ok σ hx (k := 19) (j := t) ht (by omega), ev_b, s_a1, s_a1, s_a1]
    · rw [if_neg c2]
      rw [if_neg c2] at hso
      rw [hso, ev_b, gm_wz_ok σ hx (k := 19) (j := t) ht (by omega), ev_b, s_a1, s_a1, s_a1]
  · rw [if_neg c1]
    rw [if_neg c1] at hso
    rw [hso, ev_b, gm_wz_ok σ hx (k := 19) (j := t) ht (by omega), ev_b, s_a1, s_a1, s_a1]
theorem goes_no {N : Nat} {σ : gm_S} {h M pos t n k : Nat} {wq x : Int32} (hh : h < 8) (hM : ga σ 18 h = nI M) (hM9 : M ≤ 139) (hp : pos < 140 * h + M) (hs : ga σ 17 pos = -1) (ht : t < 64) (hx : ga σ 19 t = x) : fX3_goes_L12 N (k + 1) σ (nI h) wq (nI (t + 1)) (nI n) (nI pos) = fX3_goes_L12 N k (gm_sta σ 19 t (if x = 0 then 1 else 0)) (nI h) wq (nI (t + 1)) (nI n) (nI (pos + 1)) := by
  obtain ⟨e1, e2, e3⟩ := goes_hd hh hM hM9 hp
  conv => lhs; unfold fX3_goes_L12
  unfold fX3_goes_B118 fX3_goes_B225
  have t2 : nI (t + 1) - 1 = nI t := by rw [s_s1 _ (by omega)]; rfl
  have w0 := gm_wz_ok σ (.inl rfl : (0 : Int32) = 0 ∨ (0 : Int32) = 1) (k := 19) (j := t) ht (by omega)
  have w1 := gm_wz_ok σ (.inr rfl : (1 : Int32) = 0 ∨ (1 : Int32) = 1) (k := 19) (j := t) ht (by omega)
  have l1 : (-1 : Int32) < 0 := by decide
  simp only [e1, ev_b, e2, if_false, e3, hs, l1, if_true, t2, m_rd σ (k := 19) (j := t) ht (by omega), hx, w0, w1, s_a1]
  by_cases c : x = 0
  · simp only [if_pos c]
  · simp only [if_neg c]
theorem goes_two {N : Nat} {σ : gm_S} {h M pos t n k : Nat} {wq x y : Int32} (both : Bool) (hh : h < 8) (hM : ga σ 18 h = nI M) (hM9 : M ≤ 139) (hp : pos < 140 * h + M) (hs : ga σ 17 pos = if both = true then -2 else -3) (ht : t + 1 < 64) (hx : ga σ 19 t = x) (hy : ga σ 19 (t + 1) = y) : fX3_goes_L12 N (k + 1) σ (nI h) wq (nI (t + 2)) (nI n) (nI pos) = fX3_goes_L12 N k (gm_sta σ 19 t (if both = true then (if x = 0 then 0 else if y = 0 then 0 else 1) else (if x = 0 then (if y = 0 then 0 else 1) else 1))) (nI h) wq (nI (t + 1)) (nI n) (nI (pos + 1)) := by
  obtain ⟨e1, e2, e3⟩ := goes_hd hh hM hM9 hp
  conv => lhs; unfold fX3_goes_L12
  unfold fX3_goes_B170 fX3_goes_B194 fX3_goes_B199 fX3_goes_B225
  have t1 : nI (t + 2) + -1 = nI (t + 1) := by
    have : nI (t + 2) + -1 = nI (t + 2) - 1 := (Int32.sub_eq_add_neg _ _).symm
    rw [this, s_s1 _ (by omega)]; rfl
  have t2 : nI (t + 1) - 1 = nI t := by rw [s_s1 _ (by omega)]; rfl
  have w0 := gm_wz_ok σ (.inl rfl : (0 : Int32) = 0 ∨ (0 : Int32) = 1) (k := 19) (j := t) (show t < 64 by omega) (by omega)
  have w1 := gm_wz_ok σ (.inr rfl : (1 : Int32) = 0 ∨ (1 : Int32) = 1) (k := 19) (j := t) (show t < 64 by omega) (by omega)
  rw [e1, ev_b, if_neg e2, e3, ev_b, hs, t1, t2, m_rd σ (k := 19) (j := t) (show t < 64 by omega) (by omega), m_rd σ (k := 19) (j := t + 1) (show t + 1 < 64 by omega) (by omega), hx, hy]
  simp only [ev_b, w0, w1, s_a1]
  cases both
  · simp only [Bool.false_eq_true, if_false]
    rw [if_pos (by decide), if_neg (by decide), if_neg (by decide), if_neg (by decide)]
    by_cases c : x = 0
    · simp only [if_pos c]
      by_cases c2 : y = 0
      · simp only [if_pos c2]
      · simp only [if_neg c2]
    · simp only [if_neg c]
  · simp only [if_true]
    rw [if_pos (by decide), if_neg (by decide), if_neg (by decide)]
    by_cases c : x = 0
    · simp only [if_pos c]
    · simp only [if_neg c]
      by_cases c2 : y = 0
      · simp only [if_pos c2]
      · simp only [if_neg c2]
theorem run_tr {N cs M h : Nat} {C : xk_C} {wq : Int32} (hM9 : M ≤ 139) (hh : h < 8) : ∀ d a cd ls, tr2 C d a cd ls → ∀ (σ : gm_S) (t n0 pos k : Nat), csAt C cs σ → ga σ 18 h = nI M → cdAt σ pos cd → pos + cd.length ≤ 140 * h + M → t + ls.length ≤ 64 → (∀ q (hq : q < ls.length), xk_i C 80 (ls[q].1) = nI (ls[q].2) + dl σ h (n0 + q)) →
    ∃ x σ', (x = 0 ∨ x = 1) ∧ (∀ D, d ≤ D → fV_Test_holds N D C a (some cs) = some x) ∧ fX3_goes_L12 N (k + cd.length) σ (nI h) wq (nI t) (nI n0) (nI pos) = fX3_goes_L12 N k σ' (nI h) wq (nI (t + 1)) (nI (n0 + ls.length)) (nI (pos + cd.length)) ∧ Mf [] [19] σ σ' ∧ ga σ' 19 t = x ∧ ∀ j, j < t → ga σ' 19 j = ga σ 19 j := by
  intro d
  induction d with
  | zero => intro a cd ls h; exact h.elim
  | succ d ih =>
    intro a cd ls htr σ t n0 pos k hcs hM hcd hpos ht hnum
    rcases htr with ⟨w, hw, v, ka, an, h1, h2, h3, h4, h5, rfl, rfl⟩ | ⟨b, cd', ka, an, h1, h2, rfl⟩ | ⟨b, c, cd1, cd2, ls1, ls2, both, ka, an, h1, h2, h3, h4, h5, rfl, rfl⟩
    · -- a test
      have e80 := hnum 0 (by simp)
      simp only [List.getElem_cons_zero, Nat.add_zero] at e80
      obtain ⟨x, hx, f1, f2⟩ := leaf_l hcs ka h1 h2 h3 h4 h5 e80
      refine ⟨x, gm_sta σ 19 t x, hx, fun D hD => ?_, ?_, Mf.sta Mf.refl _ _ _ (by decide), ?_, fun j hj => ?_⟩
      · obtain ⟨D, rfl⟩ : ∃ j, D = j + 1 := ⟨D - 1, by omega⟩
        unfold fV_Test_holds
        rw [ka, if_neg (by decide), if_pos rfl, f1]
      · simp only [List.length_cons, List.length_nil, Nat.zero_add] at hpos ht ⊢
        exact goes_leaf hh hM hM9 (by omega) hcd.one (by omega) (by omega) hx f2
      · rw [ga_sta, if_pos ⟨rfl, rfl⟩]
      · rw [ga_sta, if_neg (by omega)]
    · -- not
      obtain ⟨hc1, hc2⟩ := hcd.app
      rw [List.length_append, List.length_cons, List.length_nil] at hpos
      have hl : (cd' ++ [-1]).length = cd'.length + 1 := by simp
      have hpp := tr2.pos _ _ _ _ h2
      obtain ⟨x, σ1, hx, f1, f2, M1, g1, g2⟩ := ih b cd' ls h2 σ t n0 pos (k + 1) hcs hM hc1 (by omega) ht hnum
      refine ⟨if x = 0 then 1 else 0, gm_sta σ1 19 t (if x = 0 then 1 else 0), ?_, fun D hD => ?_, ?_, M1.sta _ _ _ (by decide), ?_, fun j hj => ?_⟩
      · split
        · exact .inr rfl
        · exact .inl rfl
      · obtain ⟨D, rfl⟩ : ∃ j, D = j + 1 := ⟨D - 1, by omega⟩
        unfold fV_Test_holds fX15_holds
        rw [ka, if_pos rfl, g_r ka rfl, h1, ev_b, io_t (tr2.kd h2).1, ev_b, f1 D (by omega), ev_b]
        split <;> rfl
      · have e0 : k + (cd' ++ [-1]).length = k + 1 + cd'.length := by omega
        have e1 : pos + (cd' ++ [-1]).length = pos + cd'.length + 1 := by omega
        rw [e0, e1, f2]
        exact goes_no hh ((M1.2 18 (by decide) h).trans hM) hM9 (by omega) ((M1.2 17 (by decide) _).trans hc2.one) (by omega) g1
      · rw [ga_sta, if_pos ⟨rfl, rfl⟩]
      · rw [ga_sta, if_neg (by omega), g2 j hj]
    · -- two
      obtain ⟨hc12, hc3⟩ := hcd.app
      obtain ⟨hc1, hc2⟩ := hc12.app
      have hl : (cd1 ++ cd2 ++ [if both = true then -2 else -3]).length = cd1.length + cd2.length + 1 := by simp only [List.length_append, List.length_cons, List.length_nil]
      have hl2 : (cd1 ++ cd2).length = cd1.length + cd2.length := by simp
      rw [hl] at hpos
      rw [hl2] at hc3
      have hll : (ls1 ++ ls2).length = ls1.length + ls2.length := by simp
      rw [hll] at ht
      have p1 := tr2.pos _ _ _ _ h4
      have p2 := tr2.pos _ _ _ _ h5
      obtain ⟨x, σ1, hx, f1, f2, M1, g1, g2⟩ := ih b cd1 ls1 h4 σ t n0 pos (k + 1 + cd2.length) hcs hM hc1 (by omega) (by omega) (fun q hq => by
        have := hnum q (by omega)
        rw [List.getElem_append_left hq] at this
        exact this)
      obtain ⟨y, σ2, hy, f1', f2', M2, g1', g2'⟩ := ih c cd2 ls2 h5 σ1 (t + 1) (n0 + ls1.length) (pos + cd1.length) (k + 1) (hcs.same (fun j => M1.2 16 (by decide) j)) ((M1.2 18 (by decide) h).trans hM) (hc2.same (fun j => M1.2 17 (by decide) j)) (by omega) (by omega) (fun q hq => by
        have := hnum (ls1.length + q) (by omega)
        rw [List.getElem_append_right (by omega)] at this
        simp only [Nat.add_sub_cancel_left] at this
        rw [M1.dl, Nat.add_assoc]
        exact this)
      have M12 := M1.trans M2
      refine ⟨if both = true then (if x = 0 then 0 else if y = 0 then 0 else 1) else (if x = 0 then (if y = 0 then 0 else 1) else 1), gm_sta σ2 19 t (if both = true then (if x = 0 then 0 else if y = 0 then 0 else 1) else (if x = 0 then (if y = 0 then 0 else 1) else 1)), ?_, fun D hD => ?_, ?_, M12.sta _ _ _ (by decide), ?_, fun j hj => ?_⟩
      · cases both <;> simp <;> rcases hx with rfl | rfl <;> rcases hy with rfl | rfl <;> simp
      · obtain ⟨D, rfl⟩ : ∃ j, D = j + 1 := ⟨D - 1, by omega⟩
        unfold fV_Test_holds fX17_holds fX17_holds_B67 fX17_holds_B37
        rw [ka, if_neg (by decide), if_neg (by decide), if_pos rfl, g_i ka rfl, h3, g_r ka rfl, h1, g_r ka rfl, h2]
        simp only [ev_b, io_t (tr2.kd h4).1, io_t (tr2.kd h5).1, f1 D (by omega), f1' D (by omega)]
        cases both
        · simp only [Bool.false_eq_true, if_false, if_true]
          by_cases c1 : x = 0
          · simp only [if_pos c1]; split <;> rfl
          · simp only [if_neg c1]
        · simp only [if_true, ev_10, if_false]
          by_cases c1 : x = 0
          · simp only [if_pos c1]
          · simp only [if_neg c1]; split <;> rfl
      · have e0 : k + (cd1 ++ cd2 ++ [if both = true then -2 else -3]).length = k + 1 + cd2.length + cd1.length := by omega
        have e1 : pos + (cd1 ++ cd2 ++ [if both = true then -2 else -3]).length = pos + cd1.length + cd2.length + 1 := by omega
        rw [e0, e1, f2, f2', hll]
        have := goes_two (N := N) (k := k) (wq := wq) (n := n0 + ls1.length + ls2.length) (x := x) (y := y) both hh ((M12.2 18 (by decide) h).trans hM) hM9 (pos := pos + cd1.length + cd2.length) (t := t) (by omega) (by rw [M12.2 17 (by decide)]; have := hc3.one; rw [← Nat.add_assoc] at this; exact this) (by omega) (by rw [g2' t (by omega)]; exact g1) g1'
        rw [Nat.add_assoc n0] at this ⊢
        exact this
      · rw [ga_sta, if_pos ⟨rfl, rfl⟩]
      · rw [ga_sta, if_neg (by omega), g2' j (by omega), g2 j hj]
end
section
/-! STAGE 2: habits -/
def hcl : Type := List (Nat × Nat × List Int32 × List (Nat × Nat))
/-- a habit's code, its tests -/
def cdl : List (Nat × Nat × List Int32 × List (Nat × Nat)) → List Int32
  | [] => []
  | c :: r => (c.2.2.1 ++ [-10 - nI c.1]) ++ cdl r
def lvl : List (Nat × Nat × List Int32 × List (Nat × Nat)) → List (Nat × Nat)
  | [] => []
  | c :: r => c.2.2.2 ++ lvl r
theorem cdl_app (a b : List (Nat × Nat × List Int32 × List (Nat × Nat))) : cdl (a ++ b) = cdl a ++ cdl b := by
  induction a with
  | nil => rfl
  | cons c r ih => show _ ++ cdl (r ++ b) = _ ++ cdl r ++ cdl b; rw [ih]; simp only [List.append_assoc]
theorem lvl_app (a b : List (Nat × Nat × List Int32 × List (Nat × Nat))) : lvl (a ++ b) = lvl a ++ lvl b := by
  induction a with
  | nil => rfl
  | cons c r ih => show _ ++ lvl (r ++ b) = _ ++ lvl r ++ lvl b; rw [ih]; simp only [List.append_assoc]
/-- a habit's own cells (no numbers of tests) -/
def pHx (bx : Nat) (C : xk_C) (a h : Nat) (cl : List (Nat × Nat × List Int32 × List (Nat × Nat))) : Prop :=
  (xk_k C a = 14 ∧ a < xk_n C ∧ xk_i C 65 a = nI h ∧ xk_r C 69 a = some bx) ∧
  (∃ T W F, (xk_r C 66 a = some T ∧ xk_r C 67 a = some W ∧ xk_r C 68 a = some F) ∧ (bx + 19 ≤ T ∧ bx + 19 ≤ W ∧ bx + 19 ≤ F ∧ W < xk_n C) ∧ pL C T cl.length (fun k => (cl.getD k (0, 0, [], [])).2.1) ∧ pL C F (lvl cl).length (fun q => ((lvl cl).getD q (0, 0)).1) ∧ (xk_k C W = 30 ∧ xk_l C W = 8 ∧ ∀ k, k < cl.length → xk_e C W k = nI (cl.getD k (0, 0, [], [])).1)) ∧
  (cl.length ≤ 8 ∧ (lvl cl).length ≤ 40 ∧ (cdl cl).length ≤ 139 ∧ ∀ c, c ∈ cl → c.1 < 4 ∧ tr2 C 125 c.2.1 c.2.2.1 c.2.2.2)
/-- its steps on the other side -/
def pHm (σ : gm_S) (h : Nat) (cl : List (Nat × Nat × List Int32 × List (Nat × Nat))) : Prop := ga σ 18 h = nI (cdl cl).length ∧ cdAt σ (140 * h) (cdl cl)
/-- the tests' numbers -/
def pHn (C : xk_C) (σ : gm_S) (h : Nat) (ls : List (Nat × Nat)) : Prop := ∀ q (hq : q < ls.length), xk_i C 80 (ls[q].1) = nI (ls[q].2) + dl σ h q
theorem sub_inj (k a b : Int32) : k - a = k - b ↔ a = b := by
  constructor
  · intro h
    have h1 : ∀ x : Int32, k - (k - x) = x := fun x => by
      simp only [Int32.sub_eq_add_neg, Int32.neg_add, Int32.neg_neg]
      have : k + (-k + x) = (k + -k) + x := by ac_rfl
      rw [this, Int32.add_right_neg, Int32.zero_add]
    have h2 := congrArg (fun y => k - y) h
    simp only [h1] at h2
    exact h2
  · intro h; rw [h]
theorem end_c : ∀ w, w < 4 → (-10 - nI w < 0) ∧ ¬ (-10 - nI w = -1) ∧ -10 - nI w ≤ -10 := by decide +kernel
theorem goes_end0 {N : Nat} {σ : gm_S} {h M pos k : Nat} {n wq x v t0 t1 : Int32} (hh : h < 8) (hM : ga σ 18 h = nI M) (hM9 : M ≤ 139) (hp : pos < 140 * h + M) (c1 : v < 0) (c2 : ¬ v = -1) (c3 : v ≤ -10) (hs : ga σ 17 pos = v) (hx : ga σ 19 0 = x) : fX3_goes_L12 N (k + 1) σ (nI h) wq t1 n (nI pos) = if v = -10 - wq then (if x = 0 then fX3_goes_L12 N k σ (nI h) wq 0 n (nI (pos + 1)) else some (σ, 1)) else fX3_goes_L12 N k σ (nI h) wq 0 n (nI (pos + 1)) := by
  obtain ⟨e1, e2, e3⟩ := goes_hd hh hM hM9 hp
  have r0 : gm_rd σ 19 0 = some x := by rw [← hx]; exact m_rd σ (k := 19) (j := 0) (show 0 < 64 by omega) (by omega)
  conv => lhs; unfold fX3_goes_L12
  unfold fX3_goes_B225
  rw [e1, ev_b, if_neg e2, e3, ev_b, hs, if_pos c1, if_neg c2, if_pos c3, r0, ev_b, s_a1]
theorem goes_end {N : Nat} {σ : gm_S} {h M pos n k w : Nat} {wq x : Int32} (hh : h < 8) (hM : ga σ 18 h = nI M) (hM9 : M ≤ 139) (hp : pos < 140 * h + M) (hw : w < 4) (hs : ga σ 17 pos = -10 - nI w) (hx : ga σ 19 0 = x) : fX3_goes_L12 N (k + 1) σ (nI h) wq (nI 1) (nI n) (nI pos) = if nI w = wq then (if x = 0 then fX3_goes_L12 N k σ (nI h) wq 0 (nI n) (nI (pos + 1)) else some (σ, 1)) else fX3_goes_L12 N k σ (nI h) wq 0 (nI n) (nI (pos + 1)) := by
  obtain ⟨c1, c2, c3⟩ := end_c w hw
  rw [goes_end0 (t0 := 0) hh hM hM9 hp c1 c2 c3 hs hx]
  by_cases e : nI w = wq
  · rw [if_pos ((sub_inj _ _ _).mpr e), if_pos e]
  · rw [if_neg (fun h => e ((sub_inj _ _ _).mp h)), if_neg e]
theorem clause_l {N cs h : Nat} {C : xk_C} {bx a : Nat} {wq : Int32} {cl : List (Nat × Nat × List Int32 × List (Nat × Nat))} (hh : h < 8) (hX : pHx bx C a h cl) : ∀ suf pre, cl = pre ++ suf → ∀ (σ : gm_S) kx km, csAt C cs σ → pHm σ h cl → pHn C σ h (lvl cl) → suf.length < kx → (cdl suf).length < km → ∃ x σ', (x = 0 ∨ x = 1) ∧ fX13_holds_L23 N a kx C wq (some cs) (nI pre.length) = some (C, x) ∧ fX3_goes_L12 N km σ (nI h) wq 0 (nI (lvl pre).length) (nI (140 * h + (cdl pre).length)) = some (σ', x) ∧ Mf [] [19] σ σ' := by
  obtain ⟨⟨ka, an, -, -⟩, ⟨T, W, F, ⟨r66, r67, r68⟩, ⟨-, -, -, hWn⟩, LT, LF, kW, lW, hW⟩, n8, n40, n139, htr⟩ := hX
  intro suf
  induction suf with
  | nil =>
    intro pre hpre σ kx km hcs hm hn hkx hkm
    rw [List.append_nil] at hpre
    subst hpre
    obtain ⟨kx, rfl⟩ : ∃ j, kx = j + 1 := ⟨kx - 1, by omega⟩
    obtain ⟨km, rfl⟩ : ∃ j, km = j + 1 := ⟨km - 1, by omega⟩
    refine ⟨0, σ, .inl rfl, ?_, ?_, Mf.refl⟩
    · unfold fX13_holds_L23
      rw [g_r ka rfl, r66, ev_b, g_is LT.1, ev_b, LT.size, ev_b, if_pos (lp_end _)]
    · unfold fX3_goes_L12
      rw [m_rd σ (k := 18) (j := h) hh (by omega), ev_b, hm.1, if_pos]
      rw [s_mul, s_add]; exact lp_end _
  | cons c suf ih =>
    intro pre hpre σ kx km hcs hm hn hkx hkm
    obtain ⟨kx, rfl⟩ : ∃ j, kx = j + 1 := ⟨kx - 1, by omega⟩
    have hcm : c ∈ cl := by rw [hpre]; simp
    have hpl : pre.length < cl.length := by rw [hpre]; simp
    have hgd : cl.getD pre.length (0, 0, [], []) = c := by rw [hpre]; simp
    obtain ⟨hw4, ht⟩ := htr c hcm
    have hcd : cdl cl = cdl pre ++ (c.2.2.1 ++ ([-10 - nI c.1] ++ cdl suf)) := by
      rw [hpre, cdl_app]; show cdl pre ++ ((c.2.2.1 ++ [-10 - nI c.1]) ++ cdl suf) = _; rw [List.append_assoc c.2.2.1]
    have hlv : lvl cl = lvl pre ++ (c.2.2.2 ++ lvl suf) := by rw [hpre, lvl_app]; rfl
    have hcl : (cdl cl).length = (cdl pre).length + (c.2.2.1.length + (1 + (cdl suf).length)) := by rw [hcd]; simp; omega
    have hll : (lvl cl).length = (lvl pre).length + (c.2.2.2.length + (lvl suf).length) := by rw [hlv]; simp
    have hcs1 : (cdl (c :: suf)).length = c.2.2.1.length + 1 + (cdl suf).length := by show ((c.2.2.1 ++ [-10 - nI c.1]) ++ cdl suf).length = _; simp; omega
    rw [hcs1] at hkm
    obtain ⟨hm1, hm2⟩ := hm
    rw [hcd] at hm2
    obtain ⟨-, q1⟩ := hm2.app
    obtain ⟨q2, q3⟩ := q1.app
    obtain ⟨q4, -⟩ := q3.app
    obtain ⟨km, rfl⟩ : ∃ j, km = (j + 1) + c.2.2.1.length := ⟨km - 1 - c.2.2.1.length, by omega⟩
    obtain ⟨x, σ1, hx, f1, f2, M1, g1, -⟩ := run_tr (N := N) (cs := cs) (M := (cdl cl).length) (h := h) (wq := wq) n139 hh 125 _ _ _ ht σ 0 (lvl pre).length (140 * h + (cdl pre).length) (km + 1) hcs hm1 q2 (by omega) (by omega) (fun q hq => by
      have := hn ((lvl pre).length + q) (by omega)
      simp only [hlv] at this
      rw [List.getElem_append_right (by omega)] at this
      simp only [Nat.add_sub_cancel_left] at this
      rw [List.getElem_append_left hq] at this
      exact this)
    rw [show (nI 0 : Int32) = 0 from rfl] at f2
    rw [f2]
    have hend := goes_end (N := N) (k := km) (wq := wq) (n := (lvl pre).length + c.2.2.2.length) (pos := 140 * h + (cdl pre).length + c.2.2.1.length) hh ((M1.2 18 (by decide) h).trans hm1) n139 (by omega) hw4 ((M1.2 17 (by decide) _).trans q4.one) g1
    rw [hend]
    have hpre2 : cl = (pre ++ [c]) ++ suf := by rw [hpre]; simp
    have hm' : pHm σ1 h cl := ⟨(M1.2 18 (by decide) h).trans hm1, by rw [hcd]; exact hm2.same (fun j => M1.2 17 (by decide) j)⟩
    obtain ⟨y, σ2, hy, i1, i2, M2⟩ := ih (pre ++ [c]) hpre2 σ1 kx km (hcs.same (fun j => M1.2 16 (by decide) j)) hm' (fun q hq => by rw [M1.dl]; exact hn q hq) (by simp at hkx; omega) (by omega)
    have e1 : (pre ++ [c]).length = pre.length + 1 := by simp
    have e2 : (lvl (pre ++ [c])).length = (lvl pre).length + c.2.2.2.length := by rw [lvl_app]; show (lvl pre ++ (c.2.2.2 ++ [])).length = _; simp
    have e3 : (cdl (pre ++ [c])).length = (cdl pre).length + c.2.2.1.length + 1 := by rw [cdl_app]; show (cdl pre ++ ((c.2.2.1 ++ [-10 - nI c.1]) ++ [])).length = _; simp; omega
    rw [e1] at i1
    rw [e2, e3, ← Nat.add_assoc, ← Nat.add_assoc] at i2
    conv => enter [1, x, 1, σ', 2, 1]; unfold fX13_holds_L23
    unfold fX13_holds_B70
    have hgt : fJ2_get T C (nI pre.length) = some (some c.2.1) := by rw [LT.get hpl, hgd]
    have hld : xk_ld C 0 (some W) (nI pre.length) = some (nI c.1) := by rw [g_ld (t := 0) kW (by omega) (by omega), hW _ hpl, hgd]
    simp only [g_r ka (show xk_has 14 66 = true from rfl), g_r ka (show xk_has 14 67 = true from rfl), r66, r67, ev_b, g_is LT.1, LT.size, lp_go hpl (by omega : cl.length ≤ 1000), if_false, hld, hgt, ct_t (tr2.kd ht).1, io_t (tr2.kd ht).1, f1 130 (by omega), s_a1]
    by_cases cw : nI c.1 = wq
    · simp only [if_pos cw]
      by_cases c0 : x = 0
      · simp only [if_pos c0]; exact ⟨y, σ2, hy, i1, i2, M1.trans M2⟩
      · simp only [if_neg c0]; exact ⟨1, σ1, .inr rfl, rfl, rfl, M1⟩
    · simp only [if_neg cw]; exact ⟨y, σ2, hy, i1, i2, M1.trans M2⟩
end
