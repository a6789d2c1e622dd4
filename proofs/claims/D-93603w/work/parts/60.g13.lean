set_option maxRecDepth 16384
section
/-! STAGE 2: who is told -/
def TD (g : Int32) (n : Nat) : List Nat := (List.range n).filter fun c => decide (bt g c = 1)
theorem TD_s (g : Int32) (n : Nat) : TD g (n + 1) = TD g n ++ if bt g n = 1 then [n] else [] := by
  unfold TD
  rw [List.range_succ, List.filter_append]
  by_cases c : bt g n = 1
  · rw [if_pos c]; congr 1; simp [c]
  · rw [if_neg c]; congr 1; simp [c]
theorem TD_lt {g : Int32} {n x : Nat} (h : x ∈ TD g n) : x < n ∧ bt g x = 1 := by
  unfold TD at h
  obtain ⟨h1, h2⟩ := List.mem_filter.mp h
  exact ⟨List.mem_range.mp h1, of_decide_eq_true h2⟩
theorem TD_le (g : Int32) {n n' : Nat} (h : n ≤ n') : (TD g n).length ≤ (TD g n').length := by
  induction n' with
  | zero => have : n = 0 := by omega
            subst this; exact Nat.le_refl _
  | succ m ih =>
    by_cases e : n = m + 1
    · subst e; exact Nat.le_refl _
    · have := ih (by omega)
      rw [TD_s, List.length_append]; omega
theorem bits_n : ∀ m, m < 4096 → fJ13_bitCount (nI m) = some (nI ((List.range 12).filter (fun c => m.testBit c)).length) := by decide +kernel
theorem bt_n (m : Nat) {c : Nat} (hc : c < 12) : bt (nI m) c = 1 ↔ m.testBit c = true := by
  rw [bt_iff _ c hc]
  have : (nI m).toBitVec = BitVec.ofNat 32 m := rfl
  rw [this, BitVec.getLsbD_ofNat]
  simp; omega
theorem TD_n (m : Nat) : TD (nI m) 12 = (List.range 12).filter (fun c => m.testBit c) := by
  unfold TD
  refine List.filter_congr (fun c hc => ?_)
  have h := bt_n m (List.mem_range.mp hc)
  cases e : m.testBit c with
  | true => exact decide_eq_true (h.mpr e)
  | false => exact decide_eq_false (fun z => by rw [h.mp z] at e; cases e)
theorem bits_c (m : Nat) (hm : m < 4096) : fJ13_bitCount (nI m) = some (nI (TD (nI m) 12).length) ∧ (m = 0 ∨ 1 ≤ (TD (nI m) 12).length) := by
  rw [TD_n]
  refine ⟨bits_n m hm, ?_⟩
  by_cases h : 1 ≤ ((List.range 12).filter (fun c => m.testBit c)).length
  · exact .inr h
  · left
    have e : (List.range 12).filter (fun c => m.testBit c) = [] := List.eq_nil_of_length_eq_zero (by omega)
    apply Nat.eq_of_testBit_eq
    intro i
    rw [Nat.zero_testBit]
    by_cases hi : i < 12
    · have := List.filter_eq_nil_iff.mp e i (List.mem_range.mpr hi)
      exact (Bool.not_eq_true _).mp this
    · exact Nat.testBit_lt_two_pow (Nat.lt_of_lt_of_le hm (Nat.pow_le_pow_right (n := 2) (by omega) (show 12 ≤ i by omega)))
theorem bits_z (c : Nat) (hc : c < 12) (m : Nat) (hm : m < 2 ^ c) : bt (nI m) c = 0 := by
  rcases bt01 (nI m >>> (nI c &&& 31)) with b | b
  · exact b
  · have := (bt_n m hc).mp b
    rw [Nat.testBit_lt_two_pow hm] at this; cases this
theorem bits_r : ∀ n, n < 13 → ((1 : Int32) <<< (nI n &&& 31)) - 1 = nI (2 ^ n - 1) := by decide +kernel
theorem bits_o : ∀ i, i < 12 → ∀ j, j < 12 → i ≠ j → ((1 : Int32) <<< (nI i &&& 31)).toBitVec.getLsbD j = false := by decide +kernel
theorem TD_up {m n : Nat} (hm : m < 2 ^ n) : ∀ d, n + d ≤ 12 → TD (nI m) (n + d) = TD (nI m) n := by
  intro d
  induction d with
  | zero => intro _; rfl
  | succ d ih =>
    intro h
    have h2 : m < 2 ^ (n + d) := Nat.lt_of_lt_of_le hm (Nat.pow_le_pow_right (by omega) (by omega))
    rw [show n + (d + 1) = n + d + 1 by omega, TD_s, if_neg (by rw [bits_z (n + d) (by omega) m h2]; decide), List.append_nil, ih (by omega)]
section
variable {bx : Nat} {sh cr hb : Nat → Nat} {nS nC nH : Nat} {C0 C : xk_C} {σ0 σ : gm_S} {g : Int32}
/-- the class's told crabs -/
def TX (bx : Nat) (cr : Nat → Nat) (T : List Nat) (C : xk_C) : Prop := xk_i C 20 bx = nI T.length ∧ ∀ j, j < T.length → xk_q C (bx + 15) j = some (cr (T.getD j 0))
def TM (T : List Nat) (σ : gm_S) : Prop := gs σ 30 = nI T.length ∧ ∀ j, j < T.length → ga σ 27 j = nI (T.getD j 0)
theorem getD_l {T : List Nat} {c j : Nat} (hj : j < T.length) : (T ++ [c]).getD j 0 = T.getD j 0 := by simp only [List.getD_eq_getElem?_getD]; rw [List.getElem?_append_left hj]
theorem getD_e {T : List Nat} {c : Nat} : (T ++ [c]).getD T.length 0 = c := by simp [List.getD_eq_getElem?_getD]
theorem told_x {N : Nat} (hT : (TD g nC).length ≤ 6) : ∀ n c q (C : xk_C), c + n = nC → n < q → cR bx sh cr hb nS nC nH C σ → TX bx cr (TD g c) C → (∀ x, x ∈ TD g c → ga σ 1 (166 + x) = 0) →
    ∃ C' r, fX0_findTold_L38 N bx q C g (nI c) = some (C', r) ∧ (Fr [20, 21, 22] [] (tE2 bx) C C' ∧ xk_n C' = xk_n C ∧ xk_s C' = xk_s C) ∧ (((∀ x, x ∈ TD g nC → ga σ 1 (166 + x) = 0) ∧ r = 0 ∧ TX bx cr (TD g nC) C') ∨ (¬ (∀ x, x ∈ TD g nC → ga σ 1 (166 + x) = 0) ∧ r = -3)) := by
  intro n
  induction n with
  | zero =>
    intro c q C hc hq h X A
    obtain ⟨q, rfl⟩ : ∃ j, q = j + 1 := ⟨q - 1, by omega⟩
    have : c = nC := by omega
    subst this
    have hn := h.n12
    rw [fX0_findTold_L38, xr3 h, ev_b, g_is h.1.2.2.1.1, ev_b, h.1.2.2.1.size, ev_b, if_pos ((s_le _ _ (by omega) (by omega)).mpr (Nat.le_refl _))]
    exact ⟨C, 0, rfl, ⟨Fr.refl, rfl, rfl⟩, .inl ⟨A, rfl, X⟩⟩
  | succ n ih =>
    intro c q C hc hq h X A
    obtain ⟨q, rfl⟩ : ∃ j, q = j + 1 := ⟨q - 1, by omega⟩
    have hn := h.n12
    have hcc : c < nC := by omega
    rw [fX0_findTold_L38, xr3 h, ev_b, g_is h.1.2.2.1.1, ev_b, h.1.2.2.1.size, ev_b, if_neg (fun h => by rw [s_le _ _ (by omega) (by omega)] at h; omega)]
    unfold fX0_findTold_B107
    have ea : nI c + 1 = nI (c + 1) := s_a1 c
    rw [ea]
    rcases bt01 (g >>> (nI c &&& 31)) with b | b
    · have nb : ¬ bt g c = 1 := by unfold bt; rw [b]; decide
      rw [if_pos b]
      have e := TD_s g c
      rw [if_neg nb, List.append_nil] at e
      exact ih (c + 1) q C (by omega) (by omega) h (by rw [e]; exact X) (by rw [e]; exact A)
    · have b' : bt g c = 1 := b
      have e := TD_s g c
      rw [if_pos b'] at e
      have hl : (TD g c).length + 1 ≤ 6 := by
        have := TD_le g (show c + 1 ≤ nC by omega)
        rw [e, List.length_append, List.length_singleton] at this; omega
      rw [if_neg (by rw [b]; decide), ev_b, g_is h.1.2.2.1.1, ev_b, h.1.2.2.1.get hcc, ev_b, g_ck (h.1.2.2.2.2.1.1 c hcc), ev_b, g_is (h.1.2.2.2.2.1.1 c hcc), ev_b, hs_x h hcc, ev_b]
      by_cases a0 : ga σ 1 (166 + c) = 0
      · rw [hs_1 a0, if_neg (by decide), h.r17, ev_b, g_i h.kB rfl, ev_b, X.1, p_i h.kB rfl, ev_b]
        have F1 : Fr [20, 21, 22] [] (tE2 bx) C (xk_si C 20 bx (nI (TD g c).length + 1)) := Fr.refl.si _ _ _ (.inl (by decide))
        have h1 := h.t2 F1
        have i1 : xk_i (xk_si C 20 bx (nI (TD g c).length + 1)) 20 bx = nI ((TD g c).length + 1) := by rw [i_si, if_pos ⟨rfl, rfl⟩, s_a1]
        have q1 : ∀ a j, xk_q (xk_si C 20 bx (nI (TD g c).length + 1)) a j = xk_q C a j := fun _ _ => rfl
        have nn : xk_n (xk_si C 20 bx (nI (TD g c).length + 1)) = xk_n C := rfl
        have ss : xk_s (xk_si C 20 bx (nI (TD g c).length + 1)) = xk_s C := rfl
        generalize xk_si C 20 bx (nI (TD g c).length + 1) = C1 at *
        rw [xr3 h1, ev_b, g_is h1.1.2.2.1.1, ev_b, h1.1.2.2.1.get hcc, ev_b, g_ck (h1.1.2.2.2.2.1.1 c hcc), ev_b, p_sa (t := 6) h1.k15 (by rw [h1.l15]; omega) (by omega) (by show xk_hold 6 (xk_k C1 (cr c)) = true; rw [h1.1.2.2.2.2.1.1 c hcc]; rfl), ev_b]
        have F2 : Fr [20, 21, 22] [] (tE2 bx) C (xk_sq C1 (bx + 15) (TD g c).length (some (cr c))) := F1.sq _ _ _ (.inl (by rw [h.k15]; unfold tE2; simp))
        obtain ⟨C', r, g1, ⟨F3, n3, s3⟩, D⟩ := ih (c + 1) q (xk_sq C1 (bx + 15) (TD g c).length (some (cr c))) (by omega) (by omega) (h.t2 F2) (by
          rw [e]
          refine ⟨by rw [List.length_append, List.length_singleton]; exact i1, fun j hj => ?_⟩
          rw [List.length_append, List.length_singleton] at hj
          rw [q_sq]
          by_cases cj : j = (TD g c).length
          · rw [if_pos ⟨rfl, cj⟩, cj, getD_e]
          · rw [if_neg (fun z => cj z.2), q1, X.2 j (by omega), getD_l (by omega)]) (by
          rw [e]
          intro x hx
          rcases List.mem_append.mp hx with hx | hx
          · exact A x hx
          · rw [List.mem_singleton.mp hx]; exact a0)
        exact ⟨C', r, g1, ⟨F2.trans F3, n3.trans nn, s3.trans ss⟩, D⟩
      · rw [hs_0 a0, if_pos rfl]
        refine ⟨C, -3, rfl, ⟨Fr.refl, rfl, rfl⟩, .inr ⟨fun hh => a0 (hh c ?_), rfl⟩⟩
        unfold TD
        exact List.mem_filter.mpr ⟨List.mem_range.mpr hcc, decide_eq_true b'⟩
theorem told_m {N : Nat} : ∀ n c q (σ : gm_S), c + n = 12 → n < q → (TD g c).length ≤ 6 → TM (TD g c) σ →
    ∃ σ' q', Mf [30] [27] σ σ' ∧ (((TD g 12).length ≤ 6 ∧ fX3_refuses_L7 N q σ g (nI c) = fX3_refuses_L7 N (q' + 1) σ' g (nI 12) ∧ TM (TD g 12) σ') ∨ (6 < (TD g 12).length ∧ fX3_refuses_L7 N q σ g (nI c) = some (σ', -2))) := by
  intro n
  induction n with
  | zero =>
    intro c q σ hc hq hl X
    obtain ⟨q, rfl⟩ : ∃ j, q = j + 1 := ⟨q - 1, by omega⟩
    have : c = 12 := by omega
    subst this
    exact ⟨σ, q, Mf.refl, .inl ⟨hl, rfl, X⟩⟩
  | succ n ih =>
    intro c q σ hc hq hl X
    obtain ⟨q, rfl⟩ : ∃ j, q = j + 1 := ⟨q - 1, by omega⟩
    rw [fX3_refuses_L7, if_neg (fun h => by rw [s_le _ _ (by omega) (by omega)] at h; omega)]
    unfold fX3_refuses_B54
    have ea : nI c + 1 = nI (c + 1) := s_a1 c
    rw [ea]
    rcases bt01 (g >>> (nI c &&& 31)) with b | b
    · have nb : ¬ bt g c = 1 := by unfold bt; rw [b]; decide
      rw [if_neg (by rw [b]; decide)]
      have e := TD_s g c
      rw [if_neg nb, List.append_nil] at e
      exact ih (c + 1) q σ (by omega) (by omega) (by rw [e]; exact hl) (by rw [e]; exact X)
    · have b' : bt g c = 1 := b
      have e := TD_s g c
      rw [if_pos b'] at e
      rw [if_pos b, X.1]
      by_cases c6 : (TD g c).length = 6
      · rw [if_pos (by rw [c6])]
        have := TD_le g (show c + 1 ≤ 12 by omega)
        rw [e, List.length_append, List.length_singleton] at this
        exact ⟨σ, 0, Mf.refl, .inr ⟨by omega, rfl⟩⟩
      · rw [if_neg (fun h => c6 ((s_eq _ 6 (by omega) (by omega)).mp h)), m_wr σ (k := 27) _ (show (TD g c).length < 6 by omega) (by omega), ev_b, m_pt, ev_b, gs_sta, X.1, s_a1]
        obtain ⟨σ', q', M, D⟩ := ih (c + 1) q (gm_set (gm_sta σ 27 (TD g c).length (nI c)) 30 (nI ((TD g c).length + 1))) (by omega) (by omega) (by rw [e, List.length_append, List.length_singleton]; omega) (by
          rw [e]
          refine ⟨by rw [List.length_append, List.length_singleton, gs_set, if_pos rfl], fun j hj => ?_⟩
          rw [List.length_append, List.length_singleton] at hj
          rw [ga_set, ga_sta]
          by_cases cj : j = (TD g c).length
          · rw [if_pos ⟨rfl, cj⟩, cj, getD_e]
          · rw [if_neg (fun z => cj z.2), X.2 j (by omega), getD_l (by omega)])
        exact ⟨σ', q', ((Mf.refl.sta _ _ _ (by decide)).set _ _ (by decide)).trans M, D⟩
theorem told_h {N : Nat} {T : List Nat} (X : TM T σ) (hT : T.length ≤ 6) (h12 : ∀ x, x ∈ T → x < 12) : ∀ n j q, j + n = T.length → n < q → (∀ i, i < j → ga σ 1 (166 + T.getD i 0) = 0) → ((∀ x, x ∈ T → ga σ 1 (166 + x) = 0) ∧ fX3_refuses_L90 N q σ (nI j) = some (σ, 0)) ∨ (¬ (∀ x, x ∈ T → ga σ 1 (166 + x) = 0) ∧ fX3_refuses_L90 N q σ (nI j) = some (σ, -3)) := by
  have gm : ∀ i, i < T.length → T.getD i 0 ∈ T := fun i hi => by
    rw [List.getD_eq_getElem?_getD, List.getElem?_eq_getElem hi]; exact List.getElem_mem hi
  intro n
  induction n with
  | zero =>
    intro j q hj hq A
    obtain ⟨q, rfl⟩ : ∃ j, q = j + 1 := ⟨q - 1, by omega⟩
    have : j = T.length := by omega
    subst this
    rw [fX3_refuses_L90, X.1, if_pos ((s_le _ _ (by omega) (by omega)).mpr (Nat.le_refl _))]
    refine .inl ⟨fun x hx => ?_, rfl⟩
    obtain ⟨i, hi, rfl⟩ := List.mem_iff_getElem.mp hx
    have := A i hi
    rw [List.getD_eq_getElem?_getD, List.getElem?_eq_getElem hi] at this; exact this
  | succ n ih =>
    intro j q hj hq A
    obtain ⟨q, rfl⟩ : ∃ j, q = j + 1 := ⟨q - 1, by omega⟩
    have hm := gm j (by omega)
    rw [fX3_refuses_L90, X.1, if_neg (fun h => by rw [s_le _ _ (by omega) (by omega)] at h; omega), m_rd σ (k := 27) (show j < 6 by omega) (by omega), ev_b, X.2 j (by omega), hs_m σ (h12 _ hm), ev_b, s_a1]
    by_cases a0 : ga σ 1 (166 + T.getD j 0) = 0
    · rw [hs_1 a0, if_neg (by decide)]
      exact ih (j + 1) q (by omega) (by omega) (fun i hi => by
        by_cases c : i = j
        · rw [c]; exact a0
        · exact A i (by omega))
    · rw [hs_0 a0, if_pos rfl]
      exact .inr ⟨fun hh => a0 (hh _ hm), rfl⟩
end
end
section
/-! STAGE 2: best, calm -/
section
variable {bx : Nat} {sh cr hb : Nat → Nat} {nS nC nH : Nat} {C0 C : xk_C} {σ0 σ : gm_S} {g : Int32}
/-- what the told ones leave -/
def oT (bx : Nat) (C : xk_C) (σ : gm_S) (C' : xk_C) (σ' : gm_S) : Prop := (Fr [20, 21, 22] [] (tE2 bx) C C' ∧ xk_n C' = xk_n C ∧ xk_s C' = xk_s C) ∧ Mf [30, 31, 32, 33] [27, 28, 29] σ σ'
theorem told_l {N : Nat} (hN : 30 ≤ N) (h : cR bx sh cr hb nS nC nH C σ) (g : Int32) : ∃ C' σ' r, fX0_findTold N bx C g = some (C', r) ∧ fX3_refuses N σ g = some (σ', r) ∧ oT bx C σ C' σ' ∧ (r = 0 → ∃ T, TX bx cr T C' ∧ TM T σ' ∧ T.length ≤ 6 ∧ T.Nodup ∧ (∀ x, x ∈ T → x < nC) ∧ ∀ x, x ∈ T → ga σ 1 (166 + x) = 0) := by
  have hn := h.n12
  unfold fX0_findTold fX3_refuses
  rw [xr3 h, ev_b, g_is h.1.2.2.1.1, ev_b, h.1.2.2.1.size, ev_b, in_eq, bits_r nC (by omega), m_pt, ev_b]
  have M0 : Mf [30] [27] σ (gm_set σ 30 0) := Mf.refl.set _ _ (by decide)
  have X0 : TM (TD g 0) (gm_set σ 30 0) := ⟨by rw [gs_set, if_pos rfl]; rfl, fun j hj => by cases hj⟩
  obtain ⟨σ1, q', M1, D⟩ := told_m (N := N) (g := g) 12 0 N (gm_set σ 30 0) (by omega) (by omega) (Nat.zero_le _) X0
  have MM1 : Mf [30, 31, 32, 33] [27, 28, 29] σ σ1 := (M0.trans M1).mono (by decide) (by decide)
  have e1 : ga σ1 1 = ga σ 1 := funext fun j => MM1.2 1 (by decide) j
  have z0 : (0 : Int32) = nI 0 := rfl
  rw [← z0] at D
  have v1 : gm_rd σ1 1 1 = some (nI nC) := by rw [ev_r1, e1, h.v1]
  rcases in_ok g 1 (nI (2 ^ nC - 1)) with e | ⟨e, h1, h2⟩
  · rw [e, ev_b, if_pos rfl]
    rcases D with ⟨-, D, X⟩ | ⟨-, D⟩
    · rw [D, fX3_refuses_L7, if_pos ((s_le 12 12 (by omega) (by omega)).mpr (Nat.le_refl _))]
      by_cases c0 : gs σ1 30 = 0
      · rw [if_pos c0]; exact ⟨C, σ1, -2, rfl, rfl, ⟨⟨Fr.refl, rfl, rfl⟩, MM1⟩, fun z => absurd z (by decide)⟩
      · rw [if_neg c0, v1, ev_b, bits_r nC (by omega), e, ev_b, if_pos rfl]
        exact ⟨C, σ1, -2, rfl, rfl, ⟨⟨Fr.refl, rfl, rfl⟩, MM1⟩, fun z => absurd z (by decide)⟩
    · rw [D]
      exact ⟨C, σ1, -2, rfl, rfl, ⟨⟨Fr.refl, rfl, rfl⟩, MM1⟩, fun z => absurd z (by decide)⟩
  · have p1 : 2 ^ nC ≤ 4096 := Nat.pow_le_pow_right (n := 2) (by omega) (show nC ≤ 12 from hn)
    have p2 : 1 ≤ 2 ^ nC := Nat.one_le_two_pow
    obtain ⟨m, hm, rfl⟩ := s_get (n := 2 ^ nC) (v := g) (by omega) (Int32.le_trans (by decide) h1) (Int32.lt_of_le_of_lt h2 ((s_lt _ _ (by omega) (by omega)).mpr (by omega)))
    have hm1 : 1 ≤ m := (s_le 1 m (by omega) (by omega)).mp h1
    obtain ⟨b1, b2⟩ := bits_c m (by omega)
    have up := TD_up hm (12 - nC) (by omega)
    rw [show nC + (12 - nC) = 12 by omega] at up
    have l12 : (TD (nI m) 12).length ≤ 12 := by unfold TD; exact Nat.le_trans (List.length_filter_le _ _) (by rw [List.length_range]; omega)
    rw [e, ev_b, if_neg (by decide), b1, ev_b]
    rcases D with ⟨l6, D, X⟩ | ⟨l6, D⟩
    · rw [if_pos ((s_le _ 6 (by omega) (by omega)).mpr l6), p_i h.kB rfl, ev_b, D, fX3_refuses_L7, if_pos ((s_le 12 12 (by omega) (by omega)).mpr (Nat.le_refl _)), X.1, if_neg (fun z => by have := (s_eq _ 0 (by omega) (by omega)).mp z; omega), v1, ev_b, bits_r nC (by omega), e, ev_b, if_neg (by decide)]
      have F0 : Fr [20, 21, 22] [] (tE2 bx) C (xk_si C 20 bx 0) := Fr.refl.si _ _ _ (.inl (by decide))
      have i0 : xk_i (xk_si C 20 bx 0) 20 bx = 0 := by rw [i_si, if_pos ⟨rfl, rfl⟩]
      have n0 : xk_n (xk_si C 20 bx 0) = xk_n C := rfl
      have s0 : xk_s (xk_si C 20 bx 0) = xk_s C := rfl
      generalize xk_si C 20 bx 0 = C1 at *
      rw [up] at X l6 b2
      obtain ⟨C', r, g1, ⟨F1, n1, s1⟩, D2⟩ := told_x (N := N) (g := nI m) (σ := σ) l6 nC 0 N C1 (by omega) (by omega) (h.t2 F0) ⟨i0, fun j hj => by cases hj⟩ (fun x hx => by cases hx)
      have D3 := told_h (N := N) X l6 (fun x hx => by have := (TD_lt hx).1; omega) (TD (nI m) nC).length 0 N (by omega) (by omega) (fun i hi => by omega)
      rw [e1] at D3
      rw [z0, g1]
      have oo : oT bx C σ C' σ1 := ⟨⟨F0.trans F1, n1.trans n0, s1.trans s0⟩, MM1⟩
      rcases D2 with ⟨A, rfl, X'⟩ | ⟨A, rfl⟩
      · rcases D3 with ⟨-, D3⟩ | ⟨A', -⟩
        · rw [D3]
          refine ⟨C', σ1, 0, rfl, rfl, oo, fun _ => ⟨TD (nI m) nC, X', X, l6, ?_, fun x hx => (TD_lt hx).1, A⟩⟩
          unfold TD; exact List.nodup_range.filter _
        · exact absurd A A'
      · rcases D3 with ⟨A', -⟩ | ⟨-, D3⟩
        · exact absurd A' A
        · rw [D3]
          exact ⟨C', σ1, -3, rfl, rfl, oo, fun z => absurd z (by decide)⟩
    · rw [if_neg (fun z => by have := (s_le _ 6 (by omega) (by omega)).mp z; omega), D]
      exact ⟨C, σ1, -2, rfl, rfl, ⟨⟨Fr.refl, rfl, rfl⟩, MM1⟩, fun z => absurd z (by decide)⟩
theorem en_ne {sl : Nat → Nat} {t : Nat} (ht : t ≤ 6) : ∀ d p (u : Int32), p.length + d = t → (∀ i, p.length ≤ i → i < t → ¬ bt u i = 1) → en sl (List.range t) d p u ≠ [] := by
  intro d
  induction d with
  | zero => intro p u _ _ h; unfold en at h; cases h
  | succ d ih =>
    intro p u hp hu h
    unfold en at h
    have h' := List.flatMap_eq_nil_iff.mp h p.length (List.mem_range.mpr (by omega))
    rw [if_neg (hu _ (Nat.le_refl _) (by omega))] at h'
    refine ih (p ++ [sl p.length]) _ (by rw [List.length_append, List.length_singleton]; omega) (fun i h1 h2 => ?_) h'
    rw [List.length_append, List.length_singleton] at h1
    rw [bt_iff _ i (by omega), Int32.toBitVec_or, BitVec.getLsbD_or, bits_o p.length (by omega) i (by omega) (by omega), Bool.or_false, ← bt_iff _ i (by omega)]
    exact hu i (by omega) h2
theorem nodup_inj {T : List Nat} (hd : T.Nodup) {i j : Nat} (hi : i < T.length) (hj : j < T.length) (e : (some T[i]).getD 0 = (some T[j]).getD 0) : i = j := by
  have e' : T[i] = T[j] := e
  have hp := List.pairwise_iff_getElem.mp hd
  by_cases c : i < j
  · exact absurd e' (hp i j hi hj c)
  · by_cases c' : j < i
    · exact absurd e'.symm (hp j i hj hi c')
    · omega
/-- the two searches agree -/
theorem find_p {N : Nat} (hN : 30 ≤ N) (h : cR bx sh cr hb nS nC nH C σ) {T : List Nat} (X : TX bx cr T C) (Y : TM T σ) (hT : T.length ≤ 6) (hd : T.Nodup) (hc : ∀ x, x ∈ T → x < nC) (hh : ∀ x, x ∈ T → ga σ 1 (166 + x) = 0) : ∃ C' σ' v, ∃ b : Nat → Nat, fX0_findPartings N bx C = some (C', ()) ∧ fX3_partings N σ = some σ' ∧ oT bx C σ C' σ' ∧ xk_i C' 21 bx = v ∧ gs σ' 31 = v ∧ xk_i C' 22 bx = gs σ' 33 ∧ (∀ j, j < T.length → xk_q C' (bx + 17) j = some (sh (b j)) ∧ ga σ' 29 j = nI (b j) ∧ b j < nS) := by
  have gm : ∀ i, i < T.length → T.getD i 0 ∈ T := fun i hi => by
    rw [List.getD_eq_getElem?_getD, List.getElem?_eq_getElem hi]; exact List.getElem_mem hi
  have hn := h.n20
  have hn2 := h.n12
  have S : ST nS nC σ T.length (fun j => T.getD j 0) (fun j => (ga σ 1 (178 + T.getD j 0)).toNatClampNeg) := by
    have key : ∀ j, j < T.length → (ga σ 1 (178 + T.getD j 0)).toNatClampNeg < nS ∧ ga σ 1 (178 + T.getD j 0) = nI (ga σ 1 (178 + T.getD j 0)).toNatClampNeg ∧ ga σ 1 (110 + (ga σ 1 (178 + T.getD j 0)).toNatClampNeg) = nI (T.getD j 0) := by
      intro j hj
      have m := gm j hj
      rcases h.2.2.2.2.2.2 (T.getD j 0) (hc _ m) with ⟨-, z⟩ | ⟨i, hi, e, e', -⟩
      · rw [hh _ m] at z; exact absurd z (by decide)
      · rw [e, s_tn i (by omega)]; exact ⟨hi, rfl, e'⟩
    refine ⟨hT, fun j hj => hc _ (gm j hj), fun j hj => (key j hj).1, fun j hj => (key j hj).2.1, fun i j hi hj e => ?_⟩
    have k1 := (key i hi).2.2
    have k2 := (key j hj).2.2
    have e' : (ga σ 1 (178 + T.getD i 0)).toNatClampNeg = (ga σ 1 (178 + T.getD j 0)).toNatClampNeg := e
    rw [e', k2] at k1
    have c1 := hc _ (gm i hi)
    have c2 := hc _ (gm j hj)
    have e3 := (s_eq _ _ (by omega) (by omega)).mp k1
    rw [List.getD_eq_getElem?_getD, List.getElem?_eq_getElem hj, List.getD_eq_getElem?_getD, List.getElem?_eq_getElem hi] at e3
    exact (nodup_inj hd hj hi e3).symm
  generalize htl : (fun j => T.getD j 0) = tl at *
  generalize (fun j => (ga σ 1 (178 + T.getD j 0)).toNatClampNeg) = sl at *
  have Z : M0 nS nC nH σ T.length tl sl := ⟨h.2.2, S, Y.1, fun j hj => by rw [Y.2 j hj, ← htl]⟩
  unfold fX0_findPartings fX3_partings
  rw [p_i h.kB rfl, ev_b, p_i (C := xk_si C 21 bx _) h.kB rfl, ev_b, g_is (C := xk_si (xk_si C 21 bx _) 22 bx _) h.kB, ev_b, m_pz (.inl rfl), ev_b, m_pt, ev_b]
  have F1 : Fr [20, 21, 22] [] (tE2 bx) C (xk_si (xk_si C 21 bx (-2147483648)) 22 bx 0) := (Fr.refl.si _ _ _ (.inl (by decide))).si _ _ _ (.inl (by decide))
  have H : XS bx sh cr hb nS nC nH C σ T.length tl none 0 (xk_si (xk_si C 21 bx (-2147483648)) 22 bx 0) := by
    refine ⟨h.t2 F1, ⟨F1, rfl, rfl⟩, ?_, fun j hj => by rw [← htl]; exact X.2 j hj, ?_, ?_, fun b hb => by cases hb⟩
    · rw [wi1 (f' := 22) rfl (by decide), wi1 (f' := 21) rfl (by decide)]; exact X.1
    · rw [wi1 (f' := 22) rfl (by decide), i_si, if_pos ⟨rfl, rfl⟩]; rfl
    · rw [i_si, if_pos ⟨rfl, rfl⟩]; rfl
  have H' : MM nS nC nH σ T.length tl none 0 (gm_set (gm_set σ 32 0) 33 0) := ⟨(Mf.refl.set _ _ (by decide)).set _ _ (by decide), by rw [gs_set, if_pos rfl]; rfl, fun _ => by rw [gs_set, if_neg (by decide), gs_set, if_pos rfl], fun b hb => by cases hb⟩
  generalize xk_si (xk_si C 21 bx (-2147483648)) 22 bx 0 = C1 at *
  generalize gm_set (gm_set σ 32 0) 33 0 = σ1 at *
  obtain ⟨C', g1, G, -⟩ := go_all (N := N) hN S T.length [] 10 0 C1 none 0 (by simp) (by omega) H (fun j hj => by cases hj)
  obtain ⟨σ', g2, G', -⟩ := part_all (N := N) hN Z T.length [] 10 0 σ1 none 0 (by simp) (by omega) H' (fun j hj => by cases hj)
  have e1 : nI ([] : List Nat).length = 0 := rfl
  have e2 : PT (ff σ tl) [] = 0 := rfl
  rw [e1, e2] at g1
  rw [e1] at g2
  rw [g1, ev_b, g2, ev_b]
  have hperm := en_perm (sl := sl) (oX_perm (sl := sl) (nS := nS) (t := T.length) S.2.2.1 S.2.2.2.2) T.length [] 0
  have hsort := en_sort (oX_sort (sl := sl) (nS := nS) (t := T.length) S.2.2.2.2) T.length [] 0
  have heq := top_eq (P := PT (ff σ tl)) (t := T.length) hsort hperm (fun l hl => by
    obtain ⟨q, e, hq⟩ := en_mem _ _ _ _ hl
    rw [e]; simpa using hq)
  rw [heq, hperm.countP_eq] at G
  have hne := en_ne (sl := sl) (t := T.length) hT T.length [] 0 (by simp) (fun i _ hi hb => by
    have hz : ∀ i, i < 6 → ¬ bt 0 i = 1 := by decide
    exact hz i (by omega) hb)
  have tp := top_m (P := PT (ff σ tl)) (en sl (List.range T.length) T.length [] 0) none [] ⟨fun b h => (by cases h), fun _ => rfl⟩
  rw [List.nil_append] at tp
  cases hs : (en sl (List.range T.length) T.length [] 0).foldl (bst (PT (ff σ tl))) none with
  | none => exact absurd (tp.2 hs) hne
  | some b =>
    rw [hs] at G G'
    obtain ⟨-, ⟨F2, n2, s2⟩, -, -, x21, x22, xb⟩ := G
    obtain ⟨M2, m33, -, mb⟩ := G'
    obtain ⟨m32, m31, -, mb⟩ := mb b rfl
    refine ⟨C', σ', PT (ff σ tl) b, fun j => b.getD j 0, rfl, rfl, ⟨⟨F2, n2, s2⟩, M2.mono (by decide) (by decide)⟩, x21, m31, x22.trans m33.symm, fun j hj => ⟨((xb b rfl).2 j hj).1, (mb j hj).1, (mb j hj).2⟩⟩
theorem oT.trans {C' C'' : xk_C} {σ' σ'' : gm_S} (h : oT bx C σ C' σ') (h' : oT bx C' σ' C'' σ'') : oT bx C σ C'' σ'' := ⟨⟨h.1.1.trans h'.1.1, h'.1.2.1.trans h.1.2.1, h'.1.2.2.trans h.1.2.2⟩, h.2.trans h'.2⟩
theorem cR.oT1 {C' : xk_C} {σ' : gm_S} (h : cR bx sh cr hb nS nC nH C σ) (o : oT bx C σ C' σ') : cR bx sh cr hb nS nC nH C' σ' := h.fr o.1.1 (fun j => o.2.2 1 (by decide) j) (by decide) (by decide) (fun _ _ => rfl) rfl
theorem op_best {N : Nat} (hN : 30 ≤ N) (h : cR bx sh cr hb nS nC nH C σ) (a1 a2 : Int32) : ∃ C' σ' r, fX0_best N bx C a1 a2 = some (C', r) ∧ fX3_best N σ a1 a2 = some (σ', r) ∧ oT bx C σ C' σ' := by
  obtain ⟨C1, σ1, r, f1, f2, o1, hr⟩ := told_l hN h a1
  have h1 := h.oT1 o1
  unfold fX0_best fX3_best
  rw [g_is h.kB, ev_b, f1, ev_b, f2, ev_b]
  by_cases c : r = 0
  · obtain ⟨T, X, Y, hT, hd, hc, hh⟩ := hr c
    have hh1 : ∀ x, x ∈ T → ga σ1 1 (166 + x) = 0 := fun x hx => (o1.2.2 1 (by decide) _).trans (hh x hx)
    rw [if_pos c, if_pos c, g_i h1.kB rfl, ev_b, X.1, in_eq, Y.1]
    rcases in_ok a2 (-1) (nI T.length - 1) with e | ⟨e, l1, l2⟩
    · rw [e, ev_b, ev_b, if_pos rfl, if_pos rfl]; exact ⟨C1, σ1, _, rfl, rfl, o1⟩
    · obtain ⟨C2, σ2, v, b, g1, g2, o2, x21, m31, -, bb⟩ := find_p hN h1 X Y hT hd hc hh1
      have h2 := h1.oT1 o2
      rw [e, ev_b, ev_b, if_neg (by decide), if_neg (by decide), g_is h1.kB, ev_b, g1, ev_b, g2, ev_b]
      by_cases d : a2 = -1
      · rw [if_pos d, if_pos d, g_i h2.kB rfl, ev_b]
        simp only [x21, m31]
        exact ⟨C2, σ2, v, rfl, rfl, o1.trans o2⟩
      · rw [if_neg d, if_neg d]
        have g0 : 0 ≤ a2 := by
          rw [Int32.le_iff_toInt_le] at l1 ⊢
          have t1 : (-1 : Int32).toInt = -1 := by decide
          have t0 : (0 : Int32).toInt = 0 := by decide
          have n1 : a2.toInt ≠ -1 := fun e => d (Int32.toInt_inj.mp (by rw [e]; decide))
          omega
        have gT : a2 < nI T.length := by
          by_cases z : T.length = 0
          · rw [z] at l2
            have : a2 ≤ -1 := l2
            exact absurd (Int32.le_trans g0 this) (by decide)
          · rw [s_s1 _ (by omega)] at l2
            exact Int32.lt_of_le_of_lt l2 ((s_lt _ _ (by omega) (by omega)).mpr (by omega))
        obtain ⟨j, hj, rfl⟩ := s_get (n := T.length) (by omega) g0 gT
        obtain ⟨b1, b2, b3⟩ := bb j hj
        rw [h2.r19, ev_b, g_lq (t := 7) h2.k17 (by rw [h2.l17]; omega) (by omega), ev_b, b1, x37 h2 b3, ev_b, m_rd σ2 (k := 29) (show j < 6 by omega) (by omega), ev_b, b2]
        exact ⟨C2, σ2, _, rfl, rfl, o1.trans o2⟩
  · rw [if_neg c, if_neg c]; exact ⟨C1, σ1, r, rfl, rfl, o1⟩
theorem op_calm {N : Nat} (hN : 30 ≤ N) (h : cR bx sh cr hb nS nC nH C σ) (a1 : Int32) : ∃ C' σ' r, fX0_calm N bx C a1 = some (C', r) ∧ fX3_calm N σ a1 = some (σ', r) ∧ oT bx C σ C' σ' := by
  obtain ⟨C1, σ1, r, f1, f2, o1, hr⟩ := told_l hN h a1
  have h1 := h.oT1 o1
  unfold fX0_calm fX3_calm
  rw [g_is h.kB, ev_b, f1, ev_b, f2, ev_b]
  by_cases c : r = 0
  · obtain ⟨T, X, Y, hT, hd, hc, hh⟩ := hr c
    have hh1 : ∀ x, x ∈ T → ga σ1 1 (166 + x) = 0 := fun x hx => (o1.2.2 1 (by decide) _).trans (hh x hx)
    obtain ⟨C2, σ2, v, b, g1, g2, o2, -, -, x22, -⟩ := find_p hN h1 X Y hT hd hc hh1
    have h2 := h1.oT1 o2
    rw [if_pos c, if_pos c, g_is h1.kB, ev_b, g1, ev_b, g2, ev_b, g_i h2.kB rfl, ev_b, x22]
    exact ⟨C2, σ2, _, rfl, rfl, o1.trans o2⟩
  · rw [if_neg c, if_neg c]; exact ⟨C1, σ1, r, rfl, rfl, o1⟩
end
end
section
/-! STAGE 2: the reader: characters, its state -/
def cq (x y : Int32) : Prop := by8 x y ∨ (x = -1 ∧ y = -1)
theorem c8_n : ∀ n, n < 256 → 128 ≤ n → nI n - 256 < 0 := by decide +kernel
theorem cq.is {x y : Int32} (h : cq x y) {c : Nat} (hc : c < 128) : x = nI c ↔ y = nI c := by
  rcases h with ⟨n, hn, rfl, rfl⟩ | ⟨rfl, rfl⟩
  · by_cases l : n < 128
    · rw [if_pos l]
    · rw [if_neg l]
      have h1 := c8_n n hn (by omega)
      constructor
      · intro e; rw [e] at h1; exact absurd h1 (s_nn c (by omega))
      · intro e; have := (s_eq n c (by omega) (by omega)).mp e; omega
  · exact Iff.rfl
theorem cq.dg {x y : Int32} (h : cq x y) : (∃ d, d < 10 ∧ x = nI (48 + d) ∧ y = nI (48 + d)) ∨ ((x < nI 48 ∨ nI 57 < x) ∧ fX3_in y (nI 48) (nI 57) = some 0) := by
  rcases h with ⟨n, hn, rfl, rfl⟩ | ⟨rfl, rfl⟩
  · by_cases l : 48 ≤ n ∧ n ≤ 57
    · rw [if_pos (by omega)]
      exact .inl ⟨n - 48, by omega, by rw [show 48 + (n - 48) = n by omega], by rw [show 48 + (n - 48) = n by omega]⟩
    · right
      constructor
      · by_cases c : n < 128
        · rw [if_pos c, s_lt _ _ (by omega) (by omega), s_lt _ _ (by omega) (by omega)]; omega
        · rw [if_neg c]; exact .inl (Int32.lt_trans (c8_n n hn (by omega)) (by decide))
      · unfold fX3_in
        by_cases c : n < 48
        · rw [if_pos ((s_lt _ _ (by omega) (by omega)).mpr c)]
        · rw [if_neg (fun h => c ((s_lt _ _ (by omega) (by omega)).mp h)), if_pos ((s_lt _ _ (by omega) (by omega)).mpr (by omega))]
  · exact .inr ⟨.inl (by decide), rfl⟩
/-- what the reading starts from -/
def RZ (bx : Nat) (C0 : xk_C) (σ0 : gm_S) (h L : Nat) : Prop :=
  (xk_k C0 bx = 1 ∧ bx + 19 ≤ xk_n C0 ∧ U1 C0 ∧ xk_k C0 (bx + 8) = 3 ∧ xk_r C0 8 bx = some (bx + 5) ∧ xk_k C0 (bx + 5) = 31 ∧ xk_l C0 (bx + 5) = 120) ∧ pR bx C0 ∧
  (xk_i C0 9 bx = nI L ∧ L ≤ 120 ∧ h < 8 ∧ ga σ0 10 h = nI L ∧ ∀ j, j < L → by8 (xk_e C0 (bx + 5) j) (ga σ0 9 (120 * h + j)))
/-- the frames of the reading -/
def rF (C0 : xk_C) (σ0 : gm_S) (h : Nat) (C : xk_C) (σ : gm_S) : Prop := Fr [33, 34] [35] (fun _ _ => false) C0 C ∧ Mf [12, 13, 14, 15] [17, 18] σ0 σ ∧ (∀ j, j < 140 * h → ga σ 17 j = ga σ0 17 j) ∧ (∀ j, j ≠ h → ga σ 18 j = ga σ0 18 j)
/-- the reading under way -/
def RS (bx : Nat) (C0 : xk_C) (σ0 : gm_S) (h L ha T W F nK : Nat) (gT : Nat → Nat) (op at_ : Nat) (cd : List Int32) (lv : List (Nat × Nat)) (C : xk_C) (σ : gm_S) : Prop :=
  rF C0 σ0 h C σ ∧
  (xk_r C 35 (bx + 8) = some ha ∧ xk_i C 33 (bx + 8) = nI at_ ∧ (op ≤ 5 → xk_i C 34 (bx + 8) = nI op)) ∧
  (xk_k C ha = 14 ∧ ha < xk_n C ∧ xk_r C 66 ha = some T ∧ xk_r C 67 ha = some W ∧ xk_r C 68 ha = some F ∧ xk_i C 65 ha = nI h ∧ xk_r C 69 ha = some bx) ∧
  (xk_n C0 ≤ ha ∧ xk_n C0 ≤ T ∧ xk_n C0 ≤ W ∧ xk_n C0 ≤ F ∧ T ≠ F ∧ (∀ e, xk_r C 102 F = some e → e = xk_d C ∨ xk_n C0 ≤ e) ∧ (∀ e, xk_r C 102 T = some e → e = xk_d C ∨ xk_n C0 ≤ e)) ∧
  (pL C T nK gT ∧ pL C F lv.length (fun q => (lv.getD q (0, 0)).1)) ∧
  ((∀ x, x ∈ lv → xk_k C x.1 = 17 ∧ x.1 < xk_n C ∧ xk_n C0 ≤ x.1 ∧ xk_i C 80 x.1 = nI x.2) ∧ lv.Pairwise (fun x y => x.1 < y.1)) ∧
  (gs σ 12 = nI h ∧ gs σ 13 = nI at_ ∧ gs σ 14 = 0 ∧ gs σ 15 = nI (op % 6) ∧ ga σ 18 h = nI cd.length ∧ cdAt σ (140 * h) cd) ∧
  (at_ ≤ L ∧ cd.length ≤ at_ ∧ 3 * lv.length ≤ at_ ∧ op ≤ 6)
/-- it went wrong -/
def WR (C0 : xk_C) (σ0 : gm_S) (h L e at_ : Nat) (C : xk_C) (σ : gm_S) : Prop := rF C0 σ0 h C σ ∧ xk_k C e = 15 ∧ xk_i C 76 e = nI at_ ∧ gs σ 14 = 1 ∧ gs σ 13 = nI at_ ∧ at_ ≤ L
section
variable {bx : Nat} {C0 C C' : xk_C} {σ0 σ σ' : gm_S} {h L ha T W F nK op at_ : Nat} {gT : Nat → Nat} {cd : List Int32} {lv : List (Nat × Nat)}
theorem RS.kr (Z : RZ bx C0 σ0 h L) (R : RS bx C0 σ0 h L ha T W F nK gT op at_ cd lv C σ) : xk_k C (bx + 8) = 3 := (R.1.1.k (by have := Z.1.2.1; omega)).trans Z.1.2.2.2.1
/-- the character at hand -/
theorem RS.next (Z : RZ bx C0 σ0 h L) (R : RS bx C0 σ0 h L ha T W F nK gT op at_ cd lv C σ) : ∃ x y, fX2_next (bx + 8) C = some x ∧ fX3_here σ = some y ∧ cq x y ∧ (∀ c, x = nI c → c < 128 → at_ < L) ∧ (at_ < L → xk_ld C 1 (some (bx + 5)) (nI at_) = some x) ∧ (¬ at_ < L → x = -1 ∧ y = -1) := by
  obtain ⟨⟨z1, z2, z3, z4, z5, z6, z7⟩, zR, z8, z9, z10, z11, z12⟩ := Z
  obtain ⟨⟨F0, M, -, -⟩, ⟨r35, i33, i34⟩, -, -, -, -, ⟨g12, g13, g14, -⟩, hL, -⟩ := R
  have k8 : xk_k C (bx + 8) = 3 := (F0.k (by omega)).trans z4
  have kb : xk_k C bx = 1 := (F0.k (by omega)).trans z1
  have r36 : xk_r C 36 (bx + 8) = some bx := (F0.r (by omega) (by decide)).trans zR.1
  have r8 : xk_r C 8 bx = some (bx + 5) := (F0.r (by omega) (by decide)).trans z5
  have i9 : xk_i C 9 bx = nI L := (F0.i (by omega) (by decide)).trans z8
  have k5 : xk_k C (bx + 5) = 31 := (F0.k (by omega)).trans z6
  have l5 : xk_l C (bx + 5) = 120 := (F0.l (by omega)).trans z7
  have e5 : xk_e C (bx + 5) at_ = xk_e C0 (bx + 5) at_ := F0.e (by omega) rfl at_
  have a10 : ga σ 10 h = nI L := (M.2 10 (by decide) h).trans z11
  have a9 : ga σ 9 (120 * h + at_) = ga σ0 9 (120 * h + at_) := M.2 9 (by decide) _
  unfold fX2_next fX3_here
  rw [g_i k8 rfl, i33, ev_b, g_r k8 rfl, r36, ev_b, g_i kb rfl, i9, ev_b, g12, m_rd σ (k := 10) (j := h) z10 (by omega), a10, ev_b, g13]
  by_cases c : at_ < L
  · rw [if_neg (fun h => by rw [s_le _ _ (by omega) (by omega)] at h; omega), ev_b, g_r kb rfl, r8, ev_b, ev_b, g_ld (t := 1) k5 (by omega) (by omega), ev_b, if_neg (fun h => by rw [s_le _ _ (by omega) (by omega)] at h; omega), s_mul, s_add, m_rd σ (k := 9) (j := 120 * h + at_) (show 120 * h + at_ < 960 by omega) (by omega), ev_b, a9, e5]
    exact ⟨_, _, rfl, rfl, .inl (z12 at_ c), fun _ _ _ => c, fun _ => rfl, fun n => absurd c n⟩
  · have le : nI L ≤ nI at_ := (s_le _ _ (by omega) (by omega)).mpr (by omega)
    rw [if_pos le, ev_b, if_pos le]
    exact ⟨_, _, rfl, rfl, .inr ⟨rfl, rfl⟩, fun c' e hc' => absurd e.symm (s_m1 c' (by omega)), fun h => absurd h c, fun _ => ⟨rfl, rfl⟩⟩
/-- further by one on the class's side -/
theorem RS.stp (Z : RZ bx C0 σ0 h L) (R : RS bx C0 σ0 h L ha T W F nK gT op at_ cd lv C σ) (hl : at_ < L) : RS bx C0 σ0 h L ha T W F nK gT op (at_ + 1) cd lv (xk_si C 33 (bx + 8) (nI (at_ + 1))) (gm_set σ 13 (nI (at_ + 1))) := by
  obtain ⟨⟨F0, M, m1, m2⟩, ⟨r35, i33, i34⟩, ⟨a1, a2, a3, a4, a5, a6, a7⟩, b, ⟨c1, c2⟩, d, ⟨g12, g13, g14, g15, g18, gc⟩, e1, e2, e3, e4⟩ := R
  have F1 : Fr [33] [] (fun _ _ => false) C (xk_si C 33 (bx + 8) (nI (at_ + 1))) := Fr.refl.si _ _ _ (.inl (by decide))
  refine ⟨⟨F0.si _ _ _ (.inl (by decide)), M.set _ _ (by decide), m1, m2⟩, ⟨r35, by rw [i_si, if_pos ⟨rfl, rfl⟩], fun ho => by rw [wi1 (f' := 33) rfl (by decide)]; exact i34 ho⟩, ⟨a1, a2, a3, a4, a5, (by rw [wi1 (f' := 33) rfl (by decide)]; exact a6), a7⟩, b, ⟨c1.fr F1 (by decide) (by decide) (fun _ _ => rfl), c2.fr F1 (by decide) (by decide) (fun _ _ => rfl)⟩, ⟨fun x hx => ?_, d.2⟩, ⟨?_, ?_, ?_, ?_, g18, gc⟩, by omega, by omega, by omega, e4⟩
  · obtain ⟨d1, d2, d3, d4⟩ := d.1 x hx
    exact ⟨d1, d2, d3, by rw [wi1 (f' := 33) rfl (by decide)]; exact d4⟩
  · rw [gs_set, if_neg (by decide), g12]
  · rw [gs_set, if_pos rfl]
  · rw [gs_set, if_neg (by decide), g14]
  · rw [gs_set, if_neg (by decide), g15]
/-- the brackets -/
theorem RS.opn (R : RS bx C0 σ0 h L ha T W F nK gT op at_ cd lv C σ) {op' : Nat} (ho : op' ≤ 5) : RS bx C0 σ0 h L ha T W F nK gT op' at_ cd lv (xk_si C 34 (bx + 8) (nI op')) (gm_set σ 15 (nI op')) := by
  obtain ⟨⟨F0, M, m1, m2⟩, ⟨r35, i33, i34⟩, ⟨a1, a2, a3, a4, a5, a6, a7⟩, b, ⟨c1, c2⟩, d, ⟨g12, g13, g14, g15, g18, gc⟩, e1, e2, e3, e4⟩ := R
  have F1 : Fr [34] [] (fun _ _ => false) C (xk_si C 34 (bx + 8) (nI op')) := Fr.refl.si _ _ _ (.inl (by decide))
  refine ⟨⟨F0.si _ _ _ (.inl (by decide)), M.set _ _ (by decide), m1, m2⟩, ⟨r35, by rw [wi1 (f' := 34) rfl (by decide)]; exact i33, fun _ => by rw [i_si, if_pos ⟨rfl, rfl⟩]⟩, ⟨a1, a2, a3, a4, a5, (by rw [wi1 (f' := 34) rfl (by decide)]; exact a6), a7⟩, b, ⟨c1.fr F1 (by decide) (by decide) (fun _ _ => rfl), c2.fr F1 (by decide) (by decide) (fun _ _ => rfl)⟩, ⟨fun x hx => ?_, d.2⟩, ⟨?_, ?_, ?_, ?_, g18, gc⟩, e1, e2, e3, by omega⟩
  · obtain ⟨d1, d2, d3, d4⟩ := d.1 x hx
    exact ⟨d1, d2, d3, by rw [wi1 (f' := 34) rfl (by decide)]; exact d4⟩
  · rw [gs_set, if_neg (by decide), g12]
  · rw [gs_set, if_neg (by decide), g13]
  · rw [gs_set, if_neg (by decide), g14]
  · rw [gs_set, if_pos rfl, Nat.mod_eq_of_lt (by omega)]
/-- what doesn't touch it -/
theorem RS.fr {fi fq : List Nat} {E : Nat → Nat → Bool} (R : RS bx C0 σ0 h L ha T W F nK gT op at_ cd lv C σ) (hb : bx + 8 < xk_n C) (Q : Fr fi fq E C C') (F0 : Fr [33, 34] [35] (fun _ _ => false) C0 C') (h1 : ∀ f, f ∈ [33, 34, 65, 80, 103] → f ∉ fi) (h2 : ∀ f, f ∈ [35, 66, 67, 68, 69, 102] → f ∉ fq) (h3 : ∀ e, e < xk_n C → E 34 e = false) : RS bx C0 σ0 h L ha T W F nK gT op at_ cd lv C' σ := by
  obtain ⟨⟨-, M, m1, m2⟩, ⟨r35, i33, i34⟩, ⟨a1, a2, a3, a4, a5, a6, a7⟩, ⟨b1, b2, b3, b4, b5, b6, b7⟩, ⟨c1, c2⟩, d, g, e⟩ := R
  refine ⟨⟨F0, M, m1, m2⟩, ⟨(Q.r hb (h2 _ (by decide))).trans r35, (Q.i hb (h1 _ (by decide))).trans i33, fun ho => (Q.i hb (h1 _ (by decide))).trans (i34 ho)⟩, ⟨(Q.k a2).trans a1, Q.lt a2, (Q.r a2 (h2 _ (by decide))).trans a3, (Q.r a2 (h2 _ (by decide))).trans a4, (Q.r a2 (h2 _ (by decide))).trans a5, (Q.i a2 (h1 _ (by decide))).trans a6, (Q.r a2 (h2 _ (by decide))).trans a7⟩, ⟨b1, b2, b3, b4, b5, fun x hx => by rw [Q.d]; exact b6 x ((Q.r c2.2.1 (h2 _ (by decide))).symm.trans hx), fun x hx => by rw [Q.d]; exact b7 x ((Q.r c1.2.1 (h2 _ (by decide))).symm.trans hx)⟩, ⟨c1.fr Q (h1 _ (by decide)) (h2 _ (by decide)) h3, c2.fr Q (h1 _ (by decide)) (h2 _ (by decide)) h3⟩, ⟨fun x hx => ?_, d.2⟩, g, e⟩
  obtain ⟨d1, d2, d3, d4⟩ := d.1 x hx
  exact ⟨(Q.k d2).trans d1, Q.lt d2, d3, (Q.i d2 (h1 _ (by decide))).trans d4⟩
/-- a step goes out -/
theorem RS.emit (Z : RZ bx C0 σ0 h L) (R : RS bx C0 σ0 h L ha T W F nK gT op at_ cd lv C σ) (hl : cd.length < at_) (v : Int32) : ∃ σ', fX3_emits σ v = some σ' ∧ RS bx C0 σ0 h L ha T W F nK gT op at_ (cd ++ [v]) lv C σ' := by
  obtain ⟨⟨F0, M, m1, m2⟩, a, b, c, d, e, ⟨g12, g13, g14, g15, g18, gc⟩, e1, e2, e3, e4⟩ := R
  have h8 := Z.2.2.2.2.1
  have hL := Z.2.2.2.1
  unfold fX3_emits
  rw [g14, if_pos rfl, g12, m_rd σ (k := 18) (j := h) h8 (by omega), g18, ev_b, s_mul, s_add, m_wr σ (k := 17) (j := 140 * h + cd.length) _ (show 140 * h + cd.length < 1120 by omega) (by omega), ev_b, gs_sta, g12, m_rd _ (k := 18) (j := h) h8 (by omega), ev_b, ga_sta, if_neg (by omega), g18, m_wr _ (k := 18) (j := h) _ h8 (by omega), ev_b, s_a1]
  refine ⟨_, rfl, ⟨F0, (M.sta _ _ _ (by decide)).sta _ _ _ (by decide), fun j hj => ?_, fun j hj => ?_⟩, a, b, c, d, e, ⟨g12, g13, g14, g15, ?_, fun j hj => ?_⟩, e1, ?_, e3, e4⟩
  · rw [ga_sta, if_neg (by omega), ga_sta, if_neg (by omega)]; exact m1 j hj
  · rw [ga_sta, if_neg (by omega), ga_sta, if_neg (by omega)]; exact m2 j hj
  · rw [ga_sta, if_pos ⟨rfl, rfl⟩, List.length_append, List.length_singleton]
  · rw [List.length_append, List.length_singleton] at hj
    rw [ga_sta, if_neg (by omega), ga_sta]
    by_cases q : j = cd.length
    · subst q; rw [if_pos ⟨rfl, rfl⟩, List.getElem_append_right (Nat.le_refl _)]; simp
    · rw [if_neg (by omega), gc j (by omega), List.getElem_append_left (by omega)]
  · rw [List.length_append, List.length_singleton]; omega
/-- the class says: wrong -/
theorem wrong_x {β : Type} (k8 : xk_k C (bx + 8) = 3) (i33 : xk_i C 33 (bx + 8) = nI at_) (hb : bx + 8 < xk_n C) : ∃ C', ((xk_nw C 14).bind fun σ5 => (xk_gi σ5 33 (some (bx + 8))).bind fun v6 => (fX14_init (xk_n C) σ5 v6).bind fun r7 => some (r7.1, (Sum.inl (xk_n C) : Nat ⊕ β))) = some (C', .inl (xk_n C)) ∧ Fr [] [] (fun _ _ => false) C C' ∧ xk_k C' (xk_n C) = 15 ∧ xk_i C' 76 (xk_n C) = nI at_ ∧ xk_n C' = xk_n C + 1 ∧ xk_s C' = xk_s C + 7 := by
  have e : xk_nw C 14 = some (xk_mk C 15 0 7) := rfl
  have k1 : xk_k (xk_mk C 15 0 7) (bx + 8) = 3 := by rw [k_mk, if_neg (by omega)]; exact k8
  have i1 : xk_i (xk_mk C 15 0 7) 33 (bx + 8) = nI at_ := by rw [i_mk, if_neg (by omega)]; exact i33
  have kw : xk_k (xk_mk C 15 0 7) (xk_n C) = 15 := by rw [k_mk, if_pos rfl]
  have F1 : Fr [] [] (fun _ _ => false) C (xk_mk C 15 0 7) := Fr.refl.mk _ _ _ (by decide)
  have n1 : xk_n (xk_mk C 15 0 7) = xk_n C + 1 := rfl
  have s1 : xk_s (xk_mk C 15 0 7) = xk_s C + 7 := rfl
  rw [e, ev_b, g_i k1 rfl, i1, ev_b]
  generalize xk_mk C 15 0 7 = C1 at *
  unfold fX14_init fJ9_init fJ8_init_2 fJ8_init_2_B41
  rw [p_r kw rfl, ev_b, p_r (C := xk_sr C1 70 (xk_n C) (some (xk_n C))) kw rfl, ev_b]
  generalize h2 : xk_sr (xk_sr C1 70 (xk_n C) (some (xk_n C))) 71 (xk_n C) (xk_u1 (xk_sr C1 70 (xk_n C) (some (xk_n C)))) = C2
  have k2 : xk_k C2 (xk_n C) = 15 := by rw [← h2]; exact kw
  have F2 : Fr [] [] (fun _ _ => false) C C2 := by rw [← h2]; exact (F1.sr _ _ _ (.inr (Nat.le_refl _)) (by decide)).sr _ _ _ (.inr (Nat.le_refl _)) (by decide)
  have n2 : xk_n C2 = xk_n C + 1 := by rw [← h2]; exact n1
  have s2 : xk_s C2 = xk_s C + 7 := by rw [← h2]; exact s1
  rw [p_r k2 rfl, ev_b, if_pos rfl, p_r (C := xk_sr C2 72 (xk_n C) (xk_u2 C2)) k2 rfl, ev_b]
  generalize h3 : xk_sr (xk_sr C2 72 (xk_n C) (xk_u2 C2)) 71 (xk_n C) none = C3
  have k3 : xk_k C3 (xk_n C) = 15 := by rw [← h3]; exact k2
  have F3 : Fr [] [] (fun _ _ => false) C C3 := by rw [← h3]; exact (F2.sr _ _ _ (.inr (Nat.le_refl _)) (by decide)).sr _ _ _ (.inr (Nat.le_refl _)) (by decide)
  have n3 : xk_n C3 = xk_n C + 1 := by rw [← h3]; exact n2
  have s3 : xk_s C3 = xk_s C + 7 := by rw [← h3]; exact s2
  rw [p_r k3 rfl, ev_b, p_r (C := xk_sr C3 73 (xk_n C) none) k3 rfl, ev_b, if_pos rfl, p_r (C := xk_sr (xk_sr C3 73 (xk_n C) none) 70 (xk_n C) none) k3 rfl, ev_b, ev_b, ev_b, p_i (C := xk_sr (xk_sr (xk_sr C3 73 (xk_n C) none) 70 (xk_n C) none) 72 (xk_n C) none) k3 rfl, ev_b, ev_b]
  refine ⟨_, rfl, (((F3.sr _ _ _ (.inr (Nat.le_refl _)) (by decide)).sr _ _ _ (.inr (Nat.le_refl _)) (by decide)).sr _ _ _ (.inr (Nat.le_refl _)) (by decide)).si _ _ _ (.inr (Nat.le_refl _)), k3, by rw [i_si, if_pos ⟨rfl, rfl⟩], n3, s3⟩
theorem Fr.none0 {fi fq : List Nat} {E : Nat → Nat → Bool} (F0 : Fr fi fq E C0 C) (F1 : Fr [] [] (fun _ _ => false) C C') : Fr fi fq E C0 C' := F0.trans (F1.mono (by simp) (by simp) (fun _ _ _ => rfl))
/-- the reference is dead -/
theorem WR.dead {e : Nat} (H : WR C0 σ0 h L e at_ C σ) (M : Mf [15] [] σ σ') : WR C0 σ0 h L e at_ C σ' := by
  obtain ⟨⟨a, b, c, d⟩, k, i, g14, g13, hl⟩ := H
  exact ⟨⟨a, b.trans (M.mono (by decide) (by decide)), fun j hj => (M.2 17 (by simp) j).trans (c j hj), fun j hj => (M.2 18 (by simp) j).trans (d j hj)⟩, k, i, (M.1 14 (by decide)).trans g14, (M.1 13 (by decide)).trans g13, hl⟩
theorem dead14 (g : gs σ 14 = 1) : Mf [15] [] σ (gm_set σ 14 1) := ⟨fun k hk => by
    rw [gs_set]
    by_cases c : k = 14
    · rw [if_pos c, c, g]
    · rw [if_neg c], fun _ _ _ => rfl⟩
theorem dead13 : Mf [15] [] σ (gm_set σ 13 (gs σ 13 + 0)) := ⟨fun k hk => by
    rw [gs_set]
    by_cases c : k = 13
    · rw [if_pos c, c, Int32.add_zero]
    · rw [if_neg c], fun _ _ _ => rfl⟩
theorem dead_emits (g : gs σ 14 = 1) (v : Int32) : fX3_emits σ v = some σ := by
  unfold fX3_emits; rw [if_neg (by rw [g]; decide)]
theorem dead_must (g : gs σ 14 = 1) (v : Int32) : ∃ σ', fX3_must σ v = some σ' ∧ Mf [15] [] σ σ' := by
  unfold fX3_must fX3_must_B16 fX3_must_B21 fX3_must_B41
  rw [if_neg (by rw [g]; decide), m_pz (.inr rfl), ev_b, if_neg (by rw [gs_set, if_pos rfl]; decide), m_pt, ev_b]
  exact ⟨_, rfl, (dead14 g).trans dead13⟩
theorem dead_factor (N D : Nat) (g : gs σ 14 = 1) : fX3_factor N (D + 1) σ = some σ := by
  unfold fX3_factor fX3_factorB; rw [if_neg (by rw [g]; decide)]
theorem dead_every {N : Nat} (hN : 1 ≤ N) (Fm : gm_S → Option gm_S) (hF : Fm σ = some σ) (g : gs σ 14 = 1) : fX3_every Fm N σ = some σ := by
  obtain ⟨N, rfl⟩ : ∃ j, N = j + 1 := ⟨N - 1, by omega⟩
  unfold fX3_every fX3_every_L4
  rw [hF, ev_b, if_neg (by rw [g]; decide)]
theorem dead_some {N : Nat} (hN : 1 ≤ N) (Fm : gm_S → Option gm_S) (hF : Fm σ = some σ) (g : gs σ 14 = 1) : fX3_some Fm N σ = some σ := by
  have := dead_every hN Fm hF g
  obtain ⟨N, rfl⟩ : ∃ j, N = j + 1 := ⟨N - 1, by omega⟩
  unfold fX3_some fX3_some_L4
  rw [this, ev_b, if_neg (by rw [g]; decide)]
theorem dead_number {N : Nat} (hN : 1 ≤ N) (g : gs σ 14 = 1) : ∃ σ' v, fX3_number N σ = some (σ', v) ∧ Mf [15] [] σ σ' := by
  obtain ⟨N, rfl⟩ : ∃ j, N = j + 1 := ⟨N - 1, by omega⟩
  unfold fX3_number fX3_number_B22 fX3_number_B27 fX3_number_L34
  rw [if_neg (by rw [g]; decide), m_pz (.inr rfl), ev_b, if_neg (by decide), if_neg (by rw [gs_set, if_pos rfl]; decide)]
  exact ⟨_, _, rfl, dead14 g⟩
end
end
section
/-! STAGE 2: the reader: signs, numbers -/
def OB {β : Type} (C0 : xk_C) (σ0 : gm_S) (h L at_ : Nat) (C : xk_C) (rx : Option (xk_C × (Nat ⊕ β))) (rm : Option gm_S) : Prop :=
  ∃ C' σ' e at', rx = some (C', .inl e) ∧ rm = some σ' ∧ WR C0 σ0 h L e at' C' σ' ∧ at_ ≤ at' ∧ xk_n C' + 2 * at_ ≤ xk_n C + 2 * at' + 2 ∧ xk_s C' + 600 * at_ ≤ xk_s C + 600 * at' + 100
theorem gm_id (σ : gm_S) (k : Nat) (v : Int32) (h : gs σ k = v) : gm_set σ k v = σ := by
  unfold gm_set
  have : va_up σ.1 k v = σ.1 := by
    funext j
    unfold va_up
    by_cases c : j = k
    · subst c; rw [if_pos rfl]; exact h.symm
    · rw [if_neg c]
  rw [this]
section
variable {bx : Nat} {C0 C C' : xk_C} {σ0 σ σ' : gm_S} {h L ha T W F nK op at_ : Nat} {gT : Nat → Nat} {cd : List Int32} {lv : List (Nat × Nat)}
theorem RS.nb (Z : RZ bx C0 σ0 h L) (R : RS bx C0 σ0 h L ha T W F nK gT op at_ cd lv C σ) : bx + 19 ≤ xk_n C := Nat.le_trans Z.1.2.1 R.1.1.n
/-- both say: wrong, here -/
theorem RS.bad {β : Type} (Z : RZ bx C0 σ0 h L) (R : RS bx C0 σ0 h L ha T W F nK gT op at_ cd lv C σ) {σ' : gm_S} (M : Mf [15] [] (gm_set σ 14 1) σ') : OB (β := β) C0 σ0 h L at_ C ((xk_nw C 14).bind fun σ5 => (xk_gi σ5 33 (some (bx + 8))).bind fun v6 => (fX14_init (xk_n C) σ5 v6).bind fun r7 => some (r7.1, (Sum.inl (xk_n C) : Nat ⊕ β))) (some σ') := by
  have nb := R.nb Z
  obtain ⟨C', g, F1, k, i, n1, s1⟩ := wrong_x (β := β) (R.kr Z) R.2.1.2.1 (by omega)
  have hl := R.2.2.2.2.2.2.2.1
  obtain ⟨⟨F0, M0, m1, m2⟩, -, -, -, -, -, ⟨g12, g13, g14, -⟩, -⟩ := R
  refine ⟨C', σ', xk_n C, at_, g, rfl, ?_, Nat.le_refl _, by omega, by omega⟩
  refine WR.dead (σ := gm_set σ 14 1) ?_ M
  exact ⟨⟨F0.none0 F1, M0.set _ _ (by decide), m1, m2⟩, k, i, by rw [gs_set, if_pos rfl], by rw [gs_set, if_neg (by decide)]; exact g13, hl⟩
theorem sign_l (Z : RZ bx C0 σ0 h L) (R : RS bx C0 σ0 h L ha T W F nK gT op at_ cd lv C σ) {c : Nat} (hc : c < 128) :
    (at_ < L ∧ fX2_sign (bx + 8) C (nI c) = some (xk_si C 33 (bx + 8) (nI (at_ + 1)), .inr ()) ∧ fX3_must σ (nI c) = some (gm_set σ 13 (nI (at_ + 1))) ∧ RS bx C0 σ0 h L ha T W F nK gT op (at_ + 1) cd lv (xk_si C 33 (bx + 8) (nI (at_ + 1))) (gm_set σ 13 (nI (at_ + 1)))) ∨ OB C0 σ0 h L at_ C (fX2_sign (bx + 8) C (nI c)) (fX3_must σ (nI c)) := by
  obtain ⟨x, y, f1, f2, q, hl, -, -⟩ := R.next Z
  have kr := R.kr Z
  have g14 := R.2.2.2.2.2.2.1.2.2.1
  have g13 := R.2.2.2.2.2.2.1.2.1
  have i33 := R.2.1.2.1
  unfold fX2_sign fX3_must fX3_must_B16 fX3_must_B21 fX3_must_B41
  rw [g_is kr, ev_b, f1, ev_b, g14, if_pos rfl, f2, ev_b]
  by_cases e : x = nI c
  · have e' := (q.is hc).mp e
    left
    rw [if_pos e, if_pos e', g_i kr rfl, i33, ev_b, p_i kr rfl, ev_b, m_pz (.inl rfl), ev_b, gm_id σ 14 0 g14, if_pos g14, m_pt, ev_b, g13, s_a1]
    exact ⟨hl c e hc, rfl, rfl, R.stp Z (hl c e hc)⟩
  · have e' : ¬ y = nI c := fun z => e ((q.is hc).mpr z)
    right
    rw [if_neg e, if_neg e', m_pz (.inr rfl), ev_b, if_neg (by rw [gs_set, if_pos rfl]; decide), m_pt, ev_b]
    exact R.bad Z dead13
/-- the digits behind the first -/
theorem digits_l {N : Nat} (Z : RZ bx C0 σ0 h L) : ∀ n k v at_ kx km (C : xk_C) (σ : gm_S), k + n = 3 → 1 ≤ k → v < 10 ^ k → n < kx → n < km → RS bx C0 σ0 h L ha T W F nK gT op at_ cd lv C σ → ∃ C' σ' v' at', fX2_number_L55 N (bx + 8) kx C (nI v) (nI k) = some (C', .inr (nI v')) ∧ fX3_number_L34 N km σ (nI v) (nI k) = some (σ', nI v') ∧ v' < 1000 ∧ at_ ≤ at' ∧ RS bx C0 σ0 h L ha T W F nK gT op at' cd lv C' σ' ∧ Fr [33] [] (fun _ _ => false) C C' ∧ xk_n C' = xk_n C ∧ xk_s C' = xk_s C := by
  intro n
  induction n with
  | zero =>
    intro k v at_ kx km C σ hk hk1 hv hkx hkm R
    obtain ⟨kx, rfl⟩ : ∃ j, kx = j + 1 := ⟨kx - 1, by omega⟩
    obtain ⟨km, rfl⟩ : ∃ j, km = j + 1 := ⟨km - 1, by omega⟩
    have : k = 3 := by omega
    subst this
    rw [fX2_number_L55, fX3_number_L34, if_pos (by decide), if_pos (by decide)]
    exact ⟨C, σ, v, at_, rfl, rfl, by omega, Nat.le_refl _, R, Fr.refl, rfl, rfl⟩
  | succ n ih =>
    intro k v at_ kx km C σ hk hk1 hv hkx hkm R
    obtain ⟨kx, rfl⟩ : ∃ j, kx = j + 1 := ⟨kx - 1, by omega⟩
    obtain ⟨km, rfl⟩ : ∃ j, km = j + 1 := ⟨km - 1, by omega⟩
    have hv3 : v < 1000 := Nat.lt_of_lt_of_le hv (Nat.pow_le_pow_right (n := 10) (by omega) (show k ≤ 3 by omega))
    have ST : ∃ C' σ' v' at', some (C, (Sum.inr (nI v) : Nat ⊕ Int32)) = some (C', .inr (nI v')) ∧ some (σ, nI v) = some (σ', nI v') ∧ v' < 1000 ∧ at_ ≤ at' ∧ RS bx C0 σ0 h L ha T W F nK gT op at' cd lv C' σ' ∧ Fr [33] [] (fun _ _ => false) C C' ∧ xk_n C' = xk_n C ∧ xk_s C' = xk_s C := ⟨C, σ, v, at_, rfl, rfl, hv3, Nat.le_refl _, R, Fr.refl, rfl, rfl⟩
    obtain ⟨x, y, f1, f2, q, hl, hd, -⟩ := R.next Z
    have kr := R.kr Z
    have g14 := R.2.2.2.2.2.2.1.2.2.1
    have g13 := R.2.2.2.2.2.2.1.2.1
    have i33 := R.2.1.2.1
    have n3 : ¬ ((3 : Int32) ≤ nI k) := fun z => by have := (s_le 3 k (by omega) (by omega)).mp z; omega
    have n0 : ¬ (nI k = 0) := fun z => by have := (s_eq k 0 (by omega) (by omega)).mp z; omega
    rw [fX2_number_L55, fX3_number_L34, if_neg n3, if_neg n3, if_pos g14, f2, ev_b, if_neg n0]
    unfold fX3_number_B68
    rw [f2, ev_b, m_pt, ev_b, g13, s_a1, s_a1]
    by_cases v0 : v = 0
    · have lz : nI v ≤ 0 := by rw [v0]; decide
      rw [if_pos lz, if_pos lz]
      rcases in_ok y (nI 48) (nI 57) with e | ⟨e, -⟩
      · rw [e, ev_b, if_pos rfl]; exact ST
      · rw [e, ev_b, if_neg (by decide)]; exact ST
    · have lz : ¬ nI v ≤ 0 := fun z => by have := (s_le v 0 (by omega) (by omega)).mp z; omega
      rw [if_neg lz, if_neg lz, g_is kr, ev_b, f1, ev_b]
      rcases q.dg with ⟨d, hd9, ex, ey⟩ | ⟨hx, hy⟩
      · have hat : at_ < L := hl (48 + d) ex (by omega)
        rw [ex, ey, if_neg (fun z => by have := (s_lt _ _ (by omega) (by omega)).mp z; omega), ev_b, f1, ev_b, ex, if_neg (fun z => by have := (s_lt _ _ (by omega) (by omega)).mp z; omega)]
        have r36 : xk_r C 36 (bx + 8) = some bx := (R.1.1.r (by have := Z.1.2.1; omega) (by decide)).trans Z.2.1.1
        have kb : xk_k C bx = 1 := (R.1.1.k (by have := Z.1.2.1; omega)).trans Z.1.1
        have r8 : xk_r C 8 bx = some (bx + 5) := (R.1.1.r (by have := Z.1.2.1; omega) (by decide)).trans Z.1.2.2.2.2.1
        have ld : xk_ld (xk_si C 33 (bx + 8) (nI (at_ + 1))) 1 (some (bx + 5)) (nI at_) = some (nI (48 + d)) := by rw [← ex]; exact hd hat
        have ein : fX3_in (nI (48 + d)) (nI 48) (nI 57) = some 1 := by
          unfold fX3_in
          rw [if_neg (fun z => by have := (s_lt _ _ (by omega) (by omega)).mp z; omega), if_neg (fun z => by have := (s_lt _ _ (by omega) (by omega)).mp z; omega)]
        have ev : nI 10 * nI v + nI (48 + d) - nI 48 = nI (10 * v + d) := by rw [s_mul, s_add, s_sub _ _ (by omega)]; congr 1; omega
        rw [g_r kr rfl, r36, ev_b, g_r kb rfl, r8, ev_b, g_i kr rfl, i33, ev_b, p_i kr rfl, ev_b, s_a1, ld, ev_b, ein, ev_b, if_neg (by decide), ev]
        obtain ⟨C', σ', v', at', g1, g2, g3, g4, g5, g6, g7⟩ := ih (k + 1) (10 * v + d) (at_ + 1) kx km _ _ (by omega) (by omega) (by rw [Nat.pow_succ]; omega) (by omega) (by omega) (R.stp Z hat)
        exact ⟨C', σ', v', at', g1, g2, g3, by omega, g5, (Fr.refl.si _ _ _ (.inl (by decide))).trans g6, g7⟩
      · rw [hy, ev_b, ev_b, if_pos rfl]
        rcases hx with hx | hx
        · rw [if_pos hx]; exact ST
        · by_cases hx' : x < nI 48
          · rw [if_pos hx']; exact ST
          · rw [if_neg hx', f1, ev_b, if_pos hx]; exact ST
theorem number_l {N : Nat} (hN : 10 ≤ N) (Z : RZ bx C0 σ0 h L) (R : RS bx C0 σ0 h L ha T W F nK gT op at_ cd lv C σ) :
    (∃ C' σ' v at', fX2_number N (bx + 8) C = some (C', .inr (nI v)) ∧ fX3_number N σ = some (σ', nI v) ∧ v < 1000 ∧ at_ < at' ∧ RS bx C0 σ0 h L ha T W F nK gT op at' cd lv C' σ' ∧ Fr [33] [] (fun _ _ => false) C C' ∧ xk_n C' = xk_n C ∧ xk_s C' = xk_s C) ∨
    (∃ σ' v, fX3_number N σ = some (σ', v) ∧ OB C0 σ0 h L at_ C (fX2_number N (bx + 8) C) (some σ')) := by
  obtain ⟨N, rfl⟩ : ∃ j, N = j + 1 := ⟨N - 1, by omega⟩
  obtain ⟨x, y, f1, f2, q, hl, hd, -⟩ := R.next Z
  have kr := R.kr Z
  have g14 := R.2.2.2.2.2.2.1.2.2.1
  have g13 := R.2.2.2.2.2.2.1.2.1
  have i33 := R.2.1.2.1
  unfold fX2_number fX3_number fX3_number_B22 fX3_number_B27
  rw [g_is kr, ev_b, f1, ev_b, if_pos g14, f2, ev_b]
  rcases q.dg with ⟨d, hd9, ex, ey⟩ | ⟨hx, hy⟩
  · left
    have hat : at_ < L := hl (48 + d) ex (by omega)
    have r36 : xk_r C 36 (bx + 8) = some bx := (R.1.1.r (by have := Z.1.2.1; omega) (by decide)).trans Z.2.1.1
    have kb : xk_k C bx = 1 := (R.1.1.k (by have := Z.1.2.1; omega)).trans Z.1.1
    have r8 : xk_r C 8 bx = some (bx + 5) := (R.1.1.r (by have := Z.1.2.1; omega) (by decide)).trans Z.1.2.2.2.2.1
    have ld : xk_ld (xk_si C 33 (bx + 8) (nI (at_ + 1))) 1 (some (bx + 5)) (nI at_) = some (nI (48 + d)) := by rw [← ex]; exact hd hat
    have ein : fX3_in (nI (48 + d)) (nI 48) (nI 57) = some 1 := by
      unfold fX3_in
      rw [if_neg (fun z => by have := (s_lt _ _ (by omega) (by omega)).mp z; omega), if_neg (fun z => by have := (s_lt _ _ (by omega) (by omega)).mp z; omega)]
    have z0 : (0 : Int32) = nI 0 := rfl
    have ev : nI 10 * nI 0 + nI (48 + d) - nI 48 = nI d := by rw [s_mul, s_add, s_sub _ _ (by omega)]; congr 1; omega
    have ev2 : nI (48 + d) - nI 48 = nI d := by rw [s_sub _ _ (by omega)]; congr 1; omega
    rw [ex, ey, if_neg (fun z => by have := (s_lt _ _ (by omega) (by omega)).mp z; omega), ev_b, f1, ev_b, ex, if_pos ((s_le _ _ (by omega) (by omega)).mpr (by omega)), g_r kr rfl, r36, ev_b, g_r kb rfl, r8, ev_b, g_i kr rfl, i33, ev_b, p_i kr rfl, ev_b, s_a1, ld, ev_b, ein, ev_b, if_neg (by decide), m_pz (.inl rfl), ev_b, gm_id σ 14 0 g14, ev2]
    have hm : fX3_number_L34 (N + 1) (N + 1) σ 0 0 = fX3_number_L34 (N + 1) N (gm_set σ 13 (nI (at_ + 1))) (nI d) (nI 1) := by
      conv => lhs; unfold fX3_number_L34
      rw [if_neg (by decide), if_pos g14, f2, ev_b, ey, ein, ev_b, if_neg (by decide), if_pos rfl]
      unfold fX3_number_B68
      rw [f2, ev_b, m_pt, ev_b, g13, s_a1, z0, ey, ev, s_a1]
    rw [hm]
    obtain ⟨C', σ', v', at', k1, k2, k3, k4, k5, k6, k7⟩ := digits_l (N := N + 1) Z 2 1 d (at_ + 1) (N + 1) N _ _ (by omega) (by omega) (by omega) (by omega) (by omega) (R.stp Z hat)
    exact ⟨C', σ', v', at', k1, k2, k3, by omega, k5, (Fr.refl.si _ _ _ (.inl (by decide))).trans k6, k7⟩
  · right
    rw [ev_b, hy, ev_b, if_pos rfl, m_pz (.inr rfl), ev_b]
    have hm : fX3_number_L34 (N + 1) (N + 1) (gm_set σ 14 1) 0 0 = some (gm_set σ 14 1, 0) := by
      unfold fX3_number_L34
      rw [if_neg (by decide), if_neg (by rw [gs_set, if_pos rfl]; decide)]
    rw [hm]
    refine ⟨_, _, rfl, ?_⟩
    unfold fX2_number_B18
    have B := R.bad (β := Int32) Z (σ' := gm_set σ 14 1) Mf.refl
    rcases hx with hx | hx
    · rw [if_pos hx]; exact B
    · by_cases hx' : x < nI 48
      · rw [if_pos hx']; exact B
      · rw [if_neg hx', f1, ev_b, if_neg (Int32.not_le.mpr hx)]; exact B
/-- a bracket opens -/
theorem opens_l (Z : RZ bx C0 σ0 h L) (R : RS bx C0 σ0 h L ha T W F nK gT op at_ cd lv C σ) (hat : at_ < L) (ho : op ≤ 5) :
    (op < 5 ∧ fX2_opens (bx + 8) C = some (xk_si (xk_si C 34 (bx + 8) (nI (op + 1))) 33 (bx + 8) (nI (at_ + 1)), .inr ()) ∧ RS bx C0 σ0 h L ha T W F nK gT (op + 1) (at_ + 1) cd lv (xk_si (xk_si C 34 (bx + 8) (nI (op + 1))) 33 (bx + 8) (nI (at_ + 1))) (gm_set (gm_set σ 15 (nI (op + 1))) 13 (nI (at_ + 1)))) ∨ (op = 5 ∧ ∀ σ', Mf [15] [] (gm_set σ 14 1) σ' → OB C0 σ0 h L at_ C (fX2_opens (bx + 8) C) (some σ')) := by
  have kr := R.kr Z
  have i34 := R.2.1.2.2 ho
  have i33 := R.2.1.2.1
  unfold fX2_opens
  rw [g_i kr rfl, i34, ev_b]
  by_cases c : op = 5
  · right
    refine ⟨c, fun σ' M => ?_⟩
    rw [if_pos (by rw [c]; rfl)]
    exact R.bad Z M
  · left
    have i33' : xk_i (xk_si C 34 (bx + 8) (nI (op + 1))) 33 (bx + 8) = nI at_ := by rw [wi1 (f' := 34) rfl (by decide)]; exact i33
    have n5 : ¬ nI op = 5 := fun z => c ((s_eq op 5 (by omega) (by omega)).mp z)
    rw [if_neg n5, ev_b, p_i kr rfl, ev_b, s_a1, g_i (C := xk_si C 34 (bx + 8) (nI (op + 1))) kr rfl, i33', ev_b, p_i (C := xk_si C 34 (bx + 8) (nI (op + 1))) kr rfl, ev_b, s_a1]
    exact ⟨by omega, rfl, (R.opn (by omega)).stp Z hat⟩
end
end
