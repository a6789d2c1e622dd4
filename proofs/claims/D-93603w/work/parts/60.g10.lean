set_option maxRecDepth 16384
section
/-! STAGE 2: an image is filled -/
section
variable {bx a : Nat} {sh cr hb : Nat → Nat} {nS nC nH : Nat} {C0 C : xk_C} {σ : gm_S} {s : Nat → Int32}
/-- a write into the shells' row beyond what is there -/
theorem IB.e2 {i j p : Nat} {v : Int32} (H : IB bx a nS nC hb s i j C0 C) (hp : 3 * i ≤ p) : IB bx a nS nC hb s i j C0 (xk_se C (a + 2) p v) := by
  obtain ⟨⟨k, n0, n1, s1, F⟩, hi, hr, hk, h1, h2, h3, h4⟩ := H
  refine ⟨⟨k, n0, n1, s1, F.se _ _ _ (.inr (by omega))⟩, hi, hr, hk, fun q hq => ?_, fun q hq => ?_, fun q hq => ?_, h4⟩
  · rw [e_se, if_neg (by omega)]; exact h1 q hq
  · rw [e_se, if_neg (by omega), e_se, if_neg (by omega), e_se, if_neg (by omega)]; exact h2 q hq
  · simp only [e_se, show ¬ a + 3 = a + 2 by omega, false_and, if_false]; exact h3 q hq
theorem IB.e3 {i j p : Nat} {v : Int32} (H : IB bx a nS nC hb s i j C0 C) (hp : 7 * j ≤ p) : IB bx a nS nC hb s i j C0 (xk_se C (a + 3) p v) := by
  obtain ⟨⟨k, n0, n1, s1, F⟩, hi, hr, hk, h1, h2, h3, h4⟩ := H
  refine ⟨⟨k, n0, n1, s1, F.se _ _ _ (.inr (by omega))⟩, hi, hr, hk, fun q hq => ?_, fun q hq => ?_, fun q hq => ?_, h4⟩
  · rw [e_se, if_neg (by omega)]; exact h1 q hq
  · simp only [e_se, show ¬ a + 2 = a + 3 by omega, false_and, if_false]; exact h2 q hq
  · rw [e_se, if_neg (by omega), e_se, if_neg (by omega), e_se, if_neg (by omega), e_se, if_neg (by omega), e_se, if_neg (by omega), e_se, if_neg (by omega), e_se, if_neg (by omega)]; exact h3 q hq
theorem IB.cR {i j : Nat} (H : IB bx a nS nC hb s i j C0 C) (h : cR bx sh cr hb nS nC nH C0 σ) : cR bx sh cr hb nS nC nH C σ := h.fresh H.1.2.2.2.2
theorem IB.r {i j : Nat} (H : IB bx a nS nC hb s i j C0 C) : xk_gr C 97 (some a) = some (some (a + 2)) ∧ xk_gr C 98 (some a) = some (some (a + 3)) ∧ xk_gr C 99 (some a) = some (some (a + 4)) ∧ xk_gi C 91 (some a) = some (nI nS) ∧ xk_gi C 92 (some a) = some (nI nC) := by
  obtain ⟨⟨k, -⟩, hi, hr, -⟩ := H
  exact ⟨by rw [g_r k rfl, hr.2.1], by rw [g_r k rfl, hr.2.2.1], by rw [g_r k rfl, hr.2.2.2.1], by rw [g_i k rfl, hi.1], by rw [g_i k rfl, hi.2.1]⟩
theorem IB.st2 {i j p : Nat} {v : Int32} (H : IB bx a nS nC hb s i j C0 C) (hp : p < 3 * nS) (hn : nS ≤ 20) : xk_st C 0 (some (a + 2)) (nI p) v = some (xk_se C (a + 2) p v) := by
  obtain ⟨-, -, -, ⟨-, ⟨k, l⟩, -⟩, -⟩ := H
  exact p_st k (by omega) (by omega)
theorem IB.st3 {i j p : Nat} {v : Int32} (H : IB bx a nS nC hb s i j C0 C) (hp : p < 7 * nC) (hn : nC ≤ 12) : xk_st C 0 (some (a + 3)) (nI p) v = some (xk_se C (a + 3) p v) := by
  obtain ⟨-, -, -, ⟨-, -, ⟨k, l⟩, -⟩, -⟩ := H
  exact p_st k (by omega) (by omega)
theorem img_s (N : Nat) (h : cR bx sh cr hb nS nC nH C0 σ) : ∀ d k i C, i + d = nS → d < k → IB bx a nS nC hb (ga σ 1) i 0 C0 C → ∃ C', fX19_init_L143 N a k C (some bx) (nI i) = fX19_init_L225 N a N C' (some bx) 0 ∧ IB bx a nS nC hb (ga σ 1) nS 0 C0 C' := by
  have hn := h.n12
  have hn2 := h.n20
  intro d
  induction d with
  | zero =>
    intro k i C hid hk H
    obtain ⟨k, rfl⟩ : ∃ k', k = k' + 1 := ⟨k - 1, by omega⟩
    have : i = nS := by omega
    subst this
    refine ⟨C, ?_, H⟩
    unfold fX19_init_L143
    rw [H.r.2.2.2.1, ev_b, if_pos (lp_end _)]
  | succ d ih =>
    intro k i C hid hk H
    obtain ⟨k, rfl⟩ : ∃ k', k = k' + 1 := ⟨k - 1, by omega⟩
    have hi : i < nS := by omega
    have h0 := H.cR h
    have H1 := H.e2 (p := 3 * i) (v := ga σ 1 (70 + i)) (by omega)
    have h1 := H1.cR h
    have H2 := H1.e2 (p := 3 * i + 1) (v := ga σ 1 (90 + i)) (by omega)
    have h2 := H2.cR h
    have H3 := H2.e2 (p := 3 * i + 2) (v := ga σ 1 (110 + i)) (by omega)
    have H4 : IB bx a nS nC hb (ga σ 1) (i + 1) 0 C0 (xk_se (xk_se (xk_se C (a + 2) (3 * i) (ga σ 1 (70 + i))) (a + 2) (3 * i + 1) (ga σ 1 (90 + i))) (a + 2) (3 * i + 2) (ga σ 1 (110 + i))) := by
      obtain ⟨p1, p2, p3, p4, p5, p6, p7, p8⟩ := H3
      refine ⟨p1, p2, p3, p4, p5, fun q hq => ?_, p7, p8⟩
      by_cases e : q = i
      · subst e
        refine ⟨?_, ?_, ?_⟩
        · rw [e_se, if_neg (by omega), e_se, if_neg (by omega), e_se, if_pos ⟨rfl, rfl⟩]
        · rw [e_se, if_neg (by omega), e_se, if_pos ⟨rfl, rfl⟩]
        · rw [e_se, if_pos ⟨rfl, rfl⟩]
      · exact p6 q (by omega)
    obtain ⟨C', f, H'⟩ := ih k (i + 1) _ (by omega) (by omega) H4
    refine ⟨C', ?_, H'⟩
    rw [← f]
    conv => lhs; unfold fX19_init_L143
    unfold fX19_init_B216
    have m3 : (3 : Int32) * nI i = nI (3 * i) := s_mul 3 i
    have a1 : nI (3 * i) + 1 = nI (3 * i + 1) := s_add _ 1
    have a2 : nI (3 * i) + 2 = nI (3 * i + 2) := s_add _ 2
    rw [H.r.2.2.2.1, ev_b, if_neg (lp_go hi (by omega)), xr0 h0, ev_b, xi0 h0, ev_b, xg0 h0 hi, ev_b, xc5 h0 hi, ev_b, H.r.1, ev_b, x41 h0 hi, ev_b, m3, H.st2 (by omega) hn2, ev_b, H1.r.1, ev_b, x42 h1 hi, ev_b, a1, H1.st2 (by omega) hn2, ev_b, H2.r.1, ev_b, x43 h2 hi, ev_b, a2, s_a1]
    rcases h.2.2.oix hi with e | ⟨c, hc, e⟩
    · rw [e, rf_n, if_pos rfl, H2.st2 (by omega) hn2, ev_b]
    · rw [e, rf_s cr c (by omega), if_neg (by simp), ev_b, x44 h2 hc, ev_b, H2.st2 (by omega) hn2, ev_b]
theorem img_c (N : Nat) (h : cR bx sh cr hb nS nC nH C0 σ) (hbk : ∀ i, i < nH → xk_k C0 (hb i) = 14 ∧ hb i < xk_n C0) : ∀ d k i C, i + d = nC → d < k → IB bx a nS nC hb (ga σ 1) nS i C0 C → ∃ C', fX19_init_L225 N a k C (some bx) (nI i) = some (C', ()) ∧ IB bx a nS nC hb (ga σ 1) nS nC C0 C' := by
  have hn := h.n12
  have hn2 := h.n20
  have n8 := h.n8
  have hI := h.2.2
  intro d
  induction d with
  | zero =>
    intro k i C hid hk H
    obtain ⟨k, rfl⟩ : ∃ k', k = k' + 1 := ⟨k - 1, by omega⟩
    have : i = nC := by omega
    subst this
    refine ⟨C, ?_, H⟩
    unfold fX19_init_L225
    rw [H.r.2.2.2.2, ev_b, if_pos (lp_end _)]
  | succ d ih =>
    intro k i C hid hk H
    obtain ⟨k, rfl⟩ : ∃ k', k = k' + 1 := ⟨k - 1, by omega⟩
    have hi : i < nC := by omega
    have h0 := H.cR h
    obtain ⟨fl, efl⟩ : ∃ fl : Int32, fl = (if ga σ 1 (166 + i) = 2 then 1 else 0) + (if ga σ 1 (226 + i) = 1 then 2 else 0) + (if ga σ 1 (226 + i) = 2 then 4 else 0) := ⟨_, rfl⟩
    have H1 := H.e3 (p := 7 * i) (v := ga σ 1 (142 + i)) (by omega)
    have h1 := H1.cR h
    have H2 := H1.e3 (p := 7 * i + 1) (v := ga σ 1 (130 + i)) (by omega)
    have h2 := H2.cR h
    have H3 := H2.e3 (p := 7 * i + 2) (v := ga σ 1 (190 + i)) (by omega)
    have h3 := H3.cR h
    have H4 := H3.e3 (p := 7 * i + 3) (v := ga σ 1 (202 + i)) (by omega)
    have h4 := H4.cR h
    have H5 := H4.e3 (p := 7 * i + 4) (v := ga σ 1 (214 + i)) (by omega)
    have h5 := H5.cR h
    have H6 := H5.e3 (p := 7 * i + 5) (v := ga σ 1 (178 + i)) (by omega)
    have h6 := H6.cR h
    have H7 := H6.e3 (p := 7 * i + 6) (v := fl) (by omega)
    have h7 := H7.cR h
    have m7 : nI 7 * nI i = nI (7 * i) := s_mul 7 i
    have a1 : nI (7 * i) + 1 = nI (7 * i + 1) := s_add _ 1
    have a2 : nI (7 * i) + 2 = nI (7 * i + 2) := s_add _ 2
    have a3 : nI (7 * i) + 3 = nI (7 * i + 3) := s_add _ 3
    have a4 : nI (7 * i) + 4 = nI (7 * i + 4) := s_add _ 4
    have a5 : nI (7 * i) + 5 = nI (7 * i + 5) := s_add _ 5
    have a6 : nI (7 * i) + nI 6 = nI (7 * i + 6) := s_add _ 6
    have H8 : IB bx a nS nC hb (ga σ 1) nS (i + 1) C0 (xk_sq (xk_se (xk_se (xk_se (xk_se (xk_se (xk_se (xk_se C (a + 3) (7 * i) (ga σ 1 (142 + i))) (a + 3) (7 * i + 1) (ga σ 1 (130 + i))) (a + 3) (7 * i + 2) (ga σ 1 (190 + i))) (a + 3) (7 * i + 3) (ga σ 1 (202 + i))) (a + 3) (7 * i + 4) (ga σ 1 (214 + i))) (a + 3) (7 * i + 5) (ga σ 1 (178 + i))) (a + 3) (7 * i + 6) fl) (a + 4) i (rf hb (ga σ 1 (154 + i)))) := by
      obtain ⟨⟨p1, p1', p1'', p1s, p1F⟩, p2, p3, p4, p5, p6, p7, p8⟩ := H7
      refine ⟨⟨p1, p1', p1'', p1s, p1F.sq _ _ _ (.inr (by omega))⟩, p2, p3, p4, p5, p6, fun q hq => ?_, fun q hq => ?_⟩
      · by_cases e : q = i
        · subst e
          simp only [e_sq]
          refine ⟨?_, ?_, ?_, ?_, ?_, ?_, ?_⟩
          · rw [e_se, if_neg (by omega), e_se, if_neg (by omega), e_se, if_neg (by omega), e_se, if_neg (by omega), e_se, if_neg (by omega), e_se, if_neg (by omega), e_se, if_pos ⟨rfl, rfl⟩]
          · rw [e_se, if_neg (by omega), e_se, if_neg (by omega), e_se, if_neg (by omega), e_se, if_neg (by omega), e_se, if_neg (by omega), e_se, if_pos ⟨rfl, rfl⟩]
          · rw [e_se, if_neg (by omega), e_se, if_neg (by omega), e_se, if_neg (by omega), e_se, if_neg (by omega), e_se, if_pos ⟨rfl, rfl⟩]
          · rw [e_se, if_neg (by omega), e_se, if_neg (by omega), e_se, if_neg (by omega), e_se, if_pos ⟨rfl, rfl⟩]
          · rw [e_se, if_neg (by omega), e_se, if_neg (by omega), e_se, if_pos ⟨rfl, rfl⟩]
          · rw [e_se, if_neg (by omega), e_se, if_pos ⟨rfl, rfl⟩]
          · rw [e_se, if_pos ⟨rfl, rfl⟩]; exact efl
        · exact p7 q (by omega)
      · by_cases e : q = i
        · subst e; rw [q_sq, if_pos ⟨rfl, rfl⟩]
        · rw [q_sq, if_neg (fun h => e h.2)]; exact p8 q (by omega)
    obtain ⟨C', f, H'⟩ := ih k (i + 1) _ (by omega) (by omega) H8
    refine ⟨C', ?_, H'⟩
    rw [← f]
    conv => lhs; unfold fX19_init_L225
    -- the two references as numbers
    have n54 : ∀ (X : xk_C), cR bx sh cr hb nS nC nH X σ → ∀ (K : Int32 → Option (xk_C × Unit)), (if rf cr (ga σ 1 (214 + i)) = none then K (-1) else (some (rf cr (ga σ 1 (214 + i)))).bind fun v64 => (xk_gi X 44 v64).bind fun v65 => K v65) = K (ga σ 1 (214 + i)) := fun X hX K => by
      rcases (hI.2.2.1 i hi).2.2.2.2 with e | ⟨c, hc, e⟩
      · rw [e, rf_n, if_pos rfl]
      · rw [e, rf_s cr c (by omega), if_neg (by simp), ev_b, x44 hX hc, ev_b]
    have n53 : ∀ (X : xk_C), cR bx sh cr hb nS nC nH X σ → ∀ (K : Int32 → Option (xk_C × Unit)), (if rf sh (ga σ 1 (178 + i)) = none then K (-1) else (some (rf sh (ga σ 1 (178 + i)))).bind fun v69 => (xk_gi X 37 v69).bind fun v70 => K v70) = K (ga σ 1 (178 + i)) := fun X hX K => by
      rcases hI.nix hi with e | ⟨c, hc, e⟩
      · rw [e, rf_n, if_pos rfl]
      · rw [e, rf_s sh c (by omega), if_neg (by simp), ev_b, x37 hX hc, ev_b]
    rw [H.r.2.2.2.2, ev_b, if_neg (lp_go hi (by omega)), xr3 h0, ev_b, xi3 h0, ev_b, xg3 h0 hi, ev_b, xc6 h0 hi, ev_b, H.r.2.1, ev_b, x46 h0 hi, ev_b, m7, H.st3 (by omega) hn, ev_b, H1.r.2.1, ev_b, x47 h1 hi, ev_b, a1, H1.st3 (by omega) hn, ev_b, H2.r.2.1, ev_b, x48 h2 hi, ev_b, a2, H2.st3 (by omega) hn, ev_b, H3.r.2.1, ev_b, x49 h3 hi, ev_b, a3, H3.st3 (by omega) hn, ev_b, H4.r.2.1, ev_b, x54 h4 hi, ev_b]
    refine (n54 _ h4 _).trans ?_
    unfold fX19_init_B331
    rw [a4, H4.st3 (by omega) hn, ev_b, H5.r.2.1, ev_b, x53 h5 hi, ev_b]
    rw [m7]
    refine (n53 _ h5 _).trans ?_
    unfold fX19_init_B360 fX19_init_B384 fX19_init_B396 fX19_init_B409
    have q99 : ∀ (v : Int32), v = fl → ((xk_st (xk_se (xk_se (xk_se (xk_se (xk_se (xk_se C (a + 3) (7 * i) (ga σ 1 (142 + i))) (a + 3) (7 * i + 1) (ga σ 1 (130 + i))) (a + 3) (7 * i + 2) (ga σ 1 (190 + i))) (a + 3) (7 * i + 3) (ga σ 1 (202 + i))) (a + 3) (7 * i + 4) (ga σ 1 (214 + i))) (a + 3) (7 * i + 5) (ga σ 1 (178 + i))) 0 (some (a + 3)) (nI (7 * i + 6)) v).bind fun σ76 => (xk_gr σ76 99 (some a)).bind fun v77 => (xk_gr σ76 55 (some (cr i))).bind fun v78 => (xk_sa σ76 8 v77 (nI i) v78).bind fun σ79 => fX19_init_L225 N a k σ79 (some bx) (nI (i + 1))) = fX19_init_L225 N a k (xk_sq (xk_se (xk_se (xk_se (xk_se (xk_se (xk_se (xk_se C (a + 3) (7 * i) (ga σ 1 (142 + i))) (a + 3) (7 * i + 1) (ga σ 1 (130 + i))) (a + 3) (7 * i + 2) (ga σ 1 (190 + i))) (a + 3) (7 * i + 3) (ga σ 1 (202 + i))) (a + 3) (7 * i + 4) (ga σ 1 (214 + i))) (a + 3) (7 * i + 5) (ga σ 1 (178 + i))) (a + 3) (7 * i + 6) fl) (a + 4) i (rf hb (ga σ 1 (154 + i)))) (some bx) (nI (i + 1)) := fun v hv => by
      rw [hv, H6.st3 (by omega) hn, ev_b, H7.r.2.2.1, ev_b, x55 h7 hi, ev_b, p_sa (t := 8) H7.2.2.2.1.2.2.2.1 (by rw [H7.2.2.2.1.2.2.2.2]; exact hi) (by omega) ?_, ev_b]
      rcases (hI.2.2.1 i hi).2.2.2.1 with e | ⟨j, hj, e⟩
      · rw [e, rf_n]; rfl
      · rw [e, rf_s hb j (by omega)]
        show xk_hold 8 (xk_k _ (hb j)) = true
        rw [H7.1.2.2.2.2.k (hbk j hj).2, (hbk j hj).1]; rfl
    rw [a5, H5.st3 (by omega) hn, ev_b, H6.r.2.1, ev_b, x50 h6 hi, x51 h6 hi, x52 h6 hi]
    simp only [ev_b, m7, a6, s_a1]
    by_cases c2 : ga σ 1 (166 + i) = 2
    · by_cases c1 : ga σ 1 (226 + i) = 1
      · have c4 : ¬ ga σ 1 (226 + i) = 2 := by rw [c1]; decide
        simp only [if_pos c2, if_pos c1, if_neg c4, ev_10, if_false, if_true]
        exact q99 _ (by rw [efl, if_pos c2, if_pos c1, if_neg c4])
      · by_cases c4 : ga σ 1 (226 + i) = 2
        · simp only [if_pos c2, if_neg c1, if_pos c4, ev_10, if_false, if_true]
          exact q99 _ (by rw [efl, if_pos c2, if_neg c1, if_pos c4])
        · simp only [if_pos c2, if_neg c1, if_neg c4, ev_10, if_false, if_true]
          exact q99 _ (by rw [efl, if_pos c2, if_neg c1, if_neg c4])
    · by_cases c1 : ga σ 1 (226 + i) = 1
      · have c4 : ¬ ga σ 1 (226 + i) = 2 := by rw [c1]; decide
        simp only [if_neg c2, if_pos c1, if_neg c4, ev_10, if_false, if_true]
        exact q99 _ (by rw [efl, if_neg c2, if_pos c1, if_neg c4])
      · by_cases c4 : ga σ 1 (226 + i) = 2
        · simp only [if_neg c2, if_neg c1, if_pos c4, ev_10, if_false, if_true]
          exact q99 _ (by rw [efl, if_neg c2, if_neg c1, if_pos c4])
        · simp only [if_neg c2, if_neg c1, if_neg c4, if_true]
          exact q99 _ (by rw [efl, if_neg c2, if_neg c1, if_neg c4])
/-- an image is made -/
theorem img_new {N : Nat} (hN : 100 ≤ N) (h : cR bx sh cr hb nS nC nH C σ) (hbk : ∀ i, i < nH → xk_k C (hb i) = 14 ∧ hb i < xk_n C) : ∃ C', fX19_init N (xk_n C) (xk_mk C 20 0 10) (some bx) = some (C', ()) ∧ Fr [] [] (fun _ _ => false) C C' ∧ xk_n C' = xk_n C + 5 ∧ xk_s C' ≤ xk_s C + 400 ∧ IM bx sh hb nS nC nH (xk_n C) (ga σ 1) C' := by
  have hn := h.n12
  have hn2 := h.n20
  have nb := h.1.1.1.2.1
  obtain ⟨C1, f1, H1⟩ := img_a h
  obtain ⟨C2, f2, H2⟩ := img_s N h nS N 0 C1 (by omega) (by omega) H1
  obtain ⟨C3, f3, H3⟩ := img_c N h hbk nC N 0 C2 (by omega) (by omega) H2
  have f2' : fX19_init_L143 N (xk_n C) N C1 (some bx) 0 = fX19_init_L225 N (xk_n C) N C2 (some bx) 0 := f2
  have f3' : fX19_init_L225 N (xk_n C) N C2 (some bx) 0 = some (C3, ()) := f3
  obtain ⟨⟨k, n0, n1, s1, F⟩, hi, hr, ⟨⟨d1, d2⟩, ⟨e1, e2⟩, ⟨g1, g2⟩, ⟨j1, j2⟩⟩, h1, h2, h3, h4⟩ := H3
  refine ⟨C3, by rw [f1, f2', f3'], F, n1, s1, k, by omega, nS, nC, xk_n C + 1, xk_n C + 2, xk_n C + 3, xk_n C + 4, ⟨Nat.le_refl _, Nat.le_refl _, h.2.2⟩, hi, hr, ⟨⟨by omega, by omega, d1, d2⟩, ⟨by omega, by omega, e1, e2⟩, ⟨by omega, by omega, g1, g2⟩, ⟨by omega, j1, j2⟩⟩, h1, h2, h3, h4, fun q hq => ?_⟩
  have S := h.1.2.2.2.1
  have sn := S.2.1 q hq
  rw [F.i sn (by decide), F.i sn (by decide), F.i sn (by decide)]
  exact ⟨S.2.2.2.1 q hq, S.2.2.2.2.1 q hq, S.2.2.2.2.2.1 q hq⟩
end
end
section
/-! STAGE 2: a list loses its last; what putting back leaves -/
theorem L_remove {C : xk_C} {a n : Nat} {g : Nat → Nat} (h : pL C a (n + 1) g) (hU : U1 C) : ∃ C', fJ2_remove a C (nI n) = some (C', some (g n)) ∧ pL C' a n g ∧ Fr [101, 103] [] lsE C C' ∧ xk_n C' = xk_n C ∧ xk_s C' = xk_s C ∧ ∀ x m h, x ≠ a → pL C x m h → pL C' x m h := by
  have hn9 := h.n9
  obtain ⟨k, ha, hs, hg, e, he, hen, hek, hnl, hl, hd, hq⟩ := h
  have hend : e ≠ xk_d C := fun q => by have := hd.mpr q; omega
  have e1 : nI (n + 1) - 1 = nI n := by rw [s_s1 _ (by omega)]; rfl
  unfold fJ2_remove fJ6_checkIndex fJ7_checkIndex fJ2_fastRemove fJ2_fastRemove_B34
  rw [g_i k rfl, hs, ev_b, if_neg (s_nn n (by omega)), if_pos ((s_lt _ _ (by omega) (by omega)).mpr (by omega)), ev_b, ev_b, g_r k rfl, he, ev_b, g_lq (t := 4) hek (by omega) (by omega), hq n (by omega), ev_b, g_is k, ev_b, g_i k rfl, ev_b, p_i k rfl, ev_b]
  rw [g_i (C := xk_si C 101 a (xk_i C 101 a + 1)) (k := 21) k rfl, wi1 (f' := 101) rfl (by decide), hs, ev_b, e1, if_pos (Int32.le_refl _), p_i (C := xk_si C 101 a (xk_i C 101 a + 1)) (k := 21) k rfl, ev_b]
  rw [p_sa (t := 4) (C := xk_si (xk_si C 101 a (xk_i C 101 a + 1)) 103 a (nI n)) (v := none) hek (by rw [l_si, l_si]; omega) (by omega) rfl, ev_b, ev_b]
  refine ⟨_, rfl, ⟨k, ha, ?_, fun i hi => hg i (by omega), e, he, hen, hek, by show n ≤ xk_l C e; omega, hl, hd, fun i hi => ?_⟩, ((Fr.refl.si _ _ _ (.inl (by decide))).si _ _ _ (.inl (by decide))).sq _ _ _ (.inl (by rw [hek]; rfl)), rfl, rfl, fun x m h hxa hx => ?_⟩
  · rw [i_sq, i_si, if_pos ⟨rfl, rfl⟩]
  · rw [q_sq, if_neg (by omega)]; exact hq i (by omega)
  · obtain ⟨k', ha', hs', hg', e', he', hen', hek', hnl', hl', hd', hq'⟩ := hx
    refine ⟨k', ha', ?_, hg', e', he', hen', hek', hnl', hl', hd', fun i hi => ?_⟩
    · rw [i_sq, i_si, if_neg (fun q => hxa q.2), i_si, if_neg (by omega)]; exact hs'
    · rw [q_sq, if_neg]
      · exact hq' i hi
      · rintro ⟨rfl, -⟩
        rcases hU.2.2.1 x a e' k' k he' he with q | q
        · exact hend q
        · exact hxa q
def bkI : List Nat := [4, 5, 6, 41, 42, 46, 47, 48, 49, 50, 51, 52, 101, 103]
def bkR : List Nat := [43, 53, 54, 55]
def bkE (bx k a : Nat) : Bool := k == 34 || (k == 30 && a == bx + 4)
def BK (bx : Nat) (C C' : xk_C) : Prop := Fr bkI bkR (bkE bx) C C' ∧ (xk_n C' = xk_n C ∧ xk_s C' = xk_s C) ∧ ∀ x m g, x ≠ bx + 1 → x ≠ bx + 3 → pL C x m g → pL C' x m g
section
variable {bx : Nat} {C C' C'' : xk_C}
theorem BK.id : BK bx C C := ⟨Fr.refl, ⟨rfl, rfl⟩, fun _ _ _ _ _ h => h⟩
theorem BK.trans (h : BK bx C C') (h' : BK bx C' C'') : BK bx C C'' := ⟨h.1.trans h'.1, ⟨h'.2.1.1.trans h.2.1.1, h'.2.1.2.trans h.2.1.2⟩, fun x m g a b c => h'.2.2 x m g a b (h.2.2 x m g a b c)⟩
theorem BK.rm {a : Nat} (ha : a = bx + 1 ∨ a = bx + 3) (F : Fr [101, 103] [] lsE C C') (n : xk_n C' = xk_n C) (s : xk_s C' = xk_s C) (h : ∀ x m h, x ≠ a → pL C x m h → pL C' x m h) : BK bx C C' :=
  ⟨F.mono (by decide) (by decide) (fun k e q => by unfold bkE at q; unfold lsE; rw [Bool.or_eq_false_iff] at q; exact q.1), ⟨n, s⟩, fun x m g a b c => h x m g (by omega) c⟩
theorem BK.si (f a : Nat) (v : Int32) (hf : f ∈ bkI) (hf' : f ≠ 103) : BK bx C (xk_si C f a v) :=
  ⟨Fr.si Fr.refl _ _ _ (.inl hf), ⟨rfl, rfl⟩, fun x m g _ _ c => c.fr (fi := [f]) (fr := []) (E := fun _ _ => false) (Fr.si Fr.refl _ _ _ (.inl (by simp))) (by simp; omega) (by simp) (fun _ _ => rfl)⟩
theorem BK.sr (f a : Nat) (v : Option Nat) (hf : f ∈ bkR) (hf' : f ≠ 102) : BK bx C (xk_sr C f a v) :=
  ⟨Fr.sr Fr.refl _ _ _ (.inl hf) hf', ⟨rfl, rfl⟩, fun x m g _ _ c => c.fr (fi := []) (fr := [f]) (E := fun _ _ => false) (Fr.sr Fr.refl _ _ _ (.inl (by simp)) hf') (by simp) (by simp; omega) (fun _ _ => rfl)⟩
end
end
section
/-! STAGE 2: an image is put back -/
/-- the image with its parts -/
def IMb (bx : Nat) (sh hb : Nat → Nat) (iS iC nH E1 E2 E3 E4 im : Nat) (s : Nat → Int32) (C : xk_C) : Prop :=
  (xk_k C im = 20 ∧ im < xk_n C ∧ Iv iS iC nH s) ∧
  (xk_i C 91 im = nI iS ∧ xk_i C 92 im = nI iC ∧ xk_i C 93 im = s 2 ∧ xk_i C 94 im = s 3 ∧ xk_i C 95 im = s 4) ∧
  (xk_r C 96 im = some E1 ∧ xk_r C 97 im = some E2 ∧ xk_r C 98 im = some E3 ∧ xk_r C 99 im = some E4 ∧ xk_r C 100 im = some bx) ∧
  ((E1 < xk_n C ∧ bx + 19 ≤ E1 ∧ xk_k C E1 = 30 ∧ xk_l C E1 = 3) ∧ (E2 < xk_n C ∧ bx + 19 ≤ E2 ∧ xk_k C E2 = 30 ∧ xk_l C E2 = 3 * iS) ∧ (E3 < xk_n C ∧ bx + 19 ≤ E3 ∧ xk_k C E3 = 30 ∧ xk_l C E3 = 7 * iC) ∧ (E4 < xk_n C ∧ xk_k C E4 = 38 ∧ xk_l C E4 = iC)) ∧
  (∀ j, j < 3 → xk_e C E1 j = s (5 + j)) ∧
  (∀ k, k < iS → xk_e C E2 (3 * k) = s (70 + k) ∧ xk_e C E2 (3 * k + 1) = s (90 + k) ∧ xk_e C E2 (3 * k + 2) = s (110 + k)) ∧
  (∀ k, k < iC → xk_e C E3 (7 * k) = s (142 + k) ∧ xk_e C E3 (7 * k + 1) = s (130 + k) ∧ xk_e C E3 (7 * k + 2) = s (190 + k) ∧ xk_e C E3 (7 * k + 3) = s (202 + k) ∧ xk_e C E3 (7 * k + 4) = s (214 + k) ∧ xk_e C E3 (7 * k + 5) = s (178 + k) ∧ xk_e C E3 (7 * k + 6) = (if s (166 + k) = 2 then 1 else 0) + (if s (226 + k) = 1 then 2 else 0) + (if s (226 + k) = 2 then 4 else 0)) ∧
  (∀ k, k < iC → xk_q C E4 k = rf hb (s (154 + k))) ∧
  (∀ k, k < iS → xk_i C 38 (sh k) = s (10 + k) ∧ xk_i C 39 (sh k) = s (30 + k) ∧ xk_i C 40 (sh k) = s (50 + k)) ∧ (∀ k, k < iS → sh k < xk_n C)
section
variable {bx : Nat} {sh cr hb : Nat → Nat} {iS iC nH E1 E2 E3 E4 im : Nat} {s : Nat → Int32} {C C' C0 : xk_C}
theorem bkE_30 {w : Nat} (h : bx + 19 ≤ w) : bkE bx 30 w = false := by
  unfold bkE
  have : (w == bx + 4) = false := by rw [beq_eq_false_iff_ne]; omega
  rw [this]; rfl
theorem IMb.bk (H : IMb bx sh hb iS iC nH E1 E2 E3 E4 im s C) (B : BK bx C C') : IMb bx sh hb iS iC nH E1 E2 E3 E4 im s C' := by
  have F := B.1
  obtain ⟨⟨k, n, a3⟩, ⟨b1, b2, b3, b4, b5⟩, ⟨c1, c2, c3, c4, c5⟩, ⟨⟨d1, d2, d3, d4⟩, ⟨e1, e2, e3, e4⟩, ⟨f1, f2, f3, f4⟩, ⟨g1, g2, g3⟩⟩, q1, q2, q3, q4, q5, q6⟩ := H
  refine ⟨⟨(F.k n).trans k, F.lt n, a3⟩, ⟨?_, ?_, ?_, ?_, ?_⟩, ⟨?_, ?_, ?_, ?_, ?_⟩, ⟨⟨F.lt d1, d2, (F.k d1).trans d3, (F.l d1).trans d4⟩, ⟨F.lt e1, e2, (F.k e1).trans e3, (F.l e1).trans e4⟩, ⟨F.lt f1, f2, (F.k f1).trans f3, (F.l f1).trans f4⟩, ⟨F.lt g1, (F.k g1).trans g2, (F.l g1).trans g3⟩⟩, fun j hj => ?_, fun j hj => ?_, fun j hj => ?_, fun j hj => ?_, fun j hj => ?_, fun j hj => F.lt (q6 j hj)⟩
  · rw [F.i n (by decide)]; exact b1
  · rw [F.i n (by decide)]; exact b2
  · rw [F.i n (by decide)]; exact b3
  · rw [F.i n (by decide)]; exact b4
  · rw [F.i n (by decide)]; exact b5
  · rw [F.r n (by decide)]; exact c1
  · rw [F.r n (by decide)]; exact c2
  · rw [F.r n (by decide)]; exact c3
  · rw [F.r n (by decide)]; exact c4
  · rw [F.r n (by decide)]; exact c5
  · rw [F.e d1 (by rw [d3]; exact bkE_30 d2)]; exact q1 j hj
  · have fe := fun i => F.e e1 (by rw [e3]; exact bkE_30 e2) i
    rw [fe, fe, fe]; exact q2 j hj
  · have fe := fun i => F.e f1 (by rw [f3]; exact bkE_30 f2) i
    rw [fe, fe, fe, fe, fe, fe, fe]; exact q3 j hj
  · rw [F.q g1 (by rw [g2]; rfl)]; exact q4 j hj
  · have hj' := q6 j hj
    rw [F.i hj' (by decide), F.i hj' (by decide), F.i hj' (by decide)]; exact q5 j hj
/-- the state while it is put back: i shells, j crabs are as they were -/
def PK (bx : Nat) (sh cr hb : Nat → Nat) (iS iC nH E1 E2 E3 E4 im : Nat) (s : Nat → Int32) (i j : Nat) (C0 C : xk_C) : Prop :=
  BK bx C0 C ∧ IMb bx sh hb iS iC nH E1 E2 E3 E4 im s C ∧ (pB bx C ∧ pL C (bx + 1) iS sh ∧ pL C (bx + 3) iC cr) ∧
  (∀ k, k < iS → xk_k C (sh k) = 5 ∧ xk_i C 37 (sh k) = nI k) ∧ (∀ k, k < iC → xk_k C (cr k) = 6 ∧ xk_i C 44 (cr k) = nI k ∧ xk_r C 56 (cr k) = some bx ∧ cr k < xk_n C) ∧
  (∀ k, k < i → xk_i C 41 (sh k) = s (70 + k) ∧ xk_i C 42 (sh k) = s (90 + k) ∧ xk_r C 43 (sh k) = rf cr (s (110 + k))) ∧
  (∀ k, k < j → (xk_i C 46 (cr k) = s (142 + k) ∧ xk_i C 47 (cr k) = s (130 + k) ∧ xk_i C 48 (cr k) = s (190 + k) ∧ xk_i C 49 (cr k) = s (202 + k)) ∧ (xk_r C 53 (cr k) = rf sh (s (178 + k)) ∧ xk_r C 54 (cr k) = rf cr (s (214 + k)) ∧ xk_r C 55 (cr k) = rf hb (s (154 + k))) ∧ xk_i C 50 (cr k) = (if s (166 + k) = 2 then 1 else 0) ∧ xk_i C 51 (cr k) = (if s (226 + k) = 1 then 1 else 0) ∧ xk_i C 52 (cr k) = (if s (226 + k) = 2 then 1 else 0))
theorem crabAt_rf (hB : pB bx C) (L : pL C (bx + 3) iC cr) (hk : ∀ k, k < iC → xk_k C (cr k) = 6) (hn : iC ≤ 12) {v : Int32} (hv : ix iC v) : fX0_crabAt bx C v = some (rf cr v) := by
  unfold fX0_crabAt fX0_crabAt_B15
  rcases hv with rfl | ⟨i, hi, rfl⟩
  · rw [if_pos (by decide), rf_n]
  · rw [if_neg (s_nn i (by omega)), g_r hB.1.1 rfl, hB.2.1.2.2.1, ev_b, g_is L.1, ev_b, L.size, ev_b, if_pos ((s_lt _ _ (by omega) (by omega)).mpr hi), ev_b, g_is L.1, ev_b, L.get hi, ev_b, g_ck (hk i hi), ev_b, rf_s cr i (by omega)]
theorem shellAt_rf (hB : pB bx C) (L : pL C (bx + 1) iS sh) (hk : ∀ k, k < iS → xk_k C (sh k) = 5) (hn : iS ≤ 20) {v : Int32} (hv : ix iS v) : fX0_shellAt bx C v = some (rf sh v) := by
  unfold fX0_shellAt fX0_shellAt_B15
  rcases hv with rfl | ⟨i, hi, rfl⟩
  · rw [if_pos (by decide), rf_n]
  · rw [if_neg (s_nn i (by omega)), g_r hB.1.1 rfl, hB.2.1.1, ev_b, g_is L.1, ev_b, L.size, ev_b, if_pos ((s_lt _ _ (by omega) (by omega)).mpr hi), ev_b, g_is L.1, ev_b, L.get hi, ev_b, g_ck (hk i hi), ev_b, rf_s sh i (by omega)]
theorem bk_s {N : Nat} (hN : 100 ≤ N) (n20 : iS ≤ 20) (n12 : iC ≤ 12) : ∀ d k i C, i + d = iS → d < k → PK bx sh cr hb iS iC nH E1 E2 E3 E4 im s i 0 C0 C → ∃ C', fX19_putBack_L88 N im k C (nI i) = fX19_putBack_L173 N im N C' 0 ∧ PK bx sh cr hb iS iC nH E1 E2 E3 E4 im s iS 0 C0 C' := by
  intro d
  induction d with
  | zero =>
    intro k i C hid hk H
    obtain ⟨k, rfl⟩ : ∃ k', k = k' + 1 := ⟨k - 1, by omega⟩
    have : i = iS := by omega
    subst this
    refine ⟨C, ?_, H⟩
    unfold fX19_putBack_L88
    rw [g_i H.2.1.1.1 rfl, H.2.1.2.1.1, ev_b, if_pos (lp_end _)]
  | succ d ih =>
    intro k i C hid hk H
    obtain ⟨k, rfl⟩ : ∃ k', k = k' + 1 := ⟨k - 1, by omega⟩
    have hi : i < iS := by omega
    obtain ⟨B, I, ⟨hB, L1, L3⟩, hS, hC, h1, h2⟩ := H
    obtain ⟨⟨ki, im1, hI⟩, ⟨v91, -⟩, ⟨-, r97, -, -, r100⟩, ⟨-, ⟨e1, e2, e3, e4⟩, -⟩, -, q2, -⟩ := id I
    have k5 := (hS i hi).1
    have inj : ∀ q, q < iS → sh q = sh i → q = i := fun q hq e => by
      have := (hS q hq).2; rw [e, (hS i hi).2, s_eq _ _ (by omega) (by omega)] at this; exact this.symm
    have m3 : (3 : Int32) * nI i = nI (3 * i) := s_mul 3 i
    have a1 : nI (3 * i) + 1 = nI (3 * i + 1) := s_add _ 1
    have a2 : nI (3 * i) + 2 = nI (3 * i + 2) := s_add _ 2
    have B1 : BK bx C (xk_si C 41 (sh i) (s (70 + i))) := BK.si _ _ _ (by decide) (by decide)
    have I1 := I.bk B1
    have L11 : pL (xk_si C 41 (sh i) (s (70 + i))) (bx + 1) iS sh := L1.fr (fi := [41]) (fr := []) (E := fun _ _ => false) (Fr.si Fr.refl _ _ _ (.inl (by simp))) (by decide) (by decide) (fun _ _ => rfl)
    have L31 : pL (xk_si C 41 (sh i) (s (70 + i))) (bx + 3) iC cr := L3.fr (fi := [41]) (fr := []) (E := fun _ _ => false) (Fr.si Fr.refl _ _ _ (.inl (by simp))) (by decide) (by decide) (fun _ _ => rfl)
    have hB1 : pB bx (xk_si C 41 (sh i) (s (70 + i))) := hB.fr B1.1 (by decide)
    have F3 : Fr [41, 42] [43] (fun _ _ => false) C (xk_sr (xk_si (xk_si C 41 (sh i) (s (70 + i))) 42 (sh i) (s (90 + i))) 43 (sh i) (rf cr (s (110 + i)))) := ((Fr.refl.si _ _ _ (.inl (by decide))).si _ _ _ (.inl (by decide))).sr _ _ _ (.inl (by decide)) (by decide)
    have B3 : BK bx C (xk_sr (xk_si (xk_si C 41 (sh i) (s (70 + i))) 42 (sh i) (s (90 + i))) 43 (sh i) (rf cr (s (110 + i)))) := (B1.trans (BK.si _ _ _ (by decide) (by decide))).trans (BK.sr _ _ _ (by decide) (by decide))
    have H' : PK bx sh cr hb iS iC nH E1 E2 E3 E4 im s (i + 1) 0 C0 (xk_sr (xk_si (xk_si C 41 (sh i) (s (70 + i))) 42 (sh i) (s (90 + i))) 43 (sh i) (rf cr (s (110 + i)))) := by
      refine ⟨B.trans B3, I.bk B3, ⟨hB.fr F3 (by decide), L1.fr F3 (by decide) (by decide) (fun _ _ => rfl), L3.fr F3 (by decide) (by decide) (fun _ _ => rfl)⟩, fun q hq => ⟨(hS q hq).1, ?_⟩, fun q hq => ?_, fun q hq => ?_, fun q hq => by omega⟩
      · rw [i_sr, i_si, if_neg (by omega), i_si, if_neg (by omega)]; exact (hS q hq).2
      · obtain ⟨c1, c2, c3, c4⟩ := hC q hq
        refine ⟨c1, ?_, ?_, c4⟩
        · rw [i_sr, i_si, if_neg (by omega), i_si, if_neg (by omega)]; exact c2
        · rw [r_sr, if_neg (by omega), r_si, r_si]; exact c3
      · by_cases e : q = i
        · subst e
          refine ⟨?_, ?_, ?_⟩
          · rw [i_sr, i_si, if_neg (by omega), i_si, if_pos ⟨rfl, rfl⟩]
          · rw [i_sr, i_si, if_pos ⟨rfl, rfl⟩]
          · rw [r_sr, if_pos ⟨rfl, rfl⟩]
        · have ne : ¬ sh q = sh i := fun x => e (inj q (by omega) x)
          obtain ⟨y1, y2, y3⟩ := h1 q (by omega)
          refine ⟨?_, ?_, ?_⟩
          · rw [i_sr, i_si, if_neg (fun x => ne x.2), i_si, if_neg (fun x => ne x.2)]; exact y1
          · rw [i_sr, i_si, if_neg (fun x => ne x.2), i_si, if_neg (fun x => ne x.2)]; exact y2
          · rw [r_sr, if_neg (fun x => ne x.2), r_si, r_si]; exact y3
    obtain ⟨C', f, Hf⟩ := ih k (i + 1) _ (by omega) (by omega) H'
    refine ⟨C', ?_, Hf⟩
    rw [← f]
    conv => lhs; unfold fX19_putBack_L88
    unfold fX4_become
    have gi : fJ2_get (bx + 1) C (nI i) = some (some (sh i)) := L1.get hi
    have gi1 : fJ2_get (bx + 1) (xk_si C 41 (sh i) (s (70 + i))) (nI i) = some (some (sh i)) := L11.get hi
    have cat : fX0_crabAt bx (xk_si C 41 (sh i) (s (70 + i))) (s (110 + i)) = some (rf cr (s (110 + i))) := crabAt_rf hB1 L31 (fun q hq => (hC q hq).1) n12 (hI.oix hi)
    rw [g_i ki rfl, v91, ev_b, if_neg (lp_go hi (by omega)), g_r ki rfl, r100, ev_b, g_r hB.1.1 rfl, hB.2.1.1, ev_b, g_is L1.1, ev_b, gi, ev_b, g_ck k5, ev_b, g_r ki rfl, r97, ev_b, m3, g_ld (t := 0) e3 (by omega) (by omega), (q2 i hi).1, ev_b, p_i k5 rfl, ev_b]
    obtain ⟨⟨ki1, -, -⟩, -, ⟨-, r971, -, -, r1001⟩, ⟨-, ⟨e11, e21, e31, e41⟩, -⟩, -, q21, -⟩ := id I1
    rw [g_r ki1 rfl, r1001, ev_b, g_r hB1.1.1 rfl, hB1.2.1.1, ev_b, g_is L11.1, ev_b, gi1, ev_b, g_ck (C := xk_si C 41 (sh i) (s (70 + i))) k5, ev_b, g_r ki1 rfl, r971, ev_b, a1, g_ld (t := 0) e31 (by omega) (by omega), (q21 i hi).2.1, ev_b, ev_b, ev_b, a2, g_ld (t := 0) e31 (by omega) (by omega), (q21 i hi).2.2, ev_b, g_is hB1.1.1, ev_b, cat, ev_b, g_is (C := xk_si C 41 (sh i) (s (70 + i))) k5, ev_b, p_i (C := xk_si C 41 (sh i) (s (70 + i))) (k := 5) k5 rfl, ev_b, p_r (C := xk_si (xk_si C 41 (sh i) (s (70 + i))) 42 (sh i) (s (90 + i))) (k := 5) k5 rfl, ev_b, ev_b, s_a1]
end
end
section
/-! STAGE 2: crabs are put back -/
section
variable {bx : Nat} {sh cr hb : Nat → Nat} {iS iC nH E1 E2 E3 E4 im : Nat} {s : Nat → Int32} {C C' C0 : xk_C}
def flg (s : Nat → Int32) (k : Nat) : Int32 := (if s (166 + k) = 2 then 1 else 0) + (if s (226 + k) = 1 then 2 else 0) + (if s (226 + k) = 2 then 4 else 0)
theorem flg_b (s : Nat → Int32) (k : Nat) : ((flg s k &&& 1 = 1) ↔ s (166 + k) = 2) ∧ ((flg s k &&& 2 = 2) ↔ s (226 + k) = 1) ∧ ((flg s k &&& 4 = 4) ↔ s (226 + k) = 2) := by
  unfold flg
  by_cases c2 : s (166 + k) = 2
  · by_cases c1 : s (226 + k) = 1
    · have c4 : ¬ s (226 + k) = 2 := by rw [c1]; decide
      rw [if_pos c2, if_pos c1, if_neg c4]
      exact ⟨⟨fun _ => c2, fun _ => by decide⟩, ⟨fun _ => c1, fun _ => by decide⟩, ⟨fun h => absurd h (by decide), fun h => absurd h c4⟩⟩
    · by_cases c4 : s (226 + k) = 2
      · rw [if_pos c2, if_neg c1, if_pos c4]
        exact ⟨⟨fun _ => c2, fun _ => by decide⟩, ⟨fun h => absurd h (by decide), fun h => absurd h c1⟩, ⟨fun _ => c4, fun _ => by decide⟩⟩
      · rw [if_pos c2, if_neg c1, if_neg c4]
        exact ⟨⟨fun _ => c2, fun _ => by decide⟩, ⟨fun h => absurd h (by decide), fun h => absurd h c1⟩, ⟨fun h => absurd h (by decide), fun h => absurd h c4⟩⟩
  · by_cases c1 : s (226 + k) = 1
    · have c4 : ¬ s (226 + k) = 2 := by rw [c1]; decide
      rw [if_neg c2, if_pos c1, if_neg c4]
      exact ⟨⟨fun h => absurd h (by decide), fun h => absurd h c2⟩, ⟨fun _ => c1, fun _ => by decide⟩, ⟨fun h => absurd h (by decide), fun h => absurd h c4⟩⟩
    · by_cases c4 : s (226 + k) = 2
      · rw [if_neg c2, if_neg c1, if_pos c4]
        exact ⟨⟨fun h => absurd h (by decide), fun h => absurd h c2⟩, ⟨fun h => absurd h (by decide), fun h => absurd h c1⟩, ⟨fun _ => c4, fun _ => by decide⟩⟩
      · rw [if_neg c2, if_neg c1, if_neg c4]
        exact ⟨⟨fun h => absurd h (by decide), fun h => absurd h c2⟩, ⟨fun h => absurd h (by decide), fun h => absurd h c1⟩, ⟨fun h => absurd h (by decide), fun h => absurd h c4⟩⟩
theorem IMb.rd (I : IMb bx sh hb iS iC nH E1 E2 E3 E4 im s C) (n12 : iC ≤ 12) {i : Nat} (hi : i < iC) : xk_gr C 98 (some im) = some (some E3) ∧ xk_gr C 99 (some im) = some (some E4) ∧ xk_gr C 100 (some im) = some (some bx) ∧ xk_ld C 0 (some E3) (nI (7 * i)) = some (s (142 + i)) ∧ xk_ld C 0 (some E3) (nI (7 * i + 1)) = some (s (130 + i)) ∧ xk_ld C 0 (some E3) (nI (7 * i + 2)) = some (s (190 + i)) ∧ xk_ld C 0 (some E3) (nI (7 * i + 3)) = some (s (202 + i)) ∧ xk_ld C 0 (some E3) (nI (7 * i + 4)) = some (s (214 + i)) ∧ xk_ld C 0 (some E3) (nI (7 * i + 5)) = some (s (178 + i)) ∧ xk_ld C 0 (some E3) (nI (7 * i + 6)) = some (flg s i) ∧ xk_lq C 8 (some E4) (nI i) = some (rf hb (s (154 + i))) := by
  obtain ⟨⟨ki, -, -⟩, -, ⟨-, -, r98, r99, r100⟩, ⟨-, -, ⟨-, -, f3, f4⟩, ⟨-, g2, g3⟩⟩, -, -, q3, q4, -⟩ := I
  obtain ⟨y1, y2, y3, y4, y5, y6, y7⟩ := q3 i hi
  refine ⟨by rw [g_r ki rfl, r98], by rw [g_r ki rfl, r99], by rw [g_r ki rfl, r100], ?_, ?_, ?_, ?_, ?_, ?_, ?_, ?_⟩
  · rw [g_ld (t := 0) f3 (by omega) (by omega), y1]
  · rw [g_ld (t := 0) f3 (by omega) (by omega), y2]
  · rw [g_ld (t := 0) f3 (by omega) (by omega), y3]
  · rw [g_ld (t := 0) f3 (by omega) (by omega), y4]
  · rw [g_ld (t := 0) f3 (by omega) (by omega), y5]
  · rw [g_ld (t := 0) f3 (by omega) (by omega), y6]
  · rw [g_ld (t := 0) f3 (by omega) (by omega), y7]; rfl
  · rw [g_lq (t := 8) g2 (by omega) (by omega), q4 i hi]
def gI : List Nat := [46, 47, 48, 49, 50, 51, 52]
def gR : List Nat := [53, 54, 55]
/-- a crab's fields are set -/
def crset (C : xk_C) (a : Nat) (v46 v47 v48 v49 : Int32) (v54 v53 : Option Nat) (v50 v51 v52 : Int32) (v55 : Option Nat) : xk_C := xk_sr (xk_si (xk_si (xk_si (xk_sr (xk_sr (xk_si (xk_si (xk_si (xk_si C 46 a v46) 47 a v47) 48 a v48) 49 a v49) 54 a v54) 53 a v53) 50 a v50) 51 a v51) 52 a v52) 55 a v55
theorem crset_i (C : xk_C) (a : Nat) (v46 v47 v48 v49 : Int32) (v54 v53 : Option Nat) (v50 v51 v52 : Int32) (v55 : Option Nat) (f b : Nat) (h : b ≠ a ∨ f ∉ gI) : xk_i (crset C a v46 v47 v48 v49 v54 v53 v50 v51 v52 v55) f b = xk_i C f b := by
  have hx : ∀ g, g ∈ gI → ¬ (f = g ∧ b = a) := fun g hg e => by
    rcases h with h | h
    · exact h e.2
    · exact h (by rw [e.1]; exact hg)
  unfold crset
  rw [i_sr, i_si, if_neg (hx 52 (by decide)), i_si, if_neg (hx 51 (by decide)), i_si, if_neg (hx 50 (by decide)), i_sr, i_sr, i_si, if_neg (hx 49 (by decide)), i_si, if_neg (hx 48 (by decide)), i_si, if_neg (hx 47 (by decide)), i_si, if_neg (hx 46 (by decide))]
theorem crset_r (C : xk_C) (a : Nat) (v46 v47 v48 v49 : Int32) (v54 v53 : Option Nat) (v50 v51 v52 : Int32) (v55 : Option Nat) (f b : Nat) (h : b ≠ a ∨ f ∉ gR) : xk_r (crset C a v46 v47 v48 v49 v54 v53 v50 v51 v52 v55) f b = xk_r C f b := by
  have hx : ∀ g, g ∈ gR → ¬ (f = g ∧ b = a) := fun g hg e => by
    rcases h with h | h
    · exact h e.2
    · exact h (by rw [e.1]; exact hg)
  unfold crset
  rw [r_sr, if_neg (hx 55 (by decide)), r_si, r_si, r_si, r_sr, if_neg (hx 53 (by decide)), r_sr, if_neg (hx 54 (by decide)), r_si, r_si, r_si, r_si]
theorem crset_v (C : xk_C) (a : Nat) (v46 v47 v48 v49 : Int32) (v54 v53 : Option Nat) (v50 v51 v52 : Int32) (v55 : Option Nat) : (xk_i (crset C a v46 v47 v48 v49 v54 v53 v50 v51 v52 v55) 46 a = v46 ∧ xk_i (crset C a v46 v47 v48 v49 v54 v53 v50 v51 v52 v55) 47 a = v47 ∧ xk_i (crset C a v46 v47 v48 v49 v54 v53 v50 v51 v52 v55) 48 a = v48 ∧ xk_i (crset C a v46 v47 v48 v49 v54 v53 v50 v51 v52 v55) 49 a = v49) ∧ (xk_r (crset C a v46 v47 v48 v49 v54 v53 v50 v51 v52 v55) 53 a = v53 ∧ xk_r (crset C a v46 v47 v48 v49 v54 v53 v50 v51 v52 v55) 54 a = v54 ∧ xk_r (crset C a v46 v47 v48 v49 v54 v53 v50 v51 v52 v55) 55 a = v55) ∧ xk_i (crset C a v46 v47 v48 v49 v54 v53 v50 v51 v52 v55) 50 a = v50 ∧ xk_i (crset C a v46 v47 v48 v49 v54 v53 v50 v51 v52 v55) 51 a = v51 ∧ xk_i (crset C a v46 v47 v48 v49 v54 v53 v50 v51 v52 v55) 52 a = v52 := by
  unfold crset
  simp only [i_sr, i_si, r_si, r_sr, and_true, Nat.reduceEqDiff, if_false, if_true, and_self]
theorem bk_c {N : Nat} (n20 : iS ≤ 20) (n12 : iC ≤ 12) : ∀ d k i C, i + d = iC → d < k → PK bx sh cr hb iS iC nH E1 E2 E3 E4 im s iS i C0 C → ∃ C', fX19_putBack_L173 N im k C (nI i) = fX19_putBack_L173 N im (k - d) C' (nI iC) ∧ PK bx sh cr hb iS iC nH E1 E2 E3 E4 im s iS iC C0 C' := by
  intro d
  induction d with
  | zero =>
    intro k i C hid hk H
    have : i = iC := by omega
    subst this
    exact ⟨C, rfl, H⟩
  | succ d ih =>
    intro k i C hid hk H
    obtain ⟨k, rfl⟩ : ∃ k', k = k' + 1 := ⟨k - 1, by omega⟩
    have hi : i < iC := by omega
    obtain ⟨B, I, ⟨hB, L1, L3⟩, hS, hC, h1, h2⟩ := H
    obtain ⟨ki, im1, hI⟩ := I.1
    have v92 := I.2.1.2.1
    obtain ⟨k6, i44, r56, crn⟩ := hC i hi
    have inj : ∀ q, q < iC → cr q = cr i → q = i := fun q hq e => by
      have := (hC q hq).2.1; rw [e, i44, s_eq _ _ (by omega) (by omega)] at this; exact this.symm
    have m7 : nI 7 * nI i = nI (7 * i) := s_mul 7 i
    have a1 : nI (7 * i) + 1 = nI (7 * i + 1) := s_add _ 1
    have a2 : nI (7 * i) + 2 = nI (7 * i + 2) := s_add _ 2
    have a3 : nI (7 * i) + 3 = nI (7 * i + 3) := s_add _ 3
    have a4 : nI (7 * i) + 4 = nI (7 * i + 4) := s_add _ 4
    have a5 : nI (7 * i) + 5 = nI (7 * i + 5) := s_add _ 5
    have a6 : nI (7 * i) + nI 6 = nI (7 * i + 6) := s_add _ 6
    -- facts in a heap that differs in crabs' fields alone
    have U : ∀ X, Fr gI gR (fun _ _ => false) C X → BK bx C X → IMb bx sh hb iS iC nH E1 E2 E3 E4 im s X ∧ xk_k X (cr i) = 6 ∧ fX0_crabAt bx X (s (214 + i)) = some (rf cr (s (214 + i))) ∧ fX0_shellAt bx X (s (178 + i)) = some (rf sh (s (178 + i))) ∧ xk_k X bx = 1 := fun X F BX => by
      have hBX := hB.fr F (by decide)
      refine ⟨I.bk BX, (F.k crn).trans k6, crabAt_rf hBX (L3.fr F (by decide) (by decide) (fun _ _ => rfl)) (fun q hq => (F.k (hC q hq).2.2.2).trans (hC q hq).1) n12 (hI.2.2.1 i hi).2.2.2.2, shellAt_rf hBX (L1.fr F (by decide) (by decide) (fun _ _ => rfl)) (fun q hq => (F.k (I.2.2.2.2.2.2.2.2.2 q hq)).trans (hS q hq).1) n20 (hI.nix hi), hBX.1.1⟩
    -- the chain of heaps
    obtain ⟨c0, e0⟩ : ∃ c, c = C := ⟨_, rfl⟩
    have F1 : Fr gI gR (fun _ _ => false) C (xk_si C 46 (cr i) (s (142 + i))) := Fr.refl.si _ _ _ (.inl (by decide))
    have B1 : BK bx C (xk_si C 46 (cr i) (s (142 + i))) := BK.si _ _ _ (by decide) (by decide)
    have F2 := F1.si 47 (cr i) (s (130 + i)) (.inl (by decide))
    have B2 := B1.trans (BK.si 47 (cr i) (s (130 + i)) (by decide) (by decide))
    have F3 := F2.si 48 (cr i) (s (190 + i)) (.inl (by decide))
    have B3 := B2.trans (BK.si 48 (cr i) (s (190 + i)) (by decide) (by decide))
    have F4 := F3.si 49 (cr i) (s (202 + i)) (.inl (by decide))
    have B4 := B3.trans (BK.si 49 (cr i) (s (202 + i)) (by decide) (by decide))
    have F5 := F4.sr 54 (cr i) (rf cr (s (214 + i))) (.inl (by decide)) (by decide)
    have B5 := B4.trans (BK.sr 54 (cr i) (rf cr (s (214 + i))) (by decide) (by decide))
    have F6 := F5.sr 53 (cr i) (rf sh (s (178 + i))) (.inl (by decide)) (by decide)
    have B6 := B5.trans (BK.sr 53 (cr i) (rf sh (s (178 + i))) (by decide) (by decide))
    -- the flags
    have tail : ∀ (v50 v51 v52 : Int32), (v50 = 0 ∨ v50 = 1) → (v51 = 0 ∨ v51 = 1) → (v52 = 0 ∨ v52 = 1) → v50 = (if s (166 + i) = 2 then 1 else 0) → v51 = (if s (226 + i) = 1 then 1 else 0) → v52 = (if s (226 + i) = 2 then 1 else 0) → BK bx C (crset C (cr i) (s (142 + i)) (s (130 + i)) (s (190 + i)) (s (202 + i)) (rf cr (s (214 + i))) (rf sh (s (178 + i))) v50 v51 v52 (rf hb (s (154 + i)))) ∧ PK bx sh cr hb iS iC nH E1 E2 E3 E4 im s iS (i + 1) C0 (crset C (cr i) (s (142 + i)) (s (130 + i)) (s (190 + i)) (s (202 + i)) (rf cr (s (214 + i))) (rf sh (s (178 + i))) v50 v51 v52 (rf hb (s (154 + i)))) := by
      intro v50 v51 v52 q0 q1 q2 w0 w1 w2
      have B10 : BK bx C (crset C (cr i) (s (142 + i)) (s (130 + i)) (s (190 + i)) (s (202 + i)) (rf cr (s (214 + i))) (rf sh (s (178 + i))) v50 v51 v52 (rf hb (s (154 + i)))) := (((B6.trans (BK.si 50 (cr i) v50 (by decide) (by decide))).trans (BK.si 51 (cr i) v51 (by decide) (by decide))).trans (BK.si 52 (cr i) v52 (by decide) (by decide))).trans (BK.sr 55 (cr i) (rf hb (s (154 + i))) (by decide) (by decide))
      have F10 : Fr gI gR (fun _ _ => false) C (crset C (cr i) (s (142 + i)) (s (130 + i)) (s (190 + i)) (s (202 + i)) (rf cr (s (214 + i))) (rf sh (s (178 + i))) v50 v51 v52 (rf hb (s (154 + i)))) := (((F6.si 50 (cr i) v50 (.inl (by decide))).si 51 (cr i) v51 (.inl (by decide))).si 52 (cr i) v52 (.inl (by decide))).sr 55 (cr i) (rf hb (s (154 + i))) (.inl (by decide)) (by decide)
      refine ⟨B10, B.trans B10, I.bk B10, ⟨hB.fr F10 (by decide), L1.fr F10 (by decide) (by decide) (fun _ _ => rfl), L3.fr F10 (by decide) (by decide) (fun _ _ => rfl)⟩, fun q hq => ⟨(hS q hq).1, ?_⟩, fun q hq => ?_, fun q hq => ?_, fun q hq => ?_⟩
      · rw [crset_i _ _ _ _ _ _ _ _ _ _ _ _ _ _ (.inr (by decide))]; exact (hS q hq).2
      · obtain ⟨c1, c2, c3, c4⟩ := hC q hq
        exact ⟨c1, by rw [crset_i _ _ _ _ _ _ _ _ _ _ _ _ _ _ (.inr (by decide))]; exact c2, by rw [crset_r _ _ _ _ _ _ _ _ _ _ _ _ _ _ (.inr (by decide))]; exact c3, c4⟩
      · rw [crset_i _ _ _ _ _ _ _ _ _ _ _ _ _ _ (.inr (by decide)), crset_i _ _ _ _ _ _ _ _ _ _ _ _ _ _ (.inr (by decide)), crset_r _ _ _ _ _ _ _ _ _ _ _ _ _ _ (.inr (by decide))]; exact h1 q hq
      · by_cases e : q = i
        · subst e
          have := crset_v C (cr q) (s (142 + q)) (s (130 + q)) (s (190 + q)) (s (202 + q)) (rf cr (s (214 + q))) (rf sh (s (178 + q))) v50 v51 v52 (rf hb (s (154 + q)))
          rw [← w0, ← w1, ← w2]; exact this
        · have ne : cr q ≠ cr i := fun x => e (inj q (by omega) x)
          simp only [crset_i _ _ _ _ _ _ _ _ _ _ _ _ _ (cr q) (.inl ne), crset_r _ _ _ _ _ _ _ _ _ _ _ _ _ (cr q) (.inl ne)]
          exact h2 q (by omega)
    obtain ⟨w0, ew0⟩ : ∃ v : Int32, v = if s (166 + i) = 2 then 1 else 0 := ⟨_, rfl⟩
    obtain ⟨w1, ew1⟩ : ∃ v : Int32, v = if s (226 + i) = 1 then 1 else 0 := ⟨_, rfl⟩
    obtain ⟨w2, ew2⟩ : ∃ v : Int32, v = if s (226 + i) = 2 then 1 else 0 := ⟨_, rfl⟩
    have b0 : w0 = 0 ∨ w0 = 1 := by rw [ew0]; split <;> simp
    have b1 : w1 = 0 ∨ w1 = 1 := by rw [ew1]; split <;> simp
    have b2 : w2 = 0 ∨ w2 = 1 := by rw [ew2]; split <;> simp
    obtain ⟨-, H'⟩ := tail w0 w1 w2 b0 b1 b2 ew0 ew1 ew2
    obtain ⟨C', f, Hf⟩ := ih k (i + 1) _ (by omega) (by omega) H'
    refine ⟨C', ?_, Hf⟩
    have ek : k + 1 - (d + 1) = k - d := by omega
    rw [ek, ← f]
    have F7 := F6.si 50 (cr i) w0 (.inl (by decide))
    have B7 := B6.trans (BK.si 50 (cr i) w0 (by decide) (by decide))
    have F8 := F7.si 51 (cr i) w1 (.inl (by decide))
    have B8 := B7.trans (BK.si 51 (cr i) w1 (by decide) (by decide))
    have F9 := F8.si 52 (cr i) w2 (.inl (by decide))
    have B9 := B8.trans (BK.si 52 (cr i) w2 (by decide) (by decide))
    have R0 := I.rd n12 hi
    obtain ⟨I1, k61, ca1, sa1, kb1⟩ := U _ F1 B1
    have R1 := I1.rd n12 hi
    obtain ⟨I2, k62, ca2, sa2, kb2⟩ := U _ F2 B2
    have R2 := I2.rd n12 hi
    obtain ⟨I3, k63, ca3, sa3, kb3⟩ := U _ F3 B3
    have R3 := I3.rd n12 hi
    obtain ⟨I4, k64, ca4, sa4, kb4⟩ := U _ F4 B4
    have R4 := I4.rd n12 hi
    obtain ⟨I5, k65, ca5, sa5, kb5⟩ := U _ F5 B5
    have R5 := I5.rd n12 hi
    obtain ⟨I6, k66, ca6, sa6, kb6⟩ := U _ F6 B6
    have R6 := I6.rd n12 hi
    obtain ⟨I7, k67, ca7, sa7, kb7⟩ := U _ F7 B7
    have R7 := I7.rd n12 hi
    obtain ⟨I8, k68, ca8, sa8, kb8⟩ := U _ F8 B8
    have R8 := I8.rd n12 hi
    obtain ⟨I9, k69, ca9, sa9, kb9⟩ := U _ F9 B9
    have R9 := I9.rd n12 hi
    obtain ⟨fb1, fb2, fb4⟩ := flg_b s i
    have g3 : fJ2_get (bx + 3) C (nI i) = some (some (cr i)) := L3.get hi
    conv => lhs; unfold fX19_putBack_L173
    rw [g_i ki rfl, v92, ev_b, if_neg (lp_go hi (by omega)), R0.2.2.1, ev_b, g_r hB.1.1 rfl, hB.2.1.2.2.1, ev_b, g_is L3.1, ev_b, g3, ev_b, g_ck k6, ev_b, R0.1, ev_b, m7, R0.2.2.2.1, ev_b, p_i k6 rfl, ev_b]
    rw [R1.1, ev_b, a1, R1.2.2.2.2.1, ev_b, p_i k61 rfl, ev_b]
    rw [R2.1, ev_b, a2, R2.2.2.2.2.2.1, ev_b, p_i k62 rfl, ev_b]
    rw [R3.1, ev_b, a3, R3.2.2.2.2.2.2.1, ev_b, p_i k63 rfl, ev_b]
    rw [R4.2.2.1, ev_b, R4.1, ev_b, a4, R4.2.2.2.2.2.2.2.1, ev_b, g_is kb4, ev_b, ca4, ev_b, p_r k64 rfl, ev_b]
    rw [R5.2.2.1, ev_b, R5.1, ev_b, a5, R5.2.2.2.2.2.2.2.2.1, ev_b, g_is kb5, ev_b, sa5, ev_b, p_r k65 rfl, ev_b]
    rw [R6.1, ev_b, a6, R6.2.2.2.2.2.2.2.2.2.1, ev_b]
    have c50 : ∀ (P : Int32 → Option (xk_C × Unit)), (if flg s i &&& 1 = 1 then P 1 else P 0) = P w0 := fun P => by
      by_cases c : s (166 + i) = 2
      · rw [if_pos (fb1.mpr c), ew0, if_pos c]
      · rw [if_neg (fun h => c (fb1.mp h)), ew0, if_neg c]
    have c51 : ∀ (P : Int32 → Option (xk_C × Unit)), (if flg s i &&& 2 = 2 then P 1 else P 0) = P w1 := fun P => by
      by_cases c : s (226 + i) = 1
      · rw [if_pos (fb2.mpr c), ew1, if_pos c]
      · rw [if_neg (fun h => c (fb2.mp h)), ew1, if_neg c]
    have c52 : ∀ (P : Int32 → Option (xk_C × Unit)), (if flg s i &&& 4 = 4 then P 1 else P 0) = P w2 := fun P => by
      by_cases c : s (226 + i) = 2
      · rw [if_pos (fb4.mpr c), ew2, if_pos c]
      · rw [if_neg (fun h => c (fb4.mp h)), ew2, if_neg c]
    refine (c50 (fun v => fX19_putBack_B322 N im (fX19_putBack_L173 N im k) (xk_sr (xk_sr (xk_si (xk_si (xk_si (xk_si C 46 (cr i) (s (142 + i))) 47 (cr i) (s (130 + i))) 48 (cr i) (s (190 + i))) 49 (cr i) (s (202 + i))) 54 (cr i) (rf cr (s (214 + i)))) 53 (cr i) (rf sh (s (178 + i)))) (nI i) (some (cr i)) v (some (cr i)))).trans ?_
    unfold fX19_putBack_B322
    rw [p_z k66 rfl b0, ev_b, R7.1, ev_b, m7, a6, R7.2.2.2.2.2.2.2.2.2.1, ev_b]
    refine (c51 (fun v => fX19_putBack_B349 N im (fX19_putBack_L173 N im k) (xk_si (xk_sr (xk_sr (xk_si (xk_si (xk_si (xk_si C 46 (cr i) (s (142 + i))) 47 (cr i) (s (130 + i))) 48 (cr i) (s (190 + i))) 49 (cr i) (s (202 + i))) 54 (cr i) (rf cr (s (214 + i)))) 53 (cr i) (rf sh (s (178 + i)))) 50 (cr i) w0) (nI i) (some (cr i)) v (some (cr i)))).trans ?_
    unfold fX19_putBack_B349
    rw [p_z k67 rfl b1, ev_b, R8.1, ev_b, m7, a6, R8.2.2.2.2.2.2.2.2.2.1, ev_b]
    refine (c52 (fun v => fX19_putBack_B376 N im (fX19_putBack_L173 N im k) (xk_si (xk_si (xk_sr (xk_sr (xk_si (xk_si (xk_si (xk_si C 46 (cr i) (s (142 + i))) 47 (cr i) (s (130 + i))) 48 (cr i) (s (190 + i))) 49 (cr i) (s (202 + i))) 54 (cr i) (rf cr (s (214 + i)))) 53 (cr i) (rf sh (s (178 + i)))) 50 (cr i) w0) 51 (cr i) w1) (nI i) (some (cr i)) v (some (cr i)))).trans ?_
    unfold fX19_putBack_B376
    rw [p_z k68 rfl b2, ev_b, R9.2.1, ev_b, R9.2.2.2.2.2.2.2.2.2.2, ev_b, p_r k69 rfl, ev_b, s_a1]
    rfl
end
end
section
/-! STAGE 2: putting back, the whole -/
section
variable {bx : Nat} {sh cr hb : Nat → Nat} {nS nC iS iC nH E1 E2 E3 E4 im : Nat} {s : Nat → Int32} {C C' C0 : xk_C} {σ : gm_S}
theorem bk_e {N k : Nat} (n20 : iS ≤ 20) (n12 : iC ≤ 12) (H : PK bx sh cr hb iS iC nH E1 E2 E3 E4 im s iS iC C0 C) : ∃ C', fX19_putBack_L173 N im (k + 1) C (nI iC) = some (C', ()) ∧ BK bx C0 C' ∧ ∀ σ' : gm_S, (∀ j, j < 240 → ga σ' 1 j = s j) → cR bx sh cr hb iS iC nH C' σ' := by
  obtain ⟨B, I, ⟨hB, L1, L3⟩, hS, hC, h1, h2⟩ := H
  obtain ⟨⟨ki, im1, hI⟩, ⟨v91, v92, v93, v94, v95⟩, ⟨r96, -, -, -, r100⟩, ⟨⟨d1, d2, d3, d4⟩, -⟩, q1, -, -, -, q5, q6⟩ := id I
  have nb := hB.1.2.1
  have kB := hB.1.1
  have k4 := hB.2.2.1.2.2.2.1
  have l4 := hB.2.2.2.2.1
  have r7 := hB.2.1.2.2.2.1
  have nim : im ≠ bx := fun e => by rw [e, kB] at ki; omega
  have cp : xk_cpi C (some E1) 0 (some (bx + 4)) 0 (nI 3) = some (xk_sE C (bx + 4) (va_cpy (xk_e C E1) (xk_e C (bx + 4)) 0 0 3)) := by
    unfold xk_cpi xk_cpr
    have z0 : (0 : Int32).toNatClampNeg = 0 := rfl
    simp only [s_tn 3 (by omega : 3 < 2147483648), z0]
    rw [if_pos ⟨⟨d3, k4, by decide, by decide⟩, s_nn 3 (by omega), by omega, by omega⟩]
    simp only []
    rw [if_neg (by omega)]
  obtain ⟨c1, e1⟩ : ∃ c, c = xk_sE C (bx + 4) (va_cpy (xk_e C E1) (xk_e C (bx + 4)) 0 0 3) := ⟨_, rfl⟩
  have F1 : Fr [4, 5, 6] [] (fun k a => k == 30 && a == bx + 4) C c1 := by rw [e1]; exact Fr.refl.sE _ _ (.inl (by rw [k4]; simp))
  have x4 : ∀ j, j < 3 → xk_e c1 (bx + 4) j = s (5 + j) := fun j hj => by
    rw [e1]; show (if bx + 4 = bx + 4 then va_cpy (xk_e C E1) (xk_e C (bx + 4)) 0 0 3 j else _) = _
    rw [if_pos rfl]; unfold va_cpy; rw [if_pos (by omega), show 0 + (j - 0) = j by omega]; exact q1 j hj
  have nn : xk_n c1 = xk_n C ∧ xk_s c1 = xk_s C := by rw [e1]; exact ⟨rfl, rfl⟩
  have F4 : Fr [4, 5, 6] [] (fun k a => k == 30 && a == bx + 4) C (xk_si (xk_si (xk_si c1 4 bx (s 2)) 5 bx (s 3)) 6 bx (s 4)) := ((F1.si _ _ _ (.inl (by decide))).si _ _ _ (.inl (by decide))).si _ _ _ (.inl (by decide))
  have ki1 : xk_k c1 im = 20 := (F1.k im1).trans ki
  have kB1 : xk_k c1 bx = 1 := (F1.k (by omega)).trans kB
  have r1 : xk_r c1 100 im = some bx := (F1.r im1 (by decide)).trans r100
  have w93 : xk_i c1 93 im = s 2 := (F1.i im1 (by decide)).trans v93
  have w94 : xk_i c1 94 im = s 3 := (F1.i im1 (by decide)).trans v94
  have w95 : xk_i c1 95 im = s 4 := (F1.i im1 (by decide)).trans v95
  refine ⟨xk_si (xk_si (xk_si c1 4 bx (s 2)) 5 bx (s 3)) 6 bx (s 4), ?_, B.trans ⟨F4.mono (by decide) (by decide) (fun k a q => ?_), nn, fun x m g a b c => c.fr F4 (by decide) (by decide) (fun _ _ => rfl)⟩, fun σ' e => ?_⟩
  · unfold fX19_putBack_L173
    rw [g_i ki rfl, v92, ev_b, if_pos (lp_end _), g_r ki rfl, r96, ev_b, g_r ki rfl, r100, ev_b, g_r kB rfl, r7, ev_b, ev_b, g_r kB rfl, r7, ev_b, g_al (t := 0) k4, l4, ev_b, cp, ev_b, ← e1]
    rw [g_r ki1 rfl, r1, ev_b, g_i ki1 rfl, w93, ev_b, p_i kB1 rfl, ev_b]
    rw [g_r (C := xk_si c1 4 bx (s 2)) (k := 20) ki1 rfl, r_si, r1, ev_b, g_i (C := xk_si c1 4 bx (s 2)) (k := 20) ki1 rfl, wi1 (f' := 4) rfl (by decide), w94, ev_b, p_i (C := xk_si c1 4 bx (s 2)) (k := 1) kB1 rfl, ev_b]
    rw [g_r (C := xk_si (xk_si c1 4 bx (s 2)) 5 bx (s 3)) (k := 20) ki1 rfl, r_si, r_si, r1, ev_b, g_i (C := xk_si (xk_si c1 4 bx (s 2)) 5 bx (s 3)) (k := 20) ki1 rfl, wi1 (f' := 5) rfl (by decide), wi1 (f' := 4) rfl (by decide), w95, ev_b, p_i (C := xk_si (xk_si c1 4 bx (s 2)) 5 bx (s 3)) (k := 1) kB1 rfl, ev_b]
  · unfold bkE at q; rw [Bool.or_eq_false_iff] at q; exact q.2
  · have hSn := q6
    refine ⟨⟨hB.fr F4 (by decide), L1.fr F4 (by decide) (by decide) (fun _ _ => rfl), L3.fr F4 (by decide) (by decide) (fun _ _ => rfl), ⟨?_, ?_, ?_, ?_, ?_, ?_, ?_, ?_, ?_⟩, ⟨?_, ?_, ?_, ?_, ?_, ?_, ?_, ?_, ?_, ?_, ?_⟩, ⟨?_, ?_, ?_, ?_⟩, n20, n12⟩, ⟨?_, ?_, ?_⟩, ?_⟩
    · intro q hq; rw [F4.k (q6 q hq)]; exact (hS q hq).1
    · intro q hq; exact F4.lt (q6 q hq)
    · intro q hq; rw [F4.i (q6 q hq) (by decide)]; exact (hS q hq).2
    · intro q hq; rw [F4.i (q6 q hq) (by decide), e _ (by omega)]; exact (q5 q hq).1
    · intro q hq; rw [F4.i (q6 q hq) (by decide), e _ (by omega)]; exact (q5 q hq).2.1
    · intro q hq; rw [F4.i (q6 q hq) (by decide), e _ (by omega)]; exact (q5 q hq).2.2
    · intro q hq; rw [F4.i (q6 q hq) (by decide), e _ (by omega)]; exact (h1 q hq).1
    · intro q hq; rw [F4.i (q6 q hq) (by decide), e _ (by omega)]; exact (h1 q hq).2.1
    · intro q hq; rw [F4.r (q6 q hq) (by decide), e _ (by omega)]; exact (h1 q hq).2.2
    · intro q hq; rw [F4.k (hC q hq).2.2.2]; exact (hC q hq).1
    · intro q hq; exact F4.lt (hC q hq).2.2.2
    · intro q hq; rw [F4.i (hC q hq).2.2.2 (by decide)]; exact (hC q hq).2.1
    · intro q hq; rw [F4.i (hC q hq).2.2.2 (by decide), e _ (by omega)]; exact (h2 q hq).1.1
    · intro q hq; rw [F4.i (hC q hq).2.2.2 (by decide), e _ (by omega)]; exact (h2 q hq).1.2.1
    · intro q hq; rw [F4.i (hC q hq).2.2.2 (by decide), e _ (by omega)]; exact (h2 q hq).1.2.2.1
    · intro q hq; rw [F4.i (hC q hq).2.2.2 (by decide), e _ (by omega)]; exact (h2 q hq).1.2.2.2
    · intro q hq; rw [F4.r (hC q hq).2.2.2 (by decide), e _ (by omega)]; exact (h2 q hq).2.1.1
    · intro q hq; rw [F4.r (hC q hq).2.2.2 (by decide), e _ (by omega)]; exact (h2 q hq).2.1.2.1
    · intro q hq; rw [F4.r (hC q hq).2.2.2 (by decide), e _ (by omega)]; exact (h2 q hq).2.1.2.2
    · intro q hq; rw [F4.r (hC q hq).2.2.2 (by decide)]; exact (hC q hq).2.2.1
    · rw [i_si, if_neg (by omega), i_si, if_neg (by omega), i_si, if_pos ⟨rfl, rfl⟩, e _ (by omega)]
    · rw [i_si, if_neg (by omega), i_si, if_pos ⟨rfl, rfl⟩, e _ (by omega)]
    · rw [i_si, if_pos ⟨rfl, rfl⟩, e _ (by omega)]
    · intro j hj; rw [e_si, e_si, e_si, x4 j hj, e _ (by omega)]
    · intro q hq; rw [F4.i (hC q hq).2.2.2 (by decide), e _ (by omega)]; exact (h2 q hq).2.2.1
    · intro q hq; rw [F4.i (hC q hq).2.2.2 (by decide), e _ (by omega)]; exact (h2 q hq).2.2.2.1
    · intro q hq; rw [F4.i (hC q hq).2.2.2 (by decide), e _ (by omega)]; exact (h2 q hq).2.2.2.2
    · refine hI.same (e 0 (by omega)) (e 1 (by omega)) (by rw [e 3 (by omega)]; exact hI.1.2.2.2.2.2.1) (by rw [e 4 (by omega)]; exact hI.1.2.2.2.2.2.2) (fun q hq => ⟨e _ (by omega), e _ (by omega), e _ (by omega), e _ (by omega), e _ (by omega)⟩) (fun q hq => ⟨e _ (by omega), e _ (by omega), e _ (by omega), by rw [e _ (by omega)]; exact (hI.2.2.1 q hq).2.2.2.1, e _ (by omega), by rw [e _ (by omega)]; exact (hI.2.2.1 q hq).2.2.2.2⟩)
/-- what holds while the lists lose their last -/
def RM (bx : Nat) (sh cr hb : Nat → Nat) (iS iC nH E1 E2 E3 E4 im : Nat) (s : Nat → Int32) (p q : Nat) (C0 C : xk_C) : Prop := BK bx C0 C ∧ IMb bx sh hb iS iC nH E1 E2 E3 E4 im s C ∧ pB bx C ∧ pL C (bx + 1) p sh ∧ pL C (bx + 3) q cr
theorem rm_c1 (H : RM bx sh cr hb iS iC nH E1 E2 E3 E4 im s nS (nC + 1) C0 C) : ∃ C', fJ2_remove (bx + 3) C (nI (nC + 1) - 1) = some (C', some (cr nC)) ∧ RM bx sh cr hb iS iC nH E1 E2 E3 E4 im s nS nC C0 C' := by
  obtain ⟨B, I, hB, L1, L3⟩ := H
  have := L3.n9
  obtain ⟨C', f, L3', F, n, t, hL⟩ := L_remove L3 hB.1.2.2
  have B' : BK bx C C' := BK.rm (.inr rfl) F n t hL
  rw [show nI (nC + 1) - 1 = nI nC from by rw [s_s1 _ (by omega)]; rfl]
  exact ⟨C', f, B.trans B', I.bk B', hB.fr F (by decide), hL _ _ _ (by omega) L1, L3'⟩
theorem rm_s1 (H : RM bx sh cr hb iS iC nH E1 E2 E3 E4 im s (nS + 1) nC C0 C) : ∃ C', fJ2_remove (bx + 1) C (nI (nS + 1) - 1) = some (C', some (sh nS)) ∧ RM bx sh cr hb iS iC nH E1 E2 E3 E4 im s nS nC C0 C' := by
  obtain ⟨B, I, hB, L1, L3⟩ := H
  have := L1.n9
  obtain ⟨C', f, L1', F, n, t, hL⟩ := L_remove L1 hB.1.2.2
  have B' : BK bx C C' := BK.rm (.inl rfl) F n t hL
  rw [show nI (nS + 1) - 1 = nI nS from by rw [s_s1 _ (by omega)]; rfl]
  exact ⟨C', f, B.trans B', I.bk B', hB.fr F (by decide), L1', hL _ _ _ (by omega) L3⟩
theorem RM.rd (H : RM bx sh cr hb iS iC nH E1 E2 E3 E4 im s nS nC C0 C) : xk_gr C 100 (some im) = some (some bx) ∧ xk_gr C 3 (some bx) = some (some (bx + 3)) ∧ xk_is C 21 (some (bx + 3)) = some (bx + 3) ∧ fJ2_size (bx + 3) C = some (nI nC) ∧ xk_gi C 92 (some im) = some (nI iC) ∧ xk_gr C 0 (some bx) = some (some (bx + 1)) ∧ xk_is C 21 (some (bx + 1)) = some (bx + 1) ∧ fJ2_size (bx + 1) C = some (nI nS) ∧ xk_gi C 91 (some im) = some (nI iS) := by
  obtain ⟨B, I, hB, L1, L3⟩ := H
  have ki := I.1.1
  exact ⟨by rw [g_r ki rfl, I.2.2.1.2.2.2.2], by rw [g_r hB.1.1 rfl, hB.2.1.2.2.1], g_is L3.1, L3.size, by rw [g_i ki rfl, I.2.1.2.1], by rw [g_r hB.1.1 rfl, hB.2.1.1], g_is L1.1, L1.size, by rw [g_i ki rfl, I.2.1.1]⟩
theorem rm_s (N : Nat) : ∀ d k p C, p = iS + d → d < k → RM bx sh cr hb iS iC nH E1 E2 E3 E4 im s p iC C0 C → ∃ C', fX19_putBack_L43 N im k C = fX19_putBack_L88 N im N C' 0 ∧ RM bx sh cr hb iS iC nH E1 E2 E3 E4 im s iS iC C0 C' := by
  intro d
  induction d with
  | zero =>
    intro k p C hp hk H
    obtain ⟨k, rfl⟩ : ∃ k', k = k' + 1 := ⟨k - 1, by omega⟩
    have : p = iS := by omega
    subst this
    refine ⟨C, ?_, H⟩
    obtain ⟨g1, g2, g3, g4, g5, g6, g7, g8, g9⟩ := H.rd
    unfold fX19_putBack_L43
    rw [g1, ev_b, g6, ev_b, g7, ev_b, g8, ev_b, g9, ev_b, if_pos (lp_end _)]
  | succ d ih =>
    intro k p C hp hk H
    obtain ⟨k, rfl⟩ : ∃ k', k = k' + 1 := ⟨k - 1, by omega⟩
    have : p = (iS + d) + 1 := by omega
    subst this
    have h9 := H.2.2.2.1.n9
    obtain ⟨g1, g2, g3, g4, g5, g6, g7, g8, g9⟩ := H.rd
    obtain ⟨C1, f1, H1⟩ := rm_s1 H
    obtain ⟨C', f, H'⟩ := ih k (iS + d) C1 rfl (by omega) H1
    refine ⟨C', ?_, H'⟩
    unfold fX19_putBack_L43
    simp only [g1, ev_b, g6, g7, g8, g9, lp_go (show iS < iS + d + 1 by omega) (by omega : iS + d + 1 ≤ 1000), if_false, f1]
    exact f
theorem rm_c (N : Nat) (hN : 100 ≤ N) (n20 : nS ≤ 20) (hnS : iS ≤ nS) : ∀ d k q C, q = iC + d → d < k → RM bx sh cr hb iS iC nH E1 E2 E3 E4 im s nS q C0 C → ∃ C', fX19_putBack_L0 N im k C = fX19_putBack_L88 N im N C' 0 ∧ RM bx sh cr hb iS iC nH E1 E2 E3 E4 im s iS iC C0 C' := by
  intro d
  induction d with
  | zero =>
    intro k q C hq hk H
    obtain ⟨k, rfl⟩ : ∃ k', k = k' + 1 := ⟨k - 1, by omega⟩
    have : q = iC := by omega
    subst this
    obtain ⟨g1, g2, g3, g4, g5, g6, g7, g8, g9⟩ := H.rd
    obtain ⟨C', f, H'⟩ := rm_s N (nS - iS) N nS C (by omega) (by omega) H
    refine ⟨C', ?_, H'⟩
    unfold fX19_putBack_L0
    rw [g1, ev_b, g2, ev_b, g3, ev_b, g4, ev_b, g5, ev_b, if_pos (lp_end _)]; exact f
  | succ d ih =>
    intro k q C hq hk H
    obtain ⟨k, rfl⟩ : ∃ k', k = k' + 1 := ⟨k - 1, by omega⟩
    have : q = (iC + d) + 1 := by omega
    subst this
    have h9 := H.2.2.2.2.n9
    obtain ⟨g1, g2, g3, g4, g5, g6, g7, g8, g9⟩ := H.rd
    obtain ⟨C1, f1, H1⟩ := rm_c1 H
    obtain ⟨C', f, H'⟩ := ih k (iC + d) C1 rfl (by omega) H1
    refine ⟨C', ?_, H'⟩
    unfold fX19_putBack_L0
    simp only [g1, ev_b, g2, g3, g4, g5, lp_go (show iC < iC + d + 1 by omega) (by omega : iC + d + 1 ≤ 1000), if_false, f1]
    exact f
theorem put_l {N : Nat} (hN : 100 ≤ N) (h : cR bx sh cr hb nS nC nH C σ) (I : IM bx sh hb nS nC nH im s C) : ∃ C' iS iC, fX19_putBack N im C = some (C', ()) ∧ (iS ≤ nS ∧ iC ≤ nC ∧ xk_i C 91 im = nI iS ∧ xk_i C 92 im = nI iC) ∧ BK bx C C' ∧ ∀ σ' : gm_S, (∀ j, j < 240 → ga σ' 1 j = s j) → cR bx sh cr hb iS iC nH C' σ' := by
  have hn := h.n12
  have hn2 := h.n20
  obtain ⟨ki, im1, iS, iC, E1, E2, E3, E4, ⟨a1, a2, hI⟩, b, c, d, q1, q2, q3, q4, q5⟩ := I
  have S := h.1.2.2.2.1
  have Cc := h.1.2.2.2.2.1
  have H0 : RM bx sh cr hb iS iC nH E1 E2 E3 E4 im s nS nC C C := ⟨BK.id, ⟨⟨ki, im1, hI⟩, b, c, d, q1, q2, q3, q4, q5, fun k hk => S.2.1 k (by omega)⟩, h.1.1, h.1.2.1, h.1.2.2.1⟩
  have fin : ∀ C1, RM bx sh cr hb iS iC nH E1 E2 E3 E4 im s iS iC C C1 → ∃ C', fX19_putBack_L88 N im N C1 0 = some (C', ()) ∧ BK bx C C' ∧ ∀ σ' : gm_S, (∀ j, j < 240 → ga σ' 1 j = s j) → cR bx sh cr hb iS iC nH C' σ' := by
    intro C1 ⟨B, I1, hB1, L1, L3⟩
    have P0 : PK bx sh cr hb iS iC nH E1 E2 E3 E4 im s 0 0 C C1 := ⟨B, I1, ⟨hB1, L1, L3⟩, fun k hk => ⟨(B.1.k (S.2.1 k (by omega))).trans (S.1 k (by omega)), (B.1.i (S.2.1 k (by omega)) (by decide)).trans (S.2.2.1 k (by omega))⟩, fun k hk => ⟨(B.1.k (Cc.2.1 k (by omega))).trans (Cc.1 k (by omega)), (B.1.i (Cc.2.1 k (by omega)) (by decide)).trans (Cc.2.2.1 k (by omega)), (B.1.r (Cc.2.1 k (by omega)) (by decide)).trans (Cc.2.2.2.2.2.2.2.2.2.2 k (by omega)), B.1.lt (Cc.2.1 k (by omega))⟩, fun k hk => by omega, fun k hk => by omega⟩
    obtain ⟨C2, f2, P2⟩ := bk_s hN (by omega) (by omega) iS N 0 C1 (by omega) (by omega) P0
    obtain ⟨C3, f3, P3⟩ := bk_c (N := N) (by omega) (by omega) iC N 0 C2 (by omega) (by omega) P2
    obtain ⟨j, hj⟩ : ∃ j, N - iC = j + 1 := ⟨N - iC - 1, by omega⟩
    obtain ⟨C4, f4, B4, R4⟩ := bk_e (N := N) (k := j) (by omega) (by omega) P3
    have f2' : fX19_putBack_L88 N im N C1 0 = fX19_putBack_L173 N im N C2 0 := f2
    have f3' : fX19_putBack_L173 N im N C2 0 = fX19_putBack_L173 N im (N - iC) C3 (nI iC) := f3
    exact ⟨C4, by rw [f2', f3', hj, f4], B4, R4⟩
  obtain ⟨g1, g2, g3, g4, g5, g6, g7, g8, g9⟩ := H0.rd
  unfold fX19_putBack
  by_cases e : nC = iC
  · subst e
    obtain ⟨C1, f1, H1⟩ := rm_s N (nS - iS) N nS C (by omega) (by omega) H0
    obtain ⟨C', f, B, R⟩ := fin C1 H1
    refine ⟨C', iS, nC, ?_, ⟨a1, a2, b.1, b.2.1⟩, B, R⟩
    rw [g1, ev_b, g2, ev_b, g3, ev_b, g4, ev_b, g5, ev_b, if_pos (lp_end _), f1, f]
  · obtain ⟨q, hq⟩ : ∃ q, nC = q + 1 := ⟨nC - 1, by omega⟩
    subst hq
    obtain ⟨C1, f1, H1⟩ := rm_c1 H0
    obtain ⟨C2, f2, H2⟩ := rm_c N hN hn2 a1 (q - iC) N q C1 (by omega) (by omega) H1
    obtain ⟨C', f, B, R⟩ := fin C2 H2
    refine ⟨C', iS, iC, ?_, ⟨a1, a2, b.1, b.2.1⟩, B, R⟩
    simp only [g1, ev_b, g2, g3, g4, g5, lp_go (show iC < q + 1 by omega) (by omega : q + 1 ≤ 1000), if_false, f1]
    rw [f2, f]
end
end
