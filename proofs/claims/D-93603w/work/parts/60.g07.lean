set_option maxRecDepth 16384
section
/-! STAGE 2: the loops of a tick -/
section
variable {bx : Nat} {sh cr hb : Nat → Nat} {nS nC nH : Nat} {cls : Nat → List (Nat × Nat × List Int32 × List (Nat × Nat))}
theorem Iv.row {s s' : Nat → Int32} (h : Iv nS nC nH s) (e : ∀ p, p ≠ 2 → s' p = s p) : Iv nS nC nH s' := by
  refine h.upd (h.jr.eq (fun j hj => ⟨e _ (by omega), e _ (by omega)⟩) (fun c hc => ⟨e _ (by omega), e _ (by omega)⟩)) ⟨e _ (by omega), e _ (by omega), e _ (by omega), e _ (by omega)⟩ (fun j hj => ⟨e _ (by omega), e _ (by omega), e _ (by omega)⟩) (fun c hc => ?_)
  rw [e _ (by omega), e _ (by omega), e _ (by omega), e _ (by omega)]
  exact ⟨(h.2.2.1 c hc).1, (h.2.2.1 c hc).2.2.1, rfl, (h.2.2.1 c hc).2.2.2.2⟩
/-- nobody has done anything yet -/
theorem reset_l (N : Nat) : ∀ d k i (σ : gm_S), i + d = nC → d < k → nC ≤ 12 → ga σ 1 1 = nI nC → ∃ σ', fX3_ticks_L2 N k σ (nI i) = fX3_ticks_L31 N N σ' 0 ∧ (∀ p, p < 226 + i ∨ 226 + nC ≤ p → ga σ' 1 p = ga σ 1 p) ∧ (∀ j, i ≤ j → j < nC → ga σ' 1 (226 + j) = 0) ∧ Mf [] [1] σ σ' := by
  intro d
  induction d with
  | zero =>
    intro k i σ hid hk hn h1
    obtain ⟨k, rfl⟩ : ∃ k', k = k' + 1 := ⟨k - 1, by omega⟩
    have : i = nC := by omega
    subst this
    refine ⟨σ, ?_, fun p _ => rfl, fun j h1 h2 => by omega, Mf.refl⟩
    unfold fX3_ticks_L2
    rw [ev_r1, ev_b, h1, if_pos (lp_end _)]
  | succ d ih =>
    intro k i σ hid hk hn h1
    obtain ⟨k, rfl⟩ : ∃ k', k = k' + 1 := ⟨k - 1, by omega⟩
    obtain ⟨σ', f, e1, e2, M⟩ := ih k (i + 1) (gm_sta σ 1 (226 + i) 0) (by omega) (by omega) hn (by rw [gn _ _ _ _ (by omega)]; exact h1)
    refine ⟨σ', ?_, fun p hp => ?_, fun j h1 h2 => ?_, (Mf.sta Mf.refl _ _ _ (by decide)).trans M⟩
    · unfold fX3_ticks_L2
      rw [ev_r1, ev_b, h1, if_neg (lp_go (by omega) (by omega)), m_wr1 _ _ _ _ (by omega), ev_b, s_a1, f]
    · rw [e1 p (by omega), gn _ _ _ _ (by omega)]
    · by_cases q : j = i
      · subst q; rw [e1 _ (by omega), ge]
      · exact e2 j (by omega) h2
/-- between the resets -/
def Qt (bx : Nat) (sh cr hb : Nat → Nat) (nS nC nH i : Nat) (C : xk_C) (σ : gm_S) : Prop := cA bx sh cr hb nS nC C σ ∧ Iv nS nC nH (ga σ 1) ∧ (∀ j, j < nC → xk_i C 50 (cr j) = if ga σ 1 (166 + j) = 2 then 1 else 0) ∧ (∀ j, j < i → xk_i C 51 (cr j) = 0 ∧ xk_i C 52 (cr j) = 0) ∧ (∀ j, j < nC → ga σ 1 (226 + j) = 0)
theorem bare_l {N : Nat} (hN : 100 ≤ N) : ∀ d k i (C : xk_C) (σ : gm_S), i + d = nC → d < k → Qt bx sh cr hb nS nC nH i C σ → ∃ C' σ', fX0_goTick_L2 N bx k C (nI i) = fX0_goTick_L54 N bx N C' 0 ∧ fX3_ticks_L31 N k σ (nI i) = fX3_ticks_L68 N N σ' 0 ∧ oC bx sh cr hb nS nC nH C σ C' σ' ∧ ∀ j, j < nC → ga σ' 1 (226 + j) = 0 := by
  intro d
  induction d with
  | zero =>
    intro k i C σ hid hk ⟨hA, hI, h50, h51, hD⟩
    obtain ⟨k, rfl⟩ : ∃ k', k = k' + 1 := ⟨k - 1, by omega⟩
    have : i = nC := by omega
    subst this
    have R : cR bx sh cr hb nS i nH C σ := ⟨hA, ⟨h50, fun j hj => by rw [(h51 j hj).1, hD j hj]; rfl, fun j hj => by rw [(h51 j hj).2, hD j hj]; rfl⟩, hI⟩
    refine ⟨C, σ, ?_, ?_, oC.id R, hD⟩
    · unfold fX0_goTick_L2; rw [ar3 hA, ev_b, ai3 hA, ev_b, as3 hA, ev_b, if_pos (lp_end _)]
    · unfold fX3_ticks_L31; rw [ev_r1, ev_b, hI.1.2.2.2.2.1, if_pos (lp_end _)]
  | succ d ih =>
    intro k i C σ hid hk ⟨hA, hI, h50, h51, hD⟩
    obtain ⟨k, rfl⟩ : ∃ k', k = k' + 1 := ⟨k - 1, by omega⟩
    have hi : i < nC := by omega
    have hn := hI.1.2.1
    have hn2 := hI.1.1
    have k6 := hA.2.2.2.2.1.1 i hi
    have hA2 := wA52 (wA51 hA (cr i) 0) (cr i) 0
    have q51 : ∀ j, j < nC → xk_i (xk_si (xk_si C 51 (cr i) 0) 52 (cr i) 0) 50 (cr j) = xk_i C 50 (cr j) := fun j hj => wi1 (wi1 rfl (by decide)) (by decide)
    have z51 : ∀ j, j < i + 1 → xk_i (xk_si (xk_si C 51 (cr i) 0) 52 (cr i) 0) 51 (cr j) = 0 ∧ xk_i (xk_si (xk_si C 51 (cr i) 0) 52 (cr i) 0) 52 (cr j) = 0 := fun j hj => by
      by_cases q : j = i
      · subst q; refine ⟨?_, ?_⟩
        · rw [wi1 (f' := 52) rfl (by decide), i_si, if_pos ⟨rfl, rfl⟩]
        · rw [i_si, if_pos ⟨rfl, rfl⟩]
      · have hne : ¬ cr j = cr i := fun e => q (hA.2.2.2.2.1.inj hn (by omega) hi e)
        refine ⟨?_, ?_⟩
        · rw [wi1 (f' := 52) rfl (by decide), i_si, if_neg (fun e => hne e.2)]; exact (h51 j (by omega)).1
        · rw [i_si, if_neg (fun e => hne e.2), wi1 (f' := 51) rfl (by decide)]; exact (h51 j (by omega)).2
    have F2 : Fr oI oR (oE bx) C (xk_si (xk_si C 51 (cr i) 0) 52 (cr i) 0) := Fr.si (Fr.si Fr.refl _ _ _ (.inl (by decide))) _ _ _ (.inl (by decide))
    unfold fX0_goTick_L2 fX3_ticks_L31 fX0_goTick_B46 fX3_ticks_B60
    have hbare : fX5_isBare (cr i) (xk_si (xk_si C 51 (cr i) 0) 52 (cr i) 0) = some (if ga σ 1 (166 + i) = 1 then 1 else 0) := by
      unfold fX5_isBare
      rw [g_i (C := xk_si (xk_si C 51 (cr i) 0) 52 (cr i) 0) (k := 6) k6 rfl, ev_b, q51 i hi, h50 i hi, aq6 hA2 hi, ev_b, ahs hA2 hI hi, ev_b]
      rcases (hI.2.2.1 i hi).2.1 with e | e | e
      · simp only [hs_1 e, e]; rfl
      · simp only [hs_0 (show ¬ ga σ 1 (166 + i) = 0 by rw [e]; decide), e]; rfl
      · simp only [e]; rfl
    simp only [ar3 hA, ai3 hA, as3 hA, ag3 hA hi, ac6 hA hi, ev_b, ev_r1, hI.1.2.2.2.2.1, lp_go hi (by omega : nC ≤ 1000), if_false, p_z (v := 0) k6 (show xk_has 6 51 = true from rfl) (.inl rfl), p_z (C := xk_si C 51 (cr i) 0) (v := 0) k6 (show xk_has 6 52 = true from rfl) (.inl rfl), aq6 hA2 hi, hbare, m_rd1 σ _ i (by omega : 166 + i < 240), s_a1]
    by_cases e1 : ga σ 1 (166 + i) = 1
    · simp only [e1, if_true, ev_10, if_false]
      obtain ⟨C3, σ3, f1, f2, t, hI3, x, y, z⟩ := bare1 hN hA2 hI hi e1
      rw [f1, ev_b, f2, ev_b]
      obtain ⟨C', σ', g1, g2, o, hD'⟩ := ih k (i + 1) C3 σ3 (by omega) (by omega) ⟨t.1, hI3, fun j hj => by
          rw [x _ _ (.inl rfl), q51 j hj, h50 j hj]
          by_cases q : ga σ 1 (166 + j) = 2
          · rw [if_pos q, if_pos ((y j hj).mpr q)]
          · rw [if_neg q, if_neg (fun h => q ((y j hj).mp h))], fun j hj => by rw [x _ _ (.inr (.inl rfl)), x _ _ (.inr (.inr rfl))]; exact z51 j hj, fun j hj => by rw [z j hj]; exact hD j hj⟩
      exact ⟨C', σ', g1, g2, ⟨o.1, ⟨(F2.trans t.2.1.1).trans o.2.1.1, o.2.1.2.1.trans t.2.1.2.1, o.2.1.2.2.trans t.2.1.2.2⟩, t.2.2.trans o.2.2⟩, hD'⟩
    · simp only [e1, if_false, if_true]
      obtain ⟨C', σ', g1, g2, o, hD'⟩ := ih k (i + 1) _ σ (by omega) (by omega) ⟨hA2, hI, fun j hj => by rw [q51 j hj, h50 j hj], z51, hD⟩
      exact ⟨C', σ', g1, g2, ⟨o.1, ⟨F2.trans o.2.1.1, o.2.1.2.1, o.2.1.2.2⟩, o.2.2⟩, hD'⟩
/-- x's end of a tick -/
def xEnd (N bx : Nat) (C : xk_C) : Option (xk_C × Unit) := (xk_gi C 4 (some bx)).bind fun v7 => (xk_pi C 4 (some bx) (v7 + 1)).bind fun σ8 => (xk_gi σ8 6 (some bx)).bind fun v9 => if v9 = 0 then some (σ8, ()) else (xk_gi σ8 4 (some bx)).bind fun v10 => (xk_gi σ8 6 (some bx)).bind fun v11 => (gx_rm v10 v11).bind fun v12 => if v12 = 0 then fX0_goTick_L134 N bx N σ8 0 else some (σ8, ())
theorem housed_l {N : Nat} (hN : 200 ≤ N) : ∀ d k i (C : xk_C) (σ : gm_S), i + d = nC → d < k → cR bx sh cr hb nS nC nH C σ → pH bx hb nH cls C σ → (∀ j, i ≤ j → j < nC → ga σ 1 (226 + j) = 0) → ∃ C' σ', fX0_goTick_L54 N bx k C (nI i) = xEnd N bx C' ∧ fX3_ticks_L68 N k σ (nI i) = fX3_ticks_L99 N N σ' 0 ∧ oC bx sh cr hb nS nC nH C σ C' σ' := by
  intro d
  induction d with
  | zero =>
    intro k i C σ hid hk h H hD
    obtain ⟨k, rfl⟩ : ∃ k', k = k' + 1 := ⟨k - 1, by omega⟩
    have : i = nC := by omega
    subst this
    refine ⟨C, σ, ?_, ?_, oC.id h⟩
    · unfold fX0_goTick_L54; rw [xr3 h, ev_b, xi3 h, ev_b, xs3 h, ev_b, if_pos (lp_end _)]; rfl
    · unfold fX3_ticks_L68; rw [ev_r1, ev_b, h.v1, if_pos (lp_end _)]
  | succ d ih =>
    intro k i C σ hid hk h H hD
    obtain ⟨k, rfl⟩ : ∃ k', k = k' + 1 := ⟨k - 1, by omega⟩
    have hi : i < nC := by omega
    have hn := h.n12
    unfold fX0_goTick_L54 fX3_ticks_L68 fX0_goTick_B96 fX3_ticks_B91
    simp only [xr3 h, xi3 h, xs3 h, xr0 h, xi0 h, xs0 h, xg3 h hi, xc6 h hi, xq6 h hi, hs_x h hi, ev_b, ev_r1, h.v1, lp_go hi (by omega : nC ≤ 1000), if_false, hs_m σ (by omega : i < 12), s_a1]
    by_cases e : ga σ 1 (166 + i) = 0
    · simp only [hs_1 e, ev_10, if_false]
      obtain ⟨C2, σ2, f1, f2, o, dd⟩ := act_l hN h H hi e (hD i (by omega) hi)
      rw [f1, ev_b, f2, ev_b]
      obtain ⟨C', σ', g1, g2, o'⟩ := ih k (i + 1) C2 σ2 (by omega) (by omega) o.1 (o.pH H) (fun j h1 h2 => by rw [dd j h2 (by omega)]; exact hD j (by omega) h2)
      exact ⟨C', σ', g1, g2, o.trans o'⟩
    · simp only [hs_0 e, if_true]
      exact ih k (i + 1) C σ (by omega) (by omega) h H (fun j h1 h2 => hD j (by omega) h2)
theorem idw (N : Nat) (K : gm_S → Int32 → Option gm_S) (σ : gm_S) {i : Nat} (hi : i < 12) : fX3_ticks_B158 N K σ (nI i) = K σ (nI (i + 1)) := by
  unfold fX3_ticks_B158 fX3_ticks_B159 fX3_ticks_B194 fX3_ticks_B195
  rw [m_rd1 _ _ _ (by omega), ev_b, if_pos rfl, m_wr1 _ _ _ _ (by omega), ev_b, Int32.add_zero, sta_self _ _ _ rfl, s_a1]
/-- nobody grows -/
theorem still_l (N : Nat) {t : Int32} : ∀ d k i (σ : gm_S), i + d = nC → d < k → nC ≤ 12 → ga σ 1 1 = nI nC → ga σ 1 2 = t → (ga σ 1 4 ≤ 0 ∨ ∃ v, ga σ 1 4 ≠ 0 ∧ gx_rm (t + 1) (ga σ 1 4) = some v ∧ ¬ v = 0) → fX3_ticks_L99 N k σ (nI i) = some (gm_sta σ 1 2 (t + 1)) := by
  intro d
  induction d with
  | zero =>
    intro k i σ hid hk hn h1 ht hg
    obtain ⟨k, rfl⟩ : ∃ k', k = k' + 1 := ⟨k - 1, by omega⟩
    have : i = nC := by omega
    subst this
    unfold fX3_ticks_L99
    rw [ev_r1, ev_b, h1, if_pos (lp_end _), ev_r2, ev_b, ht, ev_w2, ev_b]
  | succ d ih =>
    intro k i σ hid hk hn h1 ht hg
    obtain ⟨k, rfl⟩ : ∃ k', k = k' + 1 := ⟨k - 1, by omega⟩
    rw [← ih k (i + 1) σ (by omega) (by omega) hn h1 ht hg]
    conv => lhs; unfold fX3_ticks_L99
    rw [ev_r1, ev_b, h1, if_neg (lp_go (by omega) (by omega)), ev_r4, ev_b, ev_r2, ht]
    by_cases c : ga σ 1 4 ≤ 0
    · rw [if_pos c, idw N _ σ (by omega)]
    · rw [if_neg c, ev_b, ev_b]
      obtain ⟨v, h2, h3, h4⟩ := hg.resolve_left c
      rw [h3, ev_b, if_neg h4, idw N _ σ (by omega)]
theorem grow_s : ∀ z, z < 41 → 1 ≤ z → (if nI z + 1 < nI 40 then nI z + 1 else nI 40) = (if nI 40 ≤ nI z then nI z + 0 else nI z + 1) ∧ (1 ≤ (if nI 40 ≤ nI z then nI z + 0 else nI z + 1) ∧ (if nI 40 ≤ nI z then nI z + 0 else nI z + 1) ≤ (40 : Int32)) := by decide +kernel
/-- all grow that may -/
theorem grow_l (N : Nat) {t : Int32} : ∀ d k i (C : xk_C) (σ : gm_S), i + d = nC → d < k → ga σ 1 2 = t → ¬ (ga σ 1 4 ≤ 0) → gx_rm (t + 1) (ga σ 1 4) = some 0 → cR bx sh cr hb nS nC nH C (gm_sta σ 1 2 (t + 1)) → ∃ C' σ', fX0_goTick_L134 N bx k C (nI i) = some (C', ()) ∧ fX3_ticks_L99 N k σ (nI i) = some σ' ∧ oC bx sh cr hb nS nC nH C (gm_sta σ 1 2 (t + 1)) C' σ' := by
  intro d
  induction d with
  | zero =>
    intro k i C σ hid hk ht hg hm h
    obtain ⟨k, rfl⟩ : ∃ k', k = k' + 1 := ⟨k - 1, by omega⟩
    have : i = nC := by omega
    subst this
    have h1 : ga σ 1 1 = nI i := by have := h.v1; rw [gn _ _ _ _ (by omega)] at this; exact this
    refine ⟨C, gm_sta σ 1 2 (t + 1), ?_, ?_, oC.id h⟩
    · unfold fX0_goTick_L134; rw [xr3 h, ev_b, xi3 h, ev_b, xs3 h, ev_b, if_pos (lp_end _)]
    · unfold fX3_ticks_L99; rw [ev_r1, ev_b, h1, if_pos (lp_end _), ev_r2, ev_b, ht, ev_w2, ev_b]
  | succ d ih =>
    intro k i C σ hid hk ht hg hm h
    obtain ⟨k, rfl⟩ : ∃ k', k = k' + 1 := ⟨k - 1, by omega⟩
    have hi : i < nC := by omega
    have hn := h.n12
    have hn2 := h.n20
    have row : ∀ p, p ≠ 2 → ga (gm_sta σ 1 2 (t + 1)) 1 p = ga σ 1 p := fun p hp => gn _ _ _ _ hp
    have h1 : ga σ 1 1 = nI nC := by have := h.v1; rw [row _ (by omega)] at this; exact this
    have hI0 : Iv nS nC nH (ga σ 1) := h.2.2.row (fun p hp => (row p hp).symm)
    have eh : hs (gm_sta σ 1 2 (t + 1)) i = hs σ i := by unfold hs; rw [row _ (by omega)]
    have eo : ow (gm_sta σ 1 2 (t + 1)) i = ow σ i := by
      unfold ow fs
      simp (disch := omega) only [row]
    unfold fX0_goTick_L134 fX0_goTick_B188
    simp only [xr3 h, xi3 h, xs3 h, xr0 h, xi0 h, xs0 h, xg3 h hi, xc6 h hi, xq6 h hi, hs_x h hi, ow_x h hi, x47 h hi, ev_b, lp_go hi (by omega : nC ≤ 1000), if_false, s_a1, eh, eo, row (130 + i) (by omega)]
    have m0 : ∀ k', fX3_ticks_L99 N (k' + 1) σ (nI i) = (if hs σ i = 0 then fX3_ticks_L99 N k' σ (nI (i + 1)) else if ow σ i < nI 10 then fX3_ticks_L99 N k' σ (nI (i + 1)) else fX3_ticks_B159 N (fX3_ticks_L99 N k') σ (nI i) 1) := fun k' => by
      conv => lhs; unfold fX3_ticks_L99
      rw [ev_r1, ev_b, h1, if_neg (lp_go hi (by omega)), ev_r4, ev_b, if_neg hg, ev_r2, ht, ev_b, ev_b, hm, ev_b, if_pos rfl, hs_m σ (by omega), ev_b, ow_m hI0 hi, ev_b, idw N _ σ (by omega)]
    rw [m0]
    by_cases e : hs σ i = 0
    · simp only [if_pos e]; exact ih k (i + 1) C σ (by omega) (by omega) ht hg hm h
    simp only [if_neg e]
    by_cases e2 : ow σ i < nI 10
    · simp only [if_pos e2]; exact ih k (i + 1) C σ (by omega) (by omega) ht hg hm h
    simp only [if_neg e2]
    unfold fX3_ticks_B159 fX3_ticks_B194 fX3_ticks_B195
    obtain ⟨z, z1, z2, ez⟩ := s_range (hI0.2.2.1 i hi).1
    obtain ⟨g1, g2⟩ := grow_s z (by omega) z1
    have w130 : ∀ v, gm_wr σ 1 (nI 130 + nI i) v = some (gm_sta σ 1 (130 + i) v) := fun v => m_wr1 _ _ _ _ (by omega)
    have p47 : ∀ v, xk_pi C 47 (some (cr i)) v = some (xk_si C 47 (cr i) v) := fun v => p_i (h.1.2.2.2.2.1.1 i hi) rfl
    simp only [m_rd1 σ 130 i (by omega : 130 + i < 240), ez, ev_b, ev_10, if_false, g1, w130, p47, s_a1 i]
    have fin : ∀ v : Int32, (1 ≤ v ∧ v ≤ 40) → ∃ C' σ', fX0_goTick_L134 N bx k (xk_si C 47 (cr i) v) (nI (i + 1)) = some (C', ()) ∧ fX3_ticks_L99 N k (gm_sta σ 1 (130 + i) v) (nI (i + 1)) = some σ' ∧ oC bx sh cr hb nS nC nH C (gm_sta σ 1 2 (t + 1)) C' σ' := by
      intro v hv
      have h2 : cR bx sh cr hb nS nC nH (xk_si C 47 (cr i) v) (gm_sta (gm_sta σ 1 (130 + i) v) 1 2 (t + 1)) := by
        rw [sta_comm _ _ _ _ _ _ (by omega)]
        refine ⟨wA47 h.1 hi v, h.2.1.same (fun j hj => ⟨wi1 rfl (by decide), wi1 rfl (by decide), wi1 rfl (by decide)⟩) (fun j hj => ⟨gn _ _ _ _ (by omega), gn _ _ _ _ (by omega)⟩), ?_⟩
        have hI := h.2.2
        refine hI.upd (hI.jr.eq (fun j hj => ⟨?_, ?_⟩) (fun e he => ⟨?_, ?_⟩)) ⟨?_, ?_, ?_, ?_⟩ (fun j hj => ⟨?_, ?_, ?_⟩) (fun e he => ⟨?_, ?_, ?_, ?_⟩)
        all_goals first
          | (rw [gn _ _ _ _ (by omega)]; done)
          | skip
        · rw [gr]
          by_cases q : e = i
          · rw [if_pos q]; exact hv
          · rw [if_neg q]; exact (hI.2.2.1 e he).1
        · rw [gn _ _ _ _ (by omega)]; exact (hI.2.2.1 e he).2.2.1
        · rw [gn _ _ _ _ (by omega)]; exact (hI.2.2.1 e he).2.2.2.2
      obtain ⟨C', σ', q1, q2, o⟩ := ih k (i + 1) _ _ (by omega) (by omega) (by rw [gn _ _ _ _ (by omega)]; exact ht) (by rw [gn _ _ _ _ (by omega)]; exact hg) (by rw [gn _ _ _ _ (by omega)]; exact hm) h2
      refine ⟨C', σ', q1, q2, o.1, ⟨Fr.trans (Fr.si Fr.refl _ _ _ (.inl (by decide))) o.2.1.1, o.2.1.2⟩, ?_⟩
      have := o.2.2
      rw [sta_comm _ _ _ _ _ _ (by omega)] at this
      exact (Mf.sta Mf.refl _ _ _ (by decide)).trans this
    by_cases q : nI 40 ≤ nI z
    · simp only [if_pos q] at g2 ⊢; exact fin _ g2
    · simp only [if_neg q] at g2 ⊢; exact fin _ g2
end
end
section
/-! STAGE 2: tick -/
section
variable {bx : Nat} {sh cr hb : Nat → Nat} {nS nC nH : Nat} {cls : Nat → List (Nat × Nat × List Int32 × List (Nat × Nat))} {C : xk_C} {σ : gm_S}
theorem cA.same {σ' : gm_S} (h : cA bx sh cr hb nS nC C σ) (e : ∀ p, p < 166 ∨ (178 ≤ p ∧ p < 226) → ga σ' 1 p = ga σ 1 p) : cA bx sh cr hb nS nC C σ' := by
  obtain ⟨hB, L1, L3, ⟨S5, Sn, S37, S38, S39, S40, S41, S42, S43⟩, ⟨C6, Cn, C44, C46, C47, C48, C49, C53, C54, C55, C56⟩, ⟨B4, B5, B6, B7⟩, nS20, nC12⟩ := h
  refine ⟨hB, L1, L3, ⟨S5, Sn, S37, ?_, ?_, ?_, ?_, ?_, ?_⟩, ⟨C6, Cn, C44, ?_, ?_, ?_, ?_, ?_, ?_, ?_, C56⟩, ⟨?_, ?_, ?_, ?_⟩, nS20, nC12⟩
  · intro i hi; rw [e _ (by omega)]; exact S38 i hi
  · intro i hi; rw [e _ (by omega)]; exact S39 i hi
  · intro i hi; rw [e _ (by omega)]; exact S40 i hi
  · intro i hi; rw [e _ (by omega)]; exact S41 i hi
  · intro i hi; rw [e _ (by omega)]; exact S42 i hi
  · intro i hi; rw [e _ (by omega)]; exact S43 i hi
  · intro i hi; rw [e _ (by omega)]; exact C46 i hi
  · intro i hi; rw [e _ (by omega)]; exact C47 i hi
  · intro i hi; rw [e _ (by omega)]; exact C48 i hi
  · intro i hi; rw [e _ (by omega)]; exact C49 i hi
  · intro i hi; rw [e _ (by omega)]; exact C53 i hi
  · intro i hi; rw [e _ (by omega)]; exact C54 i hi
  · intro i hi; rw [e _ (by omega)]; exact C55 i hi
  · rw [e _ (by omega)]; exact B4
  · rw [e _ (by omega)]; exact B5
  · rw [e _ (by omega)]; exact B6
  · intro j hj; rw [e _ (by omega)]; exact B7 j hj
theorem end_l {N : Nat} (hN : 100 ≤ N) (h : cR bx sh cr hb nS nC nH C σ) : ∃ C' σ', xEnd N bx C = some (C', ()) ∧ fX3_ticks_L99 N N σ 0 = some σ' ∧ oC bx sh cr hb nS nC nH C σ C' σ' := by
  have hn := h.n12
  have kB := h.kB
  have B4 := h.1.2.2.2.2.2.1.1
  have B6 := h.1.2.2.2.2.2.1.2.2.1
  have hI := h.2.2
  have g0 := hI.1.2.2.2.2.2.2
  have h1 : cR bx sh cr hb nS nC nH (xk_si C 4 bx (ga σ 1 2 + 1)) (gm_sta σ 1 2 (ga σ 1 2 + 1)) := ⟨wA4 h.1 _, h.2.1.same (fun j hj => ⟨wi1 rfl (by decide), wi1 rfl (by decide), wi1 rfl (by decide)⟩) (fun j hj => ⟨gn _ _ _ _ (by omega), gn _ _ _ _ (by omega)⟩), hI.row (fun p hp => gn _ _ _ _ hp)⟩
  have o1 : oC bx sh cr hb nS nC nH C σ (xk_si C 4 bx (ga σ 1 2 + 1)) (gm_sta σ 1 2 (ga σ 1 2 + 1)) := ⟨h1, ⟨Fr.si Fr.refl _ _ _ (.inl (by decide)), rfl, rfl⟩, Mf.sta Mf.refl _ _ _ (by decide)⟩
  have i6 : xk_gi (xk_si C 4 bx (ga σ 1 2 + 1)) 6 (some bx) = some (ga σ 1 4) := by rw [g_i (C := xk_si C 4 bx (ga σ 1 2 + 1)) kB rfl, wi1 (f' := 4) rfl (by decide), B6]
  have i4 : xk_gi (xk_si C 4 bx (ga σ 1 2 + 1)) 4 (some bx) = some (ga σ 1 2 + 1) := by rw [g_i (C := xk_si C 4 bx (ga σ 1 2 + 1)) kB rfl, i_si, if_pos ⟨rfl, rfl⟩]
  unfold xEnd
  rw [g_i kB rfl, B4, ev_b, p_i kB rfl, ev_b, i6, ev_b, i4, ev_b, ev_b]
  by_cases c0 : ga σ 1 4 = 0
  · rw [if_pos c0]
    exact ⟨_, _, rfl, still_l N nC N 0 σ (by omega) (by omega) hn h.v1 rfl (.inl (by rw [c0]; exact Int32.le_refl _)), o1⟩
  · rw [if_neg c0]
    have hpos : ¬ ga σ 1 4 ≤ 0 := fun e => c0 (Int32.le_antisymm e g0.1)
    have hrm : ∃ v, gx_rm (ga σ 1 2 + 1) (ga σ 1 4) = some v := ⟨_, by unfold gx_rm; rw [if_neg c0]⟩
    obtain ⟨v, hv⟩ := hrm
    rw [hv, ev_b]
    by_cases v0 : v = 0
    · rw [if_pos v0]
      subst v0
      obtain ⟨C', σ', f1, f2, o⟩ := grow_l N nC N 0 _ σ (by omega) (by omega) rfl hpos hv h1
      exact ⟨C', σ', f1, f2, o1.trans o⟩
    · rw [if_neg v0]
      exact ⟨_, _, rfl, still_l N nC N 0 σ (by omega) (by omega) hn h.v1 rfl (.inr ⟨v, c0, hv, v0⟩), o1⟩
theorem goTick_l {N : Nat} (hN : 200 ≤ N) (h : cR bx sh cr hb nS nC nH C σ) (H : pH bx hb nH cls C σ) : ∃ C' σ', fX0_goTick N bx C = some (C', ()) ∧ fX3_ticks N σ = some σ' ∧ oC bx sh cr hb nS nC nH C σ C' σ' := by
  have hn := h.n12
  have hn2 := h.n20
  have hI := h.2.2
  unfold fX0_goTick fX3_ticks
  obtain ⟨σz, f1, e1, e2, M1⟩ := reset_l (nC := nC) N nC N 0 σ (by omega) (by omega) hn h.v1
  have e1' : ∀ p, p < 226 → ga σz 1 p = ga σ 1 p := fun p hp => e1 p (by omega)
  have f1' : fX3_ticks_L2 N N σ 0 = fX3_ticks_L31 N N σz 0 := f1
  have hIz : Iv nS nC nH (ga σz 1) := by
    refine hI.upd (hI.jr.eq (fun j hj => ⟨e1' _ (by omega), e1' _ (by omega)⟩) (fun c hc => ⟨e1' _ (by omega), e1' _ (by omega)⟩)) ⟨e1' _ (by omega), e1' _ (by omega), e1' _ (by omega), e1' _ (by omega)⟩ (fun j hj => ⟨e1' _ (by omega), e1' _ (by omega), e1' _ (by omega)⟩) (fun c hc => ?_)
    rw [e1' _ (by omega), e1' (154 + c) (by omega), e1' (214 + c) (by omega), e2 c (by omega) hc]
    exact ⟨(hI.2.2.1 c hc).1, .inl rfl, rfl, (hI.2.2.1 c hc).2.2.2.2⟩
  have hQ : Qt bx sh cr hb nS nC nH 0 C σz := ⟨h.1.same (fun p hp => e1' p (by omega)), hIz, fun j hj => by rw [e1' _ (by omega)]; exact h.2.1.1 j hj, fun j hj => by omega, fun j hj => e2 j (by omega) hj⟩
  obtain ⟨C2, σ2, g1, g2, o2, hD⟩ := bare_l (N := N) (by omega) nC N 0 C σz (by omega) (by omega) hQ
  have g1' : fX0_goTick_L2 N bx N C 0 = fX0_goTick_L54 N bx N C2 0 := g1
  have g2' : fX3_ticks_L31 N N σz 0 = fX3_ticks_L68 N N σ2 0 := g2
  have o12 : oC bx sh cr hb nS nC nH C σ C2 σ2 := ⟨o2.1, o2.2.1, (M1.mono (fun _ h => h) (by decide)).trans o2.2.2⟩
  obtain ⟨C3, σ3, i1, i2, o3⟩ := housed_l hN nC N 0 C2 σ2 (by omega) (by omega) o2.1 (o12.pH H) (fun j _ hj => hD j hj)
  have i1' : fX0_goTick_L54 N bx N C2 0 = xEnd N bx C3 := i1
  have i2' : fX3_ticks_L68 N N σ2 0 = fX3_ticks_L99 N N σ3 0 := i2
  obtain ⟨C4, σ4, j1, j2, o4⟩ := end_l (N := N) (by omega) o3.1
  rw [f1', g1', g2', i1', i2', j1, j2]
  exact ⟨C4, σ4, rfl, rfl, (o12.trans o3).trans o4⟩
theorem tick_l {N : Nat} (hN : 200 ≤ N) (n : Nat) (hn : n ≤ 30) : ∀ d k i (C : xk_C) (σ : gm_S), i + d = n → d < k → cR bx sh cr hb nS nC nH C σ → pH bx hb nH cls C σ → ∃ C' σ' r, fX0_tick_L15 N bx k C (nI n) (nI i) = some (C', r) ∧ fX3_tick_L15 N k σ (nI n) (nI i) = some (σ', r) ∧ oC bx sh cr hb nS nC nH C σ C' σ' := by
  intro d
  induction d with
  | zero =>
    intro k i C σ hid hk h H
    obtain ⟨k, rfl⟩ : ∃ k', k = k' + 1 := ⟨k - 1, by omega⟩
    have : i = n := by omega
    subst this
    refine ⟨C, σ, ga σ 1 2, ?_, ?_, oC.id h⟩
    · unfold fX0_tick_L15; rw [if_pos (lp_end _), g_i h.kB rfl, h.1.2.2.2.2.2.1.1, ev_b]
    · unfold fX3_tick_L15; rw [if_pos (lp_end _), ev_r2, ev_b]
  | succ d ih =>
    intro k i C σ hid hk h H
    obtain ⟨k, rfl⟩ : ∃ k', k = k' + 1 := ⟨k - 1, by omega⟩
    obtain ⟨C2, σ2, f1, f2, o⟩ := goTick_l hN h H
    obtain ⟨C', σ', r, g1, g2, o'⟩ := ih k (i + 1) C2 σ2 (by omega) (by omega) o.1 (o.pH H)
    refine ⟨C', σ', r, ?_, ?_, o.trans o'⟩
    · unfold fX0_tick_L15; rw [if_neg (lp_go (by omega) (by omega)), g_is h.kB, ev_b, f1, ev_b, s_a1, g1]
    · unfold fX3_tick_L15; rw [if_neg (lp_go (by omega) (by omega)), f2, ev_b, s_a1, g2]
theorem op_tick {N : Nat} (hN : 200 ≤ N) (h : cR bx sh cr hb nS nC nH C σ) (H : pH bx hb nH cls C σ) (a1 : Int32) : ∃ C' σ' r, fX0_tick N bx C a1 = some (C', r) ∧ fX3_tick N σ a1 = some (σ', r) ∧ oC bx sh cr hb nS nC nH C σ C' σ' := by
  unfold fX0_tick fX3_tick
  rw [in_eq]
  rcases in_ok a1 1 (nI 30) with e | ⟨e, h1, h2⟩
  · rw [e]; exact ⟨_, _, _, rfl, rfl, oC.id h⟩
  · obtain ⟨i, hi, rfl⟩ := s_get (n := 31) (by omega) (Int32.le_trans (by decide) h1) (Int32.lt_of_le_of_lt h2 (by decide))
    rw [e, ev_b, ev_b, if_neg (by decide), if_neg (by decide)]
    exact tick_l hN i (by omega) i N 0 C σ (by omega) (by omega) h H
end
end
section
/-! STAGE 2: habit, holds, films -/
section
variable {bx : Nat} {sh cr hb : Nat → Nat} {nS nC nH : Nat} {cls : Nat → List (Nat × Nat × List Int32 × List (Nat × Nat))} {C : xk_C} {σ : gm_S}
theorem hr11 (h : cR bx sh cr hb nS nC nH C σ) : xk_gr C 11 (some bx) = some (some (bx + 7)) := by rw [g_r h.kB rfl, h.1.1.2.1.2.2.2.2.2.2.1]
theorem habitAt_in (h : cR bx sh cr hb nS nC nH C σ) (H : pH bx hb nH cls C σ) {i : Nat} (hi : i < nH) : fX0_habitAt bx C (nI i) = some (some (hb i)) := by
  have n8 := H.2.1
  unfold fX0_habitAt
  rw [if_neg (s_nn i (by omega)), hr11 h, ev_b, g_is H.2.2.1.1, ev_b, H.2.2.1.size, ev_b, if_pos ((s_lt _ _ (by omega) (by omega)).mpr hi), ev_b, g_is H.2.2.1.1, ev_b, H.2.2.1.get hi, ev_b, g_ck (H.2.2.2.1 i hi).1.1.1, ev_b]
theorem habitAt_out (h : cR bx sh cr hb nS nC nH C σ) (H : pH bx hb nH cls C σ) {v : Int32} (hv : v < 0 ∨ nI nH ≤ v) : fX0_habitAt bx C v = some none := by
  unfold fX0_habitAt fX0_habitAt_B15
  by_cases h0 : v < 0
  · rw [if_pos h0]
  · rw [if_neg h0, hr11 h, ev_b, g_is H.2.2.1.1, ev_b, H.2.2.1.size, ev_b, if_neg (Int32.not_lt.mpr (hv.resolve_left h0))]
theorem op_habit (h : cR bx sh cr hb nS nC nH C σ) (H : pH bx hb nH cls C σ) (a1 a2 : Int32) : ∃ C' σ' r, fX0_habit bx C a1 a2 = some (C', r) ∧ fX3_habit σ a1 a2 = some (σ', r) ∧ oC bx sh cr hb nS nC nH C σ C' σ' := by
  have hn := h.n12
  have hn2 := h.n20
  have n8 := H.2.1
  have hI := h.2.2
  unfold fX0_habit fX3_habit
  rw [g_is h.kB, ev_b]
  rcases s_rng nC (by omega) a1 with ⟨c, hc, rfl⟩ | hv
  · simp only [isCrab_in h.v1 hn hc, crabAt_in h hc, ev_b, reduceCtorEq, if_false, ev_10]
    have k6 := h.1.2.2.2.2.1.1 c hc
    -- the writes
    have fin : ∀ v, ix nH v → fX0_habitAt bx C v = some (rf hb v) → ∃ C' σ' r, fX0_habit_B25 bx C v (some (cr c)) = some (C', r) ∧ fX3_habit_B23 σ (nI c) v = some (σ', r) ∧ oC bx sh cr hb nS nC nH C σ C' σ' := by
      intro v hv hat
      have o : oC bx sh cr hb nS nC nH C σ (xk_sr C 55 (cr c) (rf hb v)) (gm_sta σ 1 (154 + c) v) := by
        refine ⟨⟨wA55 h.1 hc v, h.2.1.same (fun j hj => ⟨rfl, rfl, rfl⟩) (fun j hj => ⟨gn _ _ _ _ (by omega), gn _ _ _ _ (by omega)⟩), ?_⟩, ⟨Fr.sr Fr.refl _ _ _ (.inl (by decide)) (by decide), rfl, rfl⟩, Mf.sta Mf.refl _ _ _ (by decide)⟩
        refine hI.same ?_ ?_ ?_ ?_ (fun i hi => ⟨?_, ?_, ?_, ?_, ?_⟩) (fun i hi => ⟨?_, ?_, ?_, ?_, ?_, ?_⟩)
        all_goals first
          | (rw [gn _ _ _ _ (by omega)]; done)
          | skip
        · rw [gn _ _ _ _ (by omega)]; exact hI.1.2.2.2.2.2.1
        · rw [gn _ _ _ _ (by omega)]; exact hI.1.2.2.2.2.2.2
        · rw [gr]
          by_cases q : i = c
          · rw [if_pos q]; exact hv
          · rw [if_neg q]; exact (hI.2.2.1 i hi).2.2.2.1
        · rw [gn _ _ _ _ (by omega)]; exact (hI.2.2.1 i hi).2.2.2.2
      unfold fX0_habit_B25 fX3_habit_B23 fX0_habit_B44
      rw [x55 h hc, ev_b, m_rd1 _ _ _ (by omega), ev_b, m_wr1 _ _ _ _ (by omega), ev_b, g_is h.kB]
      simp only [ev_b, hat, p_r (v := rf hb v) k6 (show xk_has 6 55 = true from rfl)]
      rcases (hI.2.2.1 c hc).2.2.2.1 with e | ⟨i, hi, e⟩
      · rw [e, rf_n, if_pos rfl, if_pos rfl]; exact ⟨_, _, _, rfl, rfl, o⟩
      · rw [e, rf_s hb i (by omega), if_neg (by simp), if_neg (s_m1 i (by omega)), g_i (H.2.2.2.1 i hi).1.1.1 rfl, (H.2.2.2.1 i hi).1.1.2.2.1]
        exact ⟨_, _, _, rfl, rfl, o⟩
    by_cases e : a2 = -1
    · subst e
      simp only [if_true]
      exact fin (-1) (.inl rfl) (by rw [habitAt_out h H (.inl (by decide)), rf_n])
    · simp only [if_neg e, g_is h.kB, ev_b]
      rcases s_rng nH (by omega) a2 with ⟨i, hi, rfl⟩ | hv
      · simp only [isHabit_in H.1 n8 hi, habitAt_in h H hi, ev_b, reduceCtorEq, if_false, ev_10]
        exact fin (nI i) (.inr ⟨i, hi, rfl⟩) (by rw [habitAt_in h H hi, rf_s hb i (by omega)])
      · rw [isHabit_out H.1 n8 hv, habitAt_out h H hv]
        exact ⟨_, _, _, rfl, rfl, oC.id h⟩
  · rw [isCrab_out h.v1 hn hv, crabAt_out h hv]
    exact ⟨_, _, _, rfl, rfl, oC.id h⟩
theorem num_eq (v : Int32) : fX0_isNumber v = fX3_isThousand v := rfl
theorem thou_ok (v : Int32) : fX3_isThousand v = some 0 ∨ fX3_isThousand v = some 1 := by
  unfold fX3_isThousand
  rcases in_ok v 0 (nI 999) with e | ⟨e, -, -⟩
  · rw [e]; exact .inl rfl
  · rw [e]; exact .inr rfl
/-- the numbers are good: both sides go on alike -/
theorem nums_l {α β : Type} (f g s o n : Int32) (bx : Option α) (bm : Option β) (kx : Option α) (km : Option β) : ((fX0_areNumbers f g s o n).bind (fun r => if r = 0 then bx else kx) = bx ∧ ((fX3_isThousand f).bind fun r3 => if r3 = 0 then bm else (fX3_isThousand g).bind fun r4 => if r4 = 0 then bm else (fX3_isThousand s).bind fun r5 => if r5 = 0 then bm else (fX3_isThousand o).bind fun r6 => if r6 = 0 then bm else (fX3_isThousand n).bind fun r7 => if r7 = 0 then bm else km) = bm) ∨ ((fX0_areNumbers f g s o n).bind (fun r => if r = 0 then bx else kx) = kx ∧ ((fX3_isThousand f).bind fun r3 => if r3 = 0 then bm else (fX3_isThousand g).bind fun r4 => if r4 = 0 then bm else (fX3_isThousand s).bind fun r5 => if r5 = 0 then bm else (fX3_isThousand o).bind fun r6 => if r6 = 0 then bm else (fX3_isThousand n).bind fun r7 => if r7 = 0 then bm else km) = km) := by
  unfold fX0_areNumbers
  simp only [num_eq]
  rcases thou_ok f with e1 | e1
  · left; rw [e1]; exact ⟨rfl, rfl⟩
  rcases thou_ok g with e2 | e2
  · left; rw [e1, e2]; exact ⟨rfl, rfl⟩
  rcases thou_ok s with e3 | e3
  · left; rw [e1, e2, e3]; exact ⟨rfl, rfl⟩
  rcases thou_ok o with e4 | e4
  · left; rw [e1, e2, e3, e4]; exact ⟨rfl, rfl⟩
  rcases thou_ok n with e5 | e5
  · left; rw [e1, e2, e3, e4, e5]; exact ⟨rfl, rfl⟩
  · right; rw [e1, e2, e3, e4, e5]; exact ⟨rfl, rfl⟩
theorem op_holds {N : Nat} (hN : 200 ≤ N) (h : cR bx sh cr hb nS nC nH C σ) (H : pH bx hb nH cls C σ) (a1 a2 a3 a4 a5 a6 a7 : Int32) : ∃ C' σ' r, fX0_holds N bx C a1 a2 a3 a4 a5 a6 a7 = some (C', r) ∧ fX3_holds N σ a1 a2 a3 a4 a5 a6 a7 = some (σ', r) ∧ oC bx sh cr hb nS nC nH C σ C' σ' := by
  have n8 := H.2.1
  unfold fX0_holds fX3_holds
  rw [g_is h.kB, ev_b]
  rcases s_rng nH (by omega) a1 with ⟨i, hi, rfl⟩ | hv
  · rw [isHabit_in H.1 n8 hi, habitAt_in h H hi, ev_b, ev_b, if_neg (by simp), if_neg (by decide), in_eq]
    rcases in_ok a2 0 3 with e | ⟨e, -, -⟩
    · rw [e]; exact ⟨_, _, _, rfl, rfl, oC.id h⟩
    · rw [e, ev_b, ev_b, if_neg (by decide), if_neg (by decide)]
      rcases nums_l a3 a4 a5 a6 a7 (some (C, (-2 : Int32))) (some (σ, (-2 : Int32))) ((xk_is C 14 (some (hb i))).bind fun b6 => (fX13_holds N b6 C a2 a3 a4 a5 a6 a7).bind fun r5 => if r5.2 = 0 then some (r5.1, 0) else some (r5.1, 1)) ((fX3_holdsFor N σ (nI i) a2 a3 a4 a5 a6 a7).bind fun r8 => if r8.2 = 0 then some (r8.1, 0) else some (r8.1, 1)) with ⟨e1, e2⟩ | ⟨e1, e2⟩
      · rw [e1, e2]; exact ⟨_, _, _, rfl, rfl, oC.id h⟩
      · rw [e1, e2, g_is (H.2.2.2.1 i hi).1.1.1, ev_b]
        obtain ⟨x, C', σ', hx, f1, f2, F, M⟩ := holds_l hN h H hi a2 a3 a4 a5 a6 a7
        rw [f1, f2, ev_b, ev_b]
        refine ⟨C', σ', x, ?_, ?_, (h.oA F M).oC⟩
        · rcases hx with rfl | rfl <;> rfl
        · rcases hx with rfl | rfl <;> rfl
  · rw [isHabit_out H.1 n8 hv, habitAt_out h H hv]
    exact ⟨_, _, _, rfl, rfl, oC.id h⟩
/-- the films -/
def pF (bx : Nat) (fm : Nat → Nat) (nF : Nat) (C : xk_C) (σ : gm_S) : Prop := gs σ 6 = nI nF ∧ nF ≤ 40 ∧ pL C (bx + 18) nF fm ∧ (∀ i, i < nF → xk_k C (fm i) = 19) ∧ (∀ i, i < nF → ∀ j, j < 7 → xk_i C (84 + j) (fm i) = ga σ 11 (7 * i + j))
theorem pF.fr {fi fr : List Nat} {E : Nat → Nat → Bool} {fm : Nat → Nat} {nF : Nat} {C' : xk_C} {σ' : gm_S} {ks as : List Nat} (H : pF bx fm nF C σ) (F : Fr fi fr E C C') (M : Mf ks as σ σ') (h1 : ∀ f, f ∈ fi → f < 84 ∨ 90 < f) (h1' : 103 ∉ fi) (h2 : 102 ∉ fr) (h3 : ∀ e, e < xk_n C → E 34 e = false) (m1 : 6 ∉ ks) (m2 : 11 ∉ as) : pF bx fm nF C' σ' := by
  obtain ⟨a, b, c, d, e⟩ := H
  have hn : ∀ i, i < nF → fm i < xk_n C := fun i hi => (c.2.2.2.1 i hi).1
  refine ⟨(M.1 6 m1).trans a, b, c.fr F h1' h2 h3, fun i hi => (F.k (hn i hi)).trans (d i hi), fun i hi j hj => ?_⟩
  rw [F.i (hn i hi) (fun h => by have := h1 _ h; omega), M.2 11 m2]
  exact e i hi j hj
theorem agree_l {N : Nat} {fm : Nat → Nat} {nF : Nat} (hN : 200 ≤ N) {hh : Nat} (hhh : hh < nH) (as so : Int32) (hs : (as = 0 ∧ so = 1) ∨ (¬ as = 0 ∧ so = 0)) : ∀ d k i (n : Int32) (C : xk_C) (σ : gm_S), i + d = nF → d < k → cR bx sh cr hb nS nC nH C σ → pH bx hb nH cls C σ → pF bx fm nF C σ → ∃ C' σ' r, fX0_agreeing_L5 N bx k C (some (hb hh)) so n (nI i) = some (C', r) ∧ fX3_agreeing_L5 N k σ (nI hh) as n (nI (7 * i)) = some (σ', r) ∧ oA bx sh cr hb nS nC nH C σ C' σ' := by
  intro d
  induction d with
  | zero =>
    intro k i n C σ hid hk h H P
    obtain ⟨k, rfl⟩ : ∃ k', k = k' + 1 := ⟨k - 1, by omega⟩
    have : i = nF := by omega
    subst this
    have r23 := h.1.1.2.1.2.2.2.2.2.2.2.2.2.2.2.2
    refine ⟨C, σ, n, ?_, ?_, h.oA ⟨Fr.refl, rfl, rfl⟩ Mf.refl⟩
    · unfold fX0_agreeing_L5; rw [g_r h.kB rfl, r23, ev_b, g_is P.2.2.1.1, ev_b, P.2.2.1.size, ev_b, if_pos (lp_end _)]
    · unfold fX3_agreeing_L5; rw [P.1, s_mul, if_pos (lp_end _)]
  | succ d ih =>
    intro k i n C σ hid hk h H P
    obtain ⟨k, rfl⟩ : ∃ k', k = k' + 1 := ⟨k - 1, by omega⟩
    have hi : i < nF := by omega
    have n40 := P.2.1
    have n8 := H.2.1
    have r23 := h.1.1.2.1.2.2.2.2.2.2.2.2.2.2.2.2
    have kf := P.2.2.2.1 i hi
    have fl := P.2.2.2.2 i hi
    have f0 := fl 0 (by omega)
    have f1 := fl 1 (by omega)
    have f2 := fl 2 (by omega)
    have f3 := fl 3 (by omega)
    have f4 := fl 4 (by omega)
    have f5 := fl 5 (by omega)
    have f6 := fl 6 (by omega)
    have rd : ∀ (s' : gm_S) j, j < 7 → gm_rd s' 11 (nI (7 * i) + nI j) = some (ga s' 11 (7 * i + j)) := fun s' j hj => by rw [s_add]; exact m_rd s' (k := 11) (show 7 * i + j < 280 by omega) (by omega)
    have rd0 : gm_rd σ 11 (nI (7 * i)) = some (ga σ 11 (7 * i + 0)) := m_rd σ (k := 11) (show 7 * i < 280 by omega) (by omega)
    have rd1 : gm_rd σ 11 (nI (7 * i + 1)) = some (ga σ 11 (7 * i + 1)) := m_rd σ (k := 11) (show 7 * i + 1 < 280 by omega) (by omega)
    have rd2 := rd σ 2 (by omega)
    have rd3 := rd σ 3 (by omega)
    have rd4 := rd σ 4 (by omega)
    have rd5 := rd σ 5 (by omega)
    have a7 : nI (7 * i) + 7 = nI (7 * (i + 1)) := s_add (7 * i) 7
    have nle : ¬ (nI 7 * nI nF ≤ nI (7 * i)) := by rw [s_mul, s_le _ _ (by omega) (by omega)]; omega
    have gf : fJ2_get (bx + 18) C (nI i) = some (some (fm i)) := P.2.2.1.get hi
    have next : ∀ (m : Int32) C2 σ2, oA bx sh cr hb nS nC nH C σ C2 σ2 → ∃ C' σ' r, fX0_agreeing_L5 N bx k C2 (some (hb hh)) so m (nI (i + 1)) = some (C', r) ∧ fX3_agreeing_L5 N k σ2 (nI hh) as m (nI (7 * (i + 1))) = some (σ', r) ∧ oA bx sh cr hb nS nC nH C σ C' σ' := fun m C2 σ2 o => by
      obtain ⟨C', σ', r, g1, g2, o'⟩ := ih k (i + 1) m C2 σ2 (by omega) (by omega) o.1 (o.oC.pH H) (P.fr o.2.1.1 o.2.2 (by decide) (by decide) (by decide) (fun _ _ => rfl) (by decide) (by decide))
      exact ⟨C', σ', r, g1, g2, o'.1, ⟨o.2.1.1.trans o'.2.1.1, o'.2.1.2.1.trans o.2.1.2.1, o'.2.1.2.2.trans o.2.1.2.2⟩, o.2.2.trans o'.2.2⟩
    unfold fX0_agreeing_L5 fX3_agreeing_L5 fX0_agreeing_B60 fX0_agreeing_B61 fX3_agreeing_B111 fX3_agreeing_B119 fX3_agreeing_B133 fX3_agreeing_B141 fX3_agreeing_B143 fX18_isSeen fX18_agrees fX18_agrees_B41
    simp only [g_r h.kB (show xk_has 1 23 = true from rfl), r23, ev_b, g_is P.2.2.1.1, P.2.2.1.size, lp_go hi (by omega : nF ≤ 1000), if_false, gf, g_ck kf, g_is kf, g_i kf (show xk_has 19 90 = true from rfl), P.1, nle, rd σ 6 (by omega), f6, a7, s_a1]
    by_cases s1 : ga σ 11 (7 * i + 6) = -1
    · simp only [if_pos s1, ev_b, if_true, Int32.add_zero]
      exact next n C σ (h.oA ⟨Fr.refl, rfl, rfl⟩ Mf.refl)
    · simp only [if_neg s1, ev_b, ev_10, if_false]
      rw [rd0, ev_b, rd1, ev_b, show nI (7 * i) + 2 = nI (7 * i) + nI 2 from rfl, rd2, ev_b, show nI (7 * i) + 3 = nI (7 * i) + nI 3 from rfl, rd3, ev_b, show nI (7 * i) + 4 = nI (7 * i) + nI 4 from rfl, rd4, ev_b, show nI (7 * i) + 5 = nI (7 * i) + nI 5 from rfl, rd5, ev_b]
      rw [g_i kf (show xk_has 19 84 = true from rfl), g_i kf (show xk_has 19 85 = true from rfl), g_i kf (show xk_has 19 86 = true from rfl), g_i kf (show xk_has 19 87 = true from rfl), g_i kf (show xk_has 19 88 = true from rfl), g_i kf (show xk_has 19 89 = true from rfl), f0, f1, f2, f3, f4, f5]
      obtain ⟨x, C2, σ2, hx, q1, q2, F, M⟩ := holds_l hN h H hhh (ga σ 11 (7 * i + 0)) (ga σ 11 (7 * i + 1)) (ga σ 11 (7 * i + 2)) (ga σ 11 (7 * i + 3)) (ga σ 11 (7 * i + 4)) (ga σ 11 (7 * i + 5))
      have o2 := h.oA F M
      have fn := (P.2.2.1.2.2.2.1 i hi).1
      have kf2 : xk_k C2 (fm i) = 19 := (F.1.k fn).trans kf
      have s2 : xk_gi C2 90 (some (fm i)) = some (ga σ 11 (7 * i + 6)) := by rw [g_i kf2 rfl, F.1.i fn (by decide), f6]
      have s3 : gm_rd σ2 11 (nI (7 * i) + nI 6) = some (ga σ 11 (7 * i + 6)) := by rw [rd σ2 6 (by omega), M.2 11 (by decide)]
      simp only [ev_b, g_is (H.2.2.2.1 hh hhh).1.1.1, q1, q2, s2, s3]
      have n1 := next (n + 1) C2 σ2 o2
      have n0 := next (n + 0) C2 σ2 o2
      rcases hs with ⟨rfl, rfl⟩ | ⟨e1, rfl⟩
      · simp only [if_true]
        by_cases c1 : ga σ 11 (7 * i + 6) = 1
        · simp only [if_pos c1]
          rcases hx with rfl | rfl
          · exact n0
          · exact n1
        · simp only [if_neg c1]
          rcases hx with rfl | rfl
          · exact n1
          · exact n0
      · simp only [if_neg e1]
        by_cases c1 : ga σ 11 (7 * i + 6) = 1
        · simp only [if_pos c1]
          rcases hx with rfl | rfl
          · exact n1
          · exact n0
        · simp only [if_neg c1]
          rcases hx with rfl | rfl
          · exact n0
          · exact n1
end
end
section
/-! STAGE 2: reads, sure -/
section
variable {bx : Nat} {sh cr hb fm : Nat → Nat} {nS nC nH nF : Nat} {cls : Nat → List (Nat × Nat × List Int32 × List (Nat × Nat))} {C : xk_C} {σ : gm_S}
theorem agree_op {N : Nat} (hN : 200 ≤ N) {hh : Nat} (hhh : hh < nH) (as so : Int32) (hs : (as = 0 ∧ so = 1) ∨ (¬ as = 0 ∧ so = 0)) (h : cR bx sh cr hb nS nC nH C σ) (H : pH bx hb nH cls C σ) (P : pF bx fm nF C σ) : ∃ C' σ' r, fX0_agreeing N bx C (some (hb hh)) so = some (C', r) ∧ fX3_agreeing N σ (nI hh) as = some (σ', r) ∧ oA bx sh cr hb nS nC nH C σ C' σ' :=
  agree_l hN hhh as so hs nF N 0 0 C σ (by omega) (by have := P.2.1; omega) h H P
theorem op_reads {N : Nat} (hN : 200 ≤ N) (h : cR bx sh cr hb nS nC nH C σ) (H : pH bx hb nH cls C σ) (P : pF bx fm nF C σ) (a1 a2 : Int32) : ∃ C' σ' r, fX0_reads N bx C a1 a2 = some (C', r) ∧ fX3_reads N σ a1 a2 = some (σ', r) ∧ oC bx sh cr hb nS nC nH C σ C' σ' := by
  have n8 := H.2.1
  unfold fX0_reads fX3_reads fX0_reads_B19 fX0_reads_B34
  simp only [g_is h.kB, ev_b, in_eq]
  rcases s_rng nH (by omega) a1 with ⟨i, hi, rfl⟩ | hv
  · simp only [isHabit_in H.1 n8 hi, habitAt_in h H hi, ev_b, reduceCtorEq, if_false, ev_10]
    rcases in_ok a2 0 1 with e | ⟨e, h1, h2⟩
    · simp only [e, ev_b, if_true]; exact ⟨_, _, _, rfl, rfl, oC.id h⟩
    · simp only [e, ev_b, ev_10, if_false]
      by_cases e0 : a2 = 0
      · obtain ⟨C', σ', r, f1, f2, o⟩ := agree_op hN hi a2 1 (.inl ⟨e0, rfl⟩) h H P
        simp only [if_pos e0, f1, f2, ev_b]
        exact ⟨_, _, _, rfl, rfl, o.oC⟩
      · obtain ⟨C', σ', r, f1, f2, o⟩ := agree_op hN hi a2 0 (.inr ⟨e0, rfl⟩) h H P
        simp only [if_neg e0, f1, f2, ev_b]
        exact ⟨_, _, _, rfl, rfl, o.oC⟩
  · simp only [isHabit_out H.1 n8 hv, habitAt_out h H hv, ev_b, if_true]
    exact ⟨_, _, _, rfl, rfl, oC.id h⟩
theorem oA.trans {C1 C2 : xk_C} {σ1 σ2 : gm_S} (o : oA bx sh cr hb nS nC nH C σ C1 σ1) (o' : oA bx sh cr hb nS nC nH C1 σ1 C2 σ2) : oA bx sh cr hb nS nC nH C σ C2 σ2 := ⟨o'.1, ⟨o.2.1.1.trans o'.2.1.1, o'.2.1.2.1.trans o.2.1.2.1, o'.2.1.2.2.trans o.2.1.2.2⟩, o.2.2.trans o'.2.2⟩
theorem oA.pF {C' : xk_C} {σ' : gm_S} (o : oA bx sh cr hb nS nC nH C σ C' σ') (P : pF bx fm nF C σ) : pF bx fm nF C' σ' := P.fr o.2.1.1 o.2.2 (by decide) (by decide) (by decide) (fun _ _ => rfl) (by decide) (by decide)
theorem sure_l {N : Nat} (hN : 200 ≤ N) : ∀ d k i (n : Int32) (C : xk_C) (σ : gm_S), i + d = nH → d < k → cR bx sh cr hb nS nC nH C σ → pH bx hb nH cls C σ → pF bx fm nF C σ → ∃ C' σ' r, fX0_sure_L4 N bx k C n (nI i) = some (C', r) ∧ fX3_sure_L4 N k σ n (nI i) = some (σ', r) ∧ oA bx sh cr hb nS nC nH C σ C' σ' := by
  intro d
  induction d with
  | zero =>
    intro k i n C σ hid hk h H P
    obtain ⟨k, rfl⟩ : ∃ k', k = k' + 1 := ⟨k - 1, by omega⟩
    have : i = nH := by omega
    subst this
    refine ⟨C, σ, n, ?_, ?_, h.oA ⟨Fr.refl, rfl, rfl⟩ Mf.refl⟩
    · unfold fX0_sure_L4; rw [hr11 h, ev_b, g_is H.2.2.1.1, ev_b, H.2.2.1.size, ev_b, if_pos (lp_end _)]
    · unfold fX3_sure_L4; rw [H.1, if_pos (lp_end _)]
  | succ d ih =>
    intro k i n C σ hid hk h H P
    obtain ⟨k, rfl⟩ : ∃ k', k = k' + 1 := ⟨k - 1, by omega⟩
    have hi : i < nH := by omega
    have n8 := H.2.1
    obtain ⟨C2, σ2, r, f1, f2, o⟩ := agree_op hN hi 1 0 (.inr ⟨by decide, rfl⟩) h H P
    unfold fX0_sure_L4 fX3_sure_L4 fX0_sure_B42 fX3_sure_B29
    simp only [hr11 h, ev_b, g_is H.2.2.1.1, H.2.2.1.size, H.2.2.1.get hi, g_ck (H.2.2.2.1 i hi).1.1.1, g_is h.kB, H.1, lp_go hi (by omega : nH ≤ 1000), if_false, f1, f2, s_a1]
    have nx := fun m => ih k (i + 1) m C2 σ2 (by omega) (by omega) o.1 (o.oC.pH H) (o.pF P)
    by_cases e : r = 0
    · simp only [if_pos e]
      obtain ⟨C', σ', r', g1, g2, o'⟩ := nx (n ||| ((1 : Int32) <<< (nI i &&& 31)))
      exact ⟨C', σ', r', g1, g2, o.trans o'⟩
    · simp only [if_neg e]
      obtain ⟨C', σ', r', g1, g2, o'⟩ := nx (n ||| 0)
      exact ⟨C', σ', r', g1, g2, o.trans o'⟩
theorem op_sure {N : Nat} (hN : 200 ≤ N) (h : cR bx sh cr hb nS nC nH C σ) (H : pH bx hb nH cls C σ) (P : pF bx fm nF C σ) : ∃ C' σ' r, fX0_sure N bx C = some (C', r) ∧ fX3_sure N σ = some (σ', r) ∧ oC bx sh cr hb nS nC nH C σ C' σ' := by
  obtain ⟨C', σ', r, f1, f2, o⟩ := sure_l hN nH N 0 0 C σ (by omega) (by have := H.2.1; omega) h H P
  exact ⟨C', σ', r, f1, f2, o.oC⟩
end
/-! the tape -/
/-- a byte of the tape, both sides: signed, unsigned -/
def by8 (x y : Int32) : Prop := ∃ n, n < 256 ∧ y = nI n ∧ x = (if n < 128 then nI n else nI n - 256)
/-- what is on the tape -/
def pT (bx nT : Nat) (C : xk_C) (σ : gm_S) : Prop := xk_i C 9 bx = nI nT ∧ gs σ 7 = nI nT ∧ nT ≤ 120 ∧ ∀ j, j < nT → by8 (xk_e C (bx + 5) j) (ga σ 8 j)
theorem by8_of (v : Int64) : by8 ((v.toInt32.toInt8).toInt32) ((v &&& 255).toInt32) := by
  have h1 : (v.toInt32.toInt8).toInt32.toInt = v.toInt.bmod 256 := by
    rw [Int8.toInt_toInt32, Int32.toInt_toInt8, Int64.toInt_toInt32]
    rw [Int.bmod_bmod_of_dvd (by decide)]
  have hn : v.toBitVec.toNat % 256 < 256 := Nat.mod_lt _ (by decide)
  have h2 : v.toInt.bmod 256 = ((v.toBitVec.toNat : Int)).bmod 256 := by
    show (v.toBitVec.toInt).bmod 256 = _
    rw [BitVec.toInt_eq_toNat_bmod, Int.bmod_bmod_of_dvd (by decide)]
  have h3 : (v &&& 255) = Int64.ofNat (v.toBitVec.toNat % 256) := by
    apply Int64.toBitVec_inj.mp
    apply BitVec.eq_of_toNat_eq
    have e1 : (255 : Int64).toBitVec = 255#64 := rfl
    rw [Int64.toBitVec_and, BitVec.toNat_and, e1]
    have e2 : (255#64).toNat = 2 ^ 8 - 1 := rfl
    rw [e2, Nat.and_two_pow_sub_one_eq_mod]
    show v.toBitVec.toNat % 2 ^ 8 = (BitVec.ofNat 64 (v.toBitVec.toNat % 256)).toNat
    rw [BitVec.toNat_ofNat]
    omega
  refine ⟨v.toBitVec.toNat % 256, hn, ?_, ?_⟩
  · rw [h3]; exact Int64.toInt32_ofNat
  · apply Int32.toInt_inj.mp
    rw [h1, h2]
    generalize v.toBitVec.toNat = m at *
    have hb : (m : Int).bmod 256 = if m % 256 < 128 then ((m % 256 : Nat) : Int) else ((m % 256 : Nat) : Int) - 256 := by
      rw [Int.bmod_def]
      split <;> split <;> omega
    rw [hb]
    by_cases c : m % 256 < 128
    · rw [if_pos c, if_pos c, s_ti _ (by omega)]
    · rw [if_neg c, if_neg c, Int32.toInt_sub, s_ti _ (by omega)]
      have e256 : (256 : Int32).toInt = 256 := by decide
      rw [e256, Int.bmod_def]
      split <;> omega
section
variable {bx : Nat} {sh cr hb fm : Nat → Nat} {nS nC nH nF : Nat} {C : xk_C} {σ : gm_S}
def tE (bx k a : Nat) : Bool := k == 31 && a == bx + 5
theorem byte_id (v : Int64) : xk_nr 1 ((v.toInt32.toInt8).toInt32) = (v.toInt32.toInt8).toInt32 := by
  unfold xk_nr
  rw [if_pos rfl]
  exact congrArg Int8.toInt32 (Int8.toInt8_toInt32 _)
theorem feed_l (N : Nat) (w : Int64) : ∀ d k nT (C : xk_C) (σ : gm_S), d < k → nT + d ≤ 120 → cR bx sh cr hb nS nC nH C σ → pT bx nT C σ → ∃ C' σ', fX0_feed_L32 N bx k C w (nI d - 1) = some (C', nI (nT + d)) ∧ fX3_feed_L32 N k σ w (nI d - 1) = some (σ', nI (nT + d)) ∧ cR bx sh cr hb nS nC nH C' σ' ∧ pT bx (nT + d) C' σ' ∧ (Fr [9] [] (tE bx) C C' ∧ xk_n C' = xk_n C ∧ xk_s C' = xk_s C) ∧ Mf [7] [8] σ σ' := by
  intro d
  induction d with
  | zero =>
    intro k nT C σ hk hn h P
    obtain ⟨k, rfl⟩ : ∃ k', k = k' + 1 := ⟨k - 1, by omega⟩
    refine ⟨C, σ, ?_, ?_, h, P, ⟨Fr.refl, rfl, rfl⟩, Mf.refl⟩
    · unfold fX0_feed_L32; rw [if_pos (by decide), g_i h.kB rfl, P.1, ev_b]; rfl
    · unfold fX3_feed_L32; rw [if_pos (by decide), P.2.1]; rfl
  | succ d ih =>
    intro k nT C σ hk hn h P
    obtain ⟨k, rfl⟩ : ∃ k', k = k' + 1 := ⟨k - 1, by omega⟩
    obtain ⟨p1, p2, p3, p4⟩ := P
    have kB := h.kB
    have r8 := h.1.1.2.1.2.2.2.2.1
    have k5 := h.1.1.2.2.1.2.2.2.2.1
    have l5 := h.1.1.2.2.2.2.2.1
    have nb := h.1.1.1.2.1
    have ed : nI (d + 1) - 1 = nI d := by rw [s_s1 _ (by omega)]; rfl
    have em : nI d + -1 = nI d - 1 := (Int32.sub_eq_add_neg _ _).symm
    have st : ∀ v : Int64, xk_st (xk_si C 9 bx (nI nT + 1)) 1 (some (bx + 5)) (nI nT) ((v.toInt32.toInt8).toInt32) = some (xk_se (xk_si C 9 bx (nI nT + 1)) (bx + 5) nT ((v.toInt32.toInt8).toInt32)) := fun v => by
      unfold xk_st
      rw [g_ok (t := 1) (C := xk_si C 9 bx (nI nT + 1)) (a := bx + 5) (i := nT) k5 (by rw [l_si, l5]; omega) (by omega)]
      simp only [s_tn nT (by omega : nT < 2147483648), byte_id]
    unfold fX0_feed_L32 fX3_feed_L32
    rw [ed, if_neg (s_nn d (by omega)), if_neg (s_nn d (by omega)), g_r kB rfl, r8, ev_b, g_i kB rfl, p1, ev_b, p_i kB rfl, ev_b, st, ev_b, p2, m_wr σ (k := 8) (j := nT) _ (show nT < 120 by omega) (by omega), ev_b, m_pt, ev_b, em]
    have F1 : Fr [9] [] (tE bx) C (xk_se (xk_si C 9 bx (nI nT + 1)) (bx + 5) nT ((((w >>> ((nI 8 * nI d).toInt64 &&& 63)).toInt32).toInt8).toInt32)) := Fr.se (Fr.si Fr.refl _ _ _ (.inl (by decide))) _ _ _ (.inl (by rw [k5]; unfold tE; simp))
    have M1 : Mf [7] [8] σ (gm_set (gm_sta σ 8 nT (((w >>> ((nI 8 * nI d).toInt64 &&& 63)) &&& 255).toInt32)) 7 (gs (gm_sta σ 8 nT (((w >>> ((nI 8 * nI d).toInt64 &&& 63)) &&& 255).toInt32)) 7 + 1)) := (Mf.sta Mf.refl _ _ _ (by decide)).set _ _ (by decide)
    have h1 := h.fr F1 (fun j => M1.2 1 (by decide) j) (by decide) (by decide) (fun _ _ => rfl) (by unfold tE; simp)
    have P1 : pT bx (nT + 1) (xk_se (xk_si C 9 bx (nI nT + 1)) (bx + 5) nT ((((w >>> ((nI 8 * nI d).toInt64 &&& 63)).toInt32).toInt8).toInt32)) (gm_set (gm_sta σ 8 nT (((w >>> ((nI 8 * nI d).toInt64 &&& 63)) &&& 255).toInt32)) 7 (gs (gm_sta σ 8 nT (((w >>> ((nI 8 * nI d).toInt64 &&& 63)) &&& 255).toInt32)) 7 + 1)) := by
      refine ⟨?_, ?_, by omega, fun j hj => ?_⟩
      · rw [i_se, i_si, if_pos ⟨rfl, rfl⟩, s_a1]
      · rw [gs_set, if_pos rfl, gs_sta, p2, s_a1]
      · rw [e_se, ga_set, ga_sta]
        by_cases q : j = nT
        · rw [if_pos ⟨rfl, q⟩, if_pos ⟨rfl, q⟩]; exact by8_of _
        · rw [if_neg (fun e => q e.2), if_neg (fun e => q e.2)]; exact p4 j (by omega)
    obtain ⟨C', σ', g1, g2, h', P', F', M'⟩ := ih k (nT + 1) _ _ (by omega) (by omega) h1 P1
    have e1 : nT + 1 + d = nT + (d + 1) := by omega
    rw [e1] at g1 g2 P'
    exact ⟨C', σ', g1, g2, h', P', ⟨F1.trans F'.1, F'.2.1, F'.2.2⟩, M1.trans M'⟩
theorem op_feed {N nT : Nat} (hN : 100 ≤ N) (h : cR bx sh cr hb nS nC nH C σ) (P : pT bx nT C σ) (w : Int64) (a3 : Int32) : ∃ C' σ' r nT', fX0_feed N bx C w a3 = some (C', r) ∧ fX3_feed N σ w a3 = some (σ', r) ∧ cR bx sh cr hb nS nC nH C' σ' ∧ pT bx nT' C' σ' ∧ (Fr [9] [] (tE bx) C C' ∧ xk_n C' = xk_n C ∧ xk_s C' = xk_s C) ∧ Mf [7] [8] σ σ' := by
  unfold fX0_feed fX3_feed
  rw [in_eq]
  rcases in_ok a3 1 (nI 8) with e | ⟨e, h1, h2⟩
  · rw [e]; exact ⟨_, _, _, nT, rfl, rfl, h, P, ⟨Fr.refl, rfl, rfl⟩, Mf.refl⟩
  · obtain ⟨n, hn, rfl⟩ := s_get (n := 9) (by omega) (Int32.le_trans (by decide) h1) (Int32.lt_of_le_of_lt h2 (by decide))
    have p3 := P.2.2.1
    simp only [e, ev_b, ev_10, if_false, g_i h.kB (show xk_has 1 9 = true from rfl), P.1, P.2.1, s_add]
    by_cases c : nI (nT + n) ≤ nI 120
    · simp only [if_pos c]
      rw [s_le _ _ (by omega) (by omega)] at c
      obtain ⟨C', σ', g1, g2, h', P', F, M⟩ := feed_l N w n N nT C σ (by omega) c h P
      exact ⟨C', σ', _, _, g1, g2, h', P', F, M⟩
    · simp only [if_neg c]; exact ⟨_, _, _, nT, rfl, rfl, h, P, ⟨Fr.refl, rfl, rfl⟩, Mf.refl⟩
end
end
section
/-! STAGE 2: all that isn't the core -/
/-- an image's object against a row -/
def IM (bx : Nat) (sh hb : Nat → Nat) (nS nC nH im : Nat) (s : Nat → Int32) (C : xk_C) : Prop :=
  xk_k C im = 20 ∧ im < xk_n C ∧ ∃ iS iC E1 E2 E3 E4, (iS ≤ nS ∧ iC ≤ nC ∧ Iv iS iC nH s) ∧
  (xk_i C 91 im = nI iS ∧ xk_i C 92 im = nI iC ∧ xk_i C 93 im = s 2 ∧ xk_i C 94 im = s 3 ∧ xk_i C 95 im = s 4) ∧
  (xk_r C 96 im = some E1 ∧ xk_r C 97 im = some E2 ∧ xk_r C 98 im = some E3 ∧ xk_r C 99 im = some E4 ∧ xk_r C 100 im = some bx) ∧
  ((E1 < xk_n C ∧ bx + 19 ≤ E1 ∧ xk_k C E1 = 30 ∧ xk_l C E1 = 3) ∧ (E2 < xk_n C ∧ bx + 19 ≤ E2 ∧ xk_k C E2 = 30 ∧ xk_l C E2 = 3 * iS) ∧ (E3 < xk_n C ∧ bx + 19 ≤ E3 ∧ xk_k C E3 = 30 ∧ xk_l C E3 = 7 * iC) ∧ (E4 < xk_n C ∧ xk_k C E4 = 38 ∧ xk_l C E4 = iC)) ∧
  (∀ j, j < 3 → xk_e C E1 j = s (5 + j)) ∧
  (∀ k, k < iS → xk_e C E2 (3 * k) = s (70 + k) ∧ xk_e C E2 (3 * k + 1) = s (90 + k) ∧ xk_e C E2 (3 * k + 2) = s (110 + k)) ∧
  (∀ k, k < iC → xk_e C E3 (7 * k) = s (142 + k) ∧ xk_e C E3 (7 * k + 1) = s (130 + k) ∧ xk_e C E3 (7 * k + 2) = s (190 + k) ∧ xk_e C E3 (7 * k + 3) = s (202 + k) ∧ xk_e C E3 (7 * k + 4) = s (214 + k) ∧ xk_e C E3 (7 * k + 5) = s (178 + k) ∧ xk_e C E3 (7 * k + 6) = (if s (166 + k) = 2 then 1 else 0) + (if s (226 + k) = 1 then 2 else 0) + (if s (226 + k) = 2 then 4 else 0)) ∧
  (∀ k, k < iC → xk_q C E4 k = rf hb (s (154 + k))) ∧
  (∀ k, k < iS → xk_i C 38 (sh k) = s (10 + k) ∧ xk_i C 39 (sh k) = s (30 + k) ∧ xk_i C 40 (sh k) = s (50 + k))
/-- the image, if there is one -/
def pI (bx : Nat) (sh hb : Nat → Nat) (nS nC nH : Nat) (C : xk_C) (σ : gm_S) : Prop := (xk_r C 26 bx = none ∧ gs σ 4 = 0) ∨ (gs σ 4 = 1 ∧ ∃ im, xk_r C 26 bx = some im ∧ IM bx sh hb nS nC nH im (ga σ 2) C)
/-- the reader's words -/
def pR (bx : Nat) (C : xk_C) : Prop := xk_r C 36 (bx + 8) = some bx ∧ xk_r C 32 (bx + 8) = some (bx + 9) ∧ xk_k C (bx + 9) = 39 ∧ xk_l C (bx + 9) = 4 ∧ (∀ w, w < 4 → xk_q C (bx + 9) w = some (bx + 10 + w)) ∧ (∀ w, w < 4 → xk_k C (bx + 10 + w) = 32) ∧ (∀ w, w < 4 → xk_l C (bx + 10 + w) = gw_len.getD w 0 - 1) ∧ (∀ w, w < 4 → ∀ j, j < gw_len.getD w 0 - 1 → xk_e C (bx + 10 + w) j = (gw_byt.getD w []).getD j 0)
/-- the changes aren't on -/
def pN (σ : gm_S) : Prop := gs σ 22 = -1
def Rt (bx : Nat) (sh cr hb fm : Nat → Nat) (nS nC nH nF nT m : Nat) (cls : Nat → List (Nat × Nat × List Int32 × List (Nat × Nat))) (C : xk_C) (σ : gm_S) : Prop :=
  cW bx cr nC C ∧ pH bx hb nH cls C σ ∧ pF bx fm nF C σ ∧ pT bx nT C σ ∧ (rB bx m C σ ∧ m ≤ 100) ∧ pI bx sh hb nS nC nH C σ ∧ pR bx C ∧ pN σ
section
variable {bx : Nat} {sh cr hb fm : Nat → Nat} {nS nC nH nF nT m : Nat} {cls : Nat → List (Nat × Nat × List Int32 × List (Nat × Nat))} {C C' : xk_C} {σ σ' : gm_S} {fi fq : List Nat} {E : Nat → Nat → Bool} {ks as : List Nat}
theorem IM.fr {im : Nat} {s : Nat → Int32} (H : IM bx sh hb nS nC nH im s C) (hsn : ∀ i, i < nS → sh i < xk_n C) (F : Fr fi fq E C C') (h1 : ∀ f, f ∈ [38, 39, 40, 91, 92, 93, 94, 95] → f ∉ fi) (h2 : ∀ f, f ∈ [96, 97, 98, 99, 100] → f ∉ fq) (h3 : ∀ e, e < xk_n C → E 38 e = false) (h4 : ∀ w, bx + 19 ≤ w → E 30 w = false) : IM bx sh hb nS nC nH im s C' := by
  obtain ⟨k, n, iS, iC, E1, E2, E3, E4, ⟨a1, a2, a3⟩, ⟨b1, b2, b3, b4, b5⟩, ⟨c1, c2, c3, c4, c5⟩, ⟨⟨d1, d2, d3, d4⟩, ⟨e1, e2, e3, e4⟩, ⟨f1, f2, f3, f4⟩, ⟨g1, g2, g3⟩⟩, q1, q2, q3, q4, q5⟩ := H
  refine ⟨(F.k n).trans k, F.lt n, iS, iC, E1, E2, E3, E4, ⟨a1, a2, a3⟩, ⟨?_, ?_, ?_, ?_, ?_⟩, ⟨?_, ?_, ?_, ?_, ?_⟩, ⟨⟨F.lt d1, d2, (F.k d1).trans d3, (F.l d1).trans d4⟩, ⟨F.lt e1, e2, (F.k e1).trans e3, (F.l e1).trans e4⟩, ⟨F.lt f1, f2, (F.k f1).trans f3, (F.l f1).trans f4⟩, ⟨F.lt g1, (F.k g1).trans g2, (F.l g1).trans g3⟩⟩, fun j hj => ?_, fun j hj => ?_, fun j hj => ?_, fun j hj => ?_, fun j hj => ?_⟩
  · rw [F.i n (h1 _ (by decide))]; exact b1
  · rw [F.i n (h1 _ (by decide))]; exact b2
  · rw [F.i n (h1 _ (by decide))]; exact b3
  · rw [F.i n (h1 _ (by decide))]; exact b4
  · rw [F.i n (h1 _ (by decide))]; exact b5
  · rw [F.r n (h2 _ (by decide))]; exact c1
  · rw [F.r n (h2 _ (by decide))]; exact c2
  · rw [F.r n (h2 _ (by decide))]; exact c3
  · rw [F.r n (h2 _ (by decide))]; exact c4
  · rw [F.r n (h2 _ (by decide))]; exact c5
  · rw [F.e d1 (by rw [d3]; exact h4 _ d2)]; exact q1 j hj
  · rw [F.e e1 (by rw [e3]; exact h4 _ e2), F.e e1 (by rw [e3]; exact h4 _ e2), F.e e1 (by rw [e3]; exact h4 _ e2)]; exact q2 j hj
  · have fe := fun i => F.e f1 (by rw [f3]; exact h4 _ f2) i
    rw [fe, fe, fe, fe, fe, fe, fe]; exact q3 j hj
  · rw [F.q g1 (by rw [g2]; exact h3 _ g1)]; exact q4 j hj
  · have hj' := hsn j (by omega)
    rw [F.i hj' (h1 _ (by decide)), F.i hj' (h1 _ (by decide)), F.i hj' (h1 _ (by decide))]; exact q5 j hj
theorem IM.row {im : Nat} {s s' : Nat → Int32} (H : IM bx sh hb nS nC nH im s C) (e : ∀ j, s' j = s j) : IM bx sh hb nS nC nH im s' C := by
  have : s' = s := funext e
  rw [this]; exact H
theorem pI.fr (H : pI bx sh hb nS nC nH C σ) (hsn : ∀ i, i < nS → sh i < xk_n C) (nb : bx < xk_n C) (F : Fr fi fq E C C') (M : Mf ks as σ σ') (h1 : ∀ f, f ∈ [38, 39, 40, 91, 92, 93, 94, 95] → f ∉ fi) (h2 : ∀ f, f ∈ [26, 96, 97, 98, 99, 100] → f ∉ fq) (h3 : ∀ e, e < xk_n C → E 38 e = false) (h4 : ∀ w, bx + 19 ≤ w → E 30 w = false) (m1 : 4 ∉ ks) (m2 : 2 ∉ as) : pI bx sh hb nS nC nH C' σ' := by
  rcases H with ⟨a, b⟩ | ⟨a, im, b, c⟩
  · exact .inl ⟨(F.r nb (h2 _ (by decide))).trans a, (M.1 4 m1).trans b⟩
  · refine .inr ⟨(M.1 4 m1).trans a, im, (F.r nb (h2 _ (by decide))).trans b, ?_⟩
    exact (c.fr hsn F h1 (fun f hf => h2 f (by simp only [List.mem_cons, List.not_mem_nil, or_false] at hf ⊢; omega)) h3 h4).row (fun j => M.2 2 m2 j)
theorem pR.fr (H : pR bx C) (nb : bx + 19 ≤ xk_n C) (F : Fr fi fq E C C') (h32 : 32 ∉ fq) (h36 : 36 ∉ fq) (h3 : ∀ e, e < xk_n C → E 39 e = false) (h4 : ∀ e, e < xk_n C → E 32 e = false) : pR bx C' := by
  obtain ⟨a, b, c, d, e, f, g, h⟩ := H
  refine ⟨(F.r (by omega) h36).trans a, (F.r (by omega) h32).trans b, (F.k (by omega)).trans c, (F.l (by omega)).trans d, fun w hw => ?_, fun w hw => ?_, fun w hw => ?_, fun w hw j hj => ?_⟩
  · rw [F.q (by omega) (by rw [c]; exact h3 _ (by omega))]; exact e w hw
  · rw [F.k (by omega)]; exact f w hw
  · rw [F.l (by omega)]; exact g w hw
  · rw [F.e (by omega) (by rw [f w hw]; exact h4 _ (by omega))]; exact h w hw j hj
/-- the rest stays, where it isn't touched -/
theorem Rt.fr (H : Rt bx sh cr hb fm nS nC nH nF nT m cls C σ) (hA : cA bx sh cr hb nS nC C σ) (F : Fr fi fq E C C') (M : Mf ks as σ σ')
    (h1 : ∀ f, f ∈ [1, 9, 38, 39, 40, 65, 78, 79, 80, 83, 84, 85, 86, 87, 88, 89, 90, 91, 92, 93, 94, 95, 103] → f ∉ fi) (h2 : ∀ f, f ∈ [26, 32, 36, 45, 57, 58, 59, 60, 61, 62, 63, 64, 66, 67, 68, 69, 77, 81, 82, 96, 97, 98, 99, 100, 102] → f ∉ fq)
    (h3 : ∀ k e, k = 32 ∨ k = 34 ∨ k = 35 ∨ k = 38 ∨ k = 39 → E k e = false) (h4 : ∀ w, bx + 19 ≤ w → E 30 w = false) (h5 : E 31 (bx + 5) = false ∧ E 30 (bx + 2) = false)
    (m1 : ∀ k, k ∈ [4, 5, 6, 7, 20, 21, 22, 35] → k ∉ ks) (m2 : ∀ k, k ∈ [2, 8, 11, 17, 18, 34] → k ∉ as) : Rt bx sh cr hb fm nS nC nH nF nT m cls C' σ' := by
  obtain ⟨a, b, c, d, ⟨e, e'⟩, f, g, h⟩ := H
  have nb := hA.1.1.2.1
  have k5 := hA.1.2.2.1.2.2.2.2.1
  have k2 := hA.1.2.2.1.2.1
  refine ⟨a.fr hA.2.2.2.2.1.2.1 F (h2 _ (by decide)) (fun q q1 q2 => h2 q ?_) (fun x _ => h3 35 x (by omega)), b.fr F M (fun q hq => h1 q ?_) (fun q hq => h2 q ?_) (fun x _ => h3 34 x (by omega)) h4 (fun q hq => m1 q ?_) (fun q hq => m2 q ?_), c.fr F M (fun q hq => ?_) (h1 _ (by decide)) (h2 _ (by decide)) (fun x _ => h3 34 x (by omega)) (m1 _ (by decide)) (m2 _ (by decide)), ?_, ⟨?_, e'⟩, f.fr hA.2.2.2.1.2.1 (by omega) F M (fun q hq => h1 q ?_) (fun q hq => h2 q ?_) (fun x _ => h3 38 x (by omega)) h4 (m1 _ (by decide)) (m2 _ (by decide)), g.fr nb F (h2 _ (by decide)) (h2 _ (by decide)) (fun x _ => h3 39 x (by omega)) (fun x _ => h3 32 x (by omega)), (M.1 22 (m1 _ (by decide))).trans h⟩
  · simp only [List.mem_cons, List.not_mem_nil, or_false]; omega
  · simp only [List.mem_cons, List.not_mem_nil, or_false] at hq ⊢; omega
  · simp only [List.mem_cons, List.not_mem_nil, or_false] at hq ⊢; omega
  · simp only [List.mem_cons, List.not_mem_nil, or_false] at hq ⊢; omega
  · simp only [List.mem_cons, List.not_mem_nil, or_false] at hq ⊢; omega
  · apply Classical.byContradiction
    intro hne
    refine h1 q ?_ hq
    simp only [List.mem_cons, List.not_mem_nil, or_false]; omega
  · obtain ⟨d1, d2, d3, d4⟩ := d
    refine ⟨(F.i (by omega) (h1 _ (by decide))).trans d1, (M.1 7 (m1 _ (by decide))).trans d2, d3, fun j hj => ?_⟩
    rw [F.e (by omega) (by rw [k5]; exact h5.1), M.2 8 (m2 _ (by decide))]; exact d4 j hj
  · obtain ⟨d1, d2, d3⟩ := e
    refine ⟨(F.i (by omega) (h1 _ (by decide))).trans d1, (M.1 35 (m1 _ (by decide))).trans d2, fun j hj => ?_⟩
    rw [F.e (by omega) (by rw [k2]; exact h5.2), M.2 34 (m2 _ (by decide))]; exact d3 j hj
  · simp only [List.mem_cons, List.not_mem_nil, or_false] at hq ⊢; omega
  · simp only [List.mem_cons, List.not_mem_nil, or_false] at hq ⊢; omega
/-- a core op keeps the rest -/
theorem oC.rt (o : oC bx sh cr hb nS nC nH C σ C' σ') (h : cR bx sh cr hb nS nC nH C σ) (H : Rt bx sh cr hb fm nS nC nH nF nT m cls C σ) : Rt bx sh cr hb fm nS nC nH nF nT m cls C' σ' :=
  H.fr h.1 o.2.1.1 o.2.2 (by decide) (by decide) (fun k e hk => by rcases hk with rfl | rfl | rfl | rfl | rfl <;> rfl) (fun w hw => oE_30 hw) ⟨rfl, by unfold oE; simp⟩ (by decide) (by decide)
/-! adding to a list -/
theorem pHx.add {a b hh : Nat} {cl : List (Nat × Nat × List Int32 × List (Nat × Nat))} (H : pHx bx C b hh cl) (L : pLF a C C') (ha : a < bx + 19) : pHx bx C' b hh cl := by
  obtain ⟨F, -, -, -, hL⟩ := L
  obtain ⟨⟨ka, an, i65, r69⟩, ⟨T, W, F', ⟨r66, r67, r68⟩, ⟨b1, b2, b3, b4⟩, LT, LF, kW, lW, hW⟩, n8, n40, n139, htr⟩ := H
  refine ⟨⟨(F.k an).trans ka, F.lt an, (F.i an (by decide)).trans i65, (F.r an (by decide)).trans r69⟩, ⟨T, W, F', ⟨(F.r an (by decide)).trans r66, (F.r an (by decide)).trans r67, (F.r an (by decide)).trans r68⟩, ⟨b1, b2, b3, F.lt b4⟩, hL _ _ _ (by omega) LT, hL _ _ _ (by omega) LF, (F.k b4).trans kW, (F.l b4).trans lW, fun k hk => ?_⟩, n8, n40, n139, fun c hc => ⟨(htr c hc).1, tr2.fr F (by decide) (by decide) (by decide) (by decide) (by decide) (by decide) _ _ _ _ (htr c hc).2⟩⟩
  rw [F.e b4 (by rw [kW]; rfl)]; exact hW k hk
theorem pH.add {a : Nat} (H : pH bx hb nH cls C σ) (L : pLF a C C') (ha : a < bx + 19) (ha7 : a ≠ bx + 7) (M : Mf ks as σ σ') (m1 : ∀ k, k ∈ [5, 20, 21, 22] → k ∉ ks) (m2 : ∀ k, k ∈ [17, 18] → k ∉ as) : pH bx hb nH cls C' σ' := by
  obtain ⟨p, b, c, d, e⟩ := H
  refine ⟨(M.1 5 (m1 _ (by decide))).trans p, b, L.2.2.2.2 _ _ _ (Ne.symm ha7) c, fun h hh => ?_, e⟩
  obtain ⟨d1, d2, d3⟩ := d h hh
  refine ⟨d1.add L ha, ⟨(M.2 18 (m2 _ (by decide)) h).trans d2.1, d2.2.same (fun j => M.2 17 (m2 _ (by decide)) j)⟩, fun q hq => ?_⟩
  rw [L.1.i (d1.lv hq).1 (by decide), d3 q hq]
  unfold dl
  rw [M.1 22 (m1 _ (by decide)), M.1 20 (m1 _ (by decide)), M.1 21 (m1 _ (by decide))]
theorem pF.add {a : Nat} (H : pF bx fm nF C σ) (L : pLF a C C') (ha : a ≠ bx + 18) (M : Mf ks as σ σ') (m1 : 6 ∉ ks) (m2 : 11 ∉ as) : pF bx fm nF C' σ' := by
  obtain ⟨p, b, c, d, e⟩ := H
  have hn : ∀ i, i < nF → fm i < xk_n C := fun i hi => (c.2.2.2.1 i hi).1
  refine ⟨(M.1 6 m1).trans p, b, L.2.2.2.2 _ _ _ (Ne.symm ha) c, fun i hi => (L.1.k (hn i hi)).trans (d i hi), fun i hi j hj => ?_⟩
  rw [L.1.i (hn i hi) (by simp only [List.mem_cons, List.not_mem_nil, or_false]; omega), M.2 11 m2]
  exact e i hi j hj
end
end
