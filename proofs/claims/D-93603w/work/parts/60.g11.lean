set_option maxRecDepth 16384
section
/-! STAGE 2: image, undo -/
section
variable {bx : Nat} {sh cr hb fm : Nat → Nat} {nS nC iS iC nH nF nT m : Nat} {cls : Nat → List (Nat × Nat × List Int32 × List (Nat × Nat))} {C C' : xk_C} {σ σ' : gm_S} {ks as : List Nat}
theorem pHx.bk {b hh : Nat} {cl : List (Nat × Nat × List Int32 × List (Nat × Nat))} (H : pHx bx C b hh cl) (B : BK bx C C') : pHx bx C' b hh cl := by
  obtain ⟨F, -, hL⟩ := B
  obtain ⟨⟨ka, an, i65, r69⟩, ⟨T, W, F', ⟨r66, r67, r68⟩, ⟨b1, b2, b3, b4⟩, LT, LF, kW, lW, hW⟩, n8, n40, n139, htr⟩ := H
  refine ⟨⟨(F.k an).trans ka, F.lt an, (F.i an (by decide)).trans i65, (F.r an (by decide)).trans r69⟩, ⟨T, W, F', ⟨(F.r an (by decide)).trans r66, (F.r an (by decide)).trans r67, (F.r an (by decide)).trans r68⟩, ⟨b1, b2, b3, F.lt b4⟩, hL _ _ _ (by omega) (by omega) LT, hL _ _ _ (by omega) (by omega) LF, (F.k b4).trans kW, (F.l b4).trans lW, fun k hk => ?_⟩, n8, n40, n139, fun c hc => ⟨(htr c hc).1, tr2.fr F (by decide) (by decide) (by decide) (by decide) (by decide) (by decide) _ _ _ _ (htr c hc).2⟩⟩
  rw [F.e b4 (by rw [kW]; exact bkE_30 b2)]; exact hW k hk
theorem pH.bk (H : pH bx hb nH cls C σ) (B : BK bx C C') (M : Mf ks as σ σ') (m1 : ∀ k, k ∈ [5, 20, 21, 22] → k ∉ ks) (m2 : ∀ k, k ∈ [17, 18] → k ∉ as) : pH bx hb nH cls C' σ' := by
  obtain ⟨p, b, c, d, e⟩ := H
  refine ⟨(M.1 5 (m1 _ (by decide))).trans p, b, B.2.2 _ _ _ (by omega) (by omega) c, fun h hh => ?_, e⟩
  obtain ⟨d1, d2, d3⟩ := d h hh
  refine ⟨d1.bk B, ⟨(M.2 18 (m2 _ (by decide)) h).trans d2.1, d2.2.same (fun j => M.2 17 (m2 _ (by decide)) j)⟩, fun q hq => ?_⟩
  rw [B.1.i (d1.lv hq).1 (by decide), d3 q hq]
  unfold dl
  rw [M.1 22 (m1 _ (by decide)), M.1 20 (m1 _ (by decide)), M.1 21 (m1 _ (by decide))]
theorem pF.bk (H : pF bx fm nF C σ) (B : BK bx C C') (M : Mf ks as σ σ') (m1 : 6 ∉ ks) (m2 : 11 ∉ as) : pF bx fm nF C' σ' := by
  obtain ⟨p, b, c, d, e⟩ := H
  have hn : ∀ i, i < nF → fm i < xk_n C := fun i hi => (c.2.2.2.1 i hi).1
  refine ⟨(M.1 6 m1).trans p, b, B.2.2 _ _ _ (by omega) (by omega) c, fun i hi => (B.1.k (hn i hi)).trans (d i hi), fun i hi j hj => ?_⟩
  rw [B.1.i (hn i hi) (by unfold bkI; simp only [List.mem_cons, List.not_mem_nil, or_false]; omega), M.2 11 m2]
  exact e i hi j hj
theorem Rt.bk (H : Rt bx sh cr hb fm nS nC nH nF nT m cls C σ) (hA : cA bx sh cr hb nS nC C σ) (B : BK bx C C') (M : Mf ks as σ σ') (hiC : iC ≤ nC) (hp : pI bx sh hb iS iC nH C' σ') (m1 : ∀ k, k ∈ [5, 6, 7, 20, 21, 22, 35] → k ∉ ks) (m2 : ∀ k, k ∈ [8, 11, 17, 18, 34] → k ∉ as) : Rt bx sh cr hb fm iS iC nH nF nT m cls C' σ' := by
  obtain ⟨a, b, c, d, ⟨e, e'⟩, f, g, h⟩ := H
  have F := B.1
  have nb := hA.1.1.2.1
  have k5 := hA.1.2.2.1.2.2.2.2.1
  have k2 := hA.1.2.2.1.2.1
  have a' : cW bx cr nC C' := a.fr hA.2.2.2.2.1.2.1 F (by decide) (fun q q1 q2 => by unfold bkR; simp only [List.mem_cons, List.not_mem_nil, or_false]; omega) (fun x _ => rfl)
  refine ⟨fun i hi => a' i (by omega), b.bk B M (fun q hq => m1 q ?_) (fun q hq => m2 q ?_), c.bk B M (m1 _ (by decide)) (m2 _ (by decide)), ?_, ⟨?_, e'⟩, hp, g.fr nb F (by decide) (by decide) (fun x _ => rfl) (fun x _ => rfl), (M.1 22 (m1 _ (by decide))).trans h⟩
  · simp only [List.mem_cons, List.not_mem_nil, or_false] at hq ⊢; omega
  · simp only [List.mem_cons, List.not_mem_nil, or_false] at hq ⊢; omega
  · obtain ⟨d1, d2, d3, d4⟩ := d
    refine ⟨(F.i (by omega) (by decide)).trans d1, (M.1 7 (m1 _ (by decide))).trans d2, d3, fun j hj => ?_⟩
    rw [F.e (by omega) (by rw [k5]; rfl), M.2 8 (m2 _ (by decide))]; exact d4 j hj
  · obtain ⟨d1, d2, d3⟩ := e
    refine ⟨(F.i (by omega) (by decide)).trans d1, (M.1 35 (m1 _ (by decide))).trans d2, fun j hj => ?_⟩
    rw [F.e (by omega) (by rw [k2]; unfold bkE; simp), M.2 34 (m2 _ (by decide))]; exact d3 j hj
/-- the row is copied from the image -/
theorem copy_u (N : Nat) : ∀ d k i (σ : gm_S), i + d = 240 → d < k → ∃ σ', fX3_undo_L12 N k σ (nI i) = some (σ', ga σ' 1 2) ∧ (∀ j, i ≤ j → j < 240 → ga σ' 1 j = ga σ 2 j) ∧ (∀ j, j < i → ga σ' 1 j = ga σ 1 j) ∧ Mf [] [1] σ σ' := by
  intro d
  induction d with
  | zero =>
    intro k i σ hid hk
    obtain ⟨k, rfl⟩ : ∃ k', k = k' + 1 := ⟨k - 1, by omega⟩
    have : i = 240 := by omega
    subst this
    refine ⟨σ, ?_, fun j h1 h2 => by omega, fun j _ => rfl, Mf.refl⟩
    unfold fX3_undo_L12
    rw [if_pos (lp_end _), ev_r2, ev_b]
  | succ d ih =>
    intro k i σ hid hk
    obtain ⟨k, rfl⟩ : ∃ k', k = k' + 1 := ⟨k - 1, by omega⟩
    obtain ⟨σ', f, e1, e2, M⟩ := ih k (i + 1) (gm_sta σ 1 i (ga σ 2 i)) (by omega) (by omega)
    refine ⟨σ', ?_, fun j h1 h2 => ?_, fun j hj => ?_, (Mf.refl.sta _ _ _ (by decide)).trans M⟩
    · unfold fX3_undo_L12
      rw [if_neg (lp_go (by omega) (by omega)), m_rd σ (k := 2) (j := i) (show i < 240 by omega) (by omega), ev_b, m_wr σ (k := 1) (j := i) _ (show i < 240 by omega) (by omega), ev_b, s_a1, f]
    · by_cases q : j = i
      · subst q; rw [e2 j (by omega), ge]
      · rw [e1 j (by omega) h2, ga_sta, if_neg (by omega)]
    · rw [e2 j (by omega), gn _ _ _ _ (by omega)]
theorem copy_i (N : Nat) : ∀ d k i (σ : gm_S), i + d = 240 → d < k → ∃ σ', fX3_image_L2 N k σ (nI i) = some (gm_set σ' 4 1, ga σ 1 2) ∧ (∀ j, i ≤ j → j < 240 → ga σ' 2 j = ga σ 1 j) ∧ (∀ j, j < i → ga σ' 2 j = ga σ 2 j) ∧ Mf [] [2] σ σ' := by
  intro d
  induction d with
  | zero =>
    intro k i σ hid hk
    obtain ⟨k, rfl⟩ : ∃ k', k = k' + 1 := ⟨k - 1, by omega⟩
    have : i = 240 := by omega
    subst this
    refine ⟨σ, ?_, fun j h1 h2 => by omega, fun j _ => rfl, Mf.refl⟩
    unfold fX3_image_L2
    rw [if_pos (lp_end _), m_pz (.inr rfl), ev_b, ev_r2, ev_b]; rfl
  | succ d ih =>
    intro k i σ hid hk
    obtain ⟨k, rfl⟩ : ∃ k', k = k' + 1 := ⟨k - 1, by omega⟩
    obtain ⟨σ', f, e1, e2, M⟩ := ih k (i + 1) (gm_sta σ 2 i (ga σ 1 i)) (by omega) (by omega)
    have o1 : ∀ j, ga (gm_sta σ 2 i (ga σ 1 i)) 1 j = ga σ 1 j := fun j => by rw [ga_sta, if_neg (by omega)]
    refine ⟨σ', ?_, fun j h1 h2 => ?_, fun j hj => ?_, (Mf.refl.sta _ _ _ (by decide)).trans M⟩
    · unfold fX3_image_L2
      rw [if_neg (lp_go (by omega) (by omega)), m_rd σ (k := 1) (j := i) (show i < 240 by omega) (by omega), ev_b, m_wr σ (k := 2) (j := i) _ (show i < 240 by omega) (by omega), ev_b, s_a1, f, o1]
    · by_cases q : j = i
      · subst q; rw [e2 j (by omega), ga_sta, if_pos ⟨rfl, rfl⟩]
      · rw [e1 j (by omega) h2, o1]
    · rw [e2 j (by omega), ga_sta, if_neg (by omega)]
theorem IM.rows {im : Nat} {s s' : Nat → Int32} (H : IM bx sh hb nS nC nH im s C) (e : ∀ j, j < 240 → s' j = s j) : IM bx sh hb nS nC nH im s' C := by
  obtain ⟨k, n, iS, iC, E1, E2, E3, E4, ⟨a1, a2, hI⟩, b, c, d, q1, q2, q3, q4, q5⟩ := H
  have n20 := hI.1.1
  have n12 := hI.1.2.1
  refine ⟨k, n, iS, iC, E1, E2, E3, E4, ⟨a1, a2, ?_⟩, ?_, c, d, fun j hj => ?_, fun j hj => ?_, fun j hj => ?_, fun j hj => ?_, fun j hj => ?_⟩
  · refine hI.same (e 0 (by omega)) (e 1 (by omega)) (by rw [e 3 (by omega)]; exact hI.1.2.2.2.2.2.1) (by rw [e 4 (by omega)]; exact hI.1.2.2.2.2.2.2) (fun q hq => ⟨e _ (by omega), e _ (by omega), e _ (by omega), e _ (by omega), e _ (by omega)⟩) (fun q hq => ⟨e _ (by omega), e _ (by omega), e _ (by omega), by rw [e _ (by omega)]; exact (hI.2.2.1 q hq).2.2.2.1, e _ (by omega), by rw [e _ (by omega)]; exact (hI.2.2.1 q hq).2.2.2.2⟩)
  · rw [e 2 (by omega), e 3 (by omega), e 4 (by omega)]; exact b
  · rw [e _ (by omega)]; exact q1 j hj
  · rw [e _ (by omega), e _ (by omega), e _ (by omega)]; exact q2 j hj
  · rw [e (142 + j) (by omega), e (130 + j) (by omega), e (190 + j) (by omega), e (202 + j) (by omega), e (214 + j) (by omega), e (178 + j) (by omega), e (166 + j) (by omega), e (226 + j) (by omega)]; exact q3 j hj
  · rw [e _ (by omega)]; exact q4 j hj
  · rw [e _ (by omega), e _ (by omega), e _ (by omega)]; exact q5 j hj
theorem op_image {N : Nat} (hN : 300 ≤ N) (h : cR bx sh cr hb nS nC nH C σ) (H : Rt bx sh cr hb fm nS nC nH nF nT m cls C σ) : ∃ C' σ' r, fX0_image N bx C = some (C', r) ∧ fX3_image N σ = some (σ', r) ∧ cR bx sh cr hb nS nC nH C' σ' ∧ Rt bx sh cr hb fm nS nC nH nF nT m cls C' σ' ∧ xk_n C' = xk_n C + 5 ∧ xk_s C' ≤ xk_s C + 400 := by
  have nb := h.1.1.1.2.1
  have hbk : ∀ i, i < nH → xk_k C (hb i) = 14 ∧ hb i < xk_n C := fun i hi => ⟨(H.2.1.2.2.2.1 i hi).1.1.1, (H.2.1.2.2.2.1 i hi).1.1.2.1⟩
  obtain ⟨C1, f1, F1, n1, s1, I1⟩ := img_new (N := N) (by omega) h hbk
  have h1 := h.fresh F1
  have H1 := H.fresh h.1 F1
  obtain ⟨σ1, g1, e1, -, M1⟩ := copy_i N 240 N 0 σ (by omega) (by omega)
  have F2 : Fr [] [26] (fun _ _ => false) C1 (xk_sr C1 26 bx (some (xk_n C))) := Fr.refl.sr _ _ _ (.inl (by decide)) (by decide)
  have M2 : Mf [4] [2] σ (gm_set σ1 4 1) := (M1.mono (by decide) (by decide)).set _ _ (by decide)
  have g1' : fX3_image N σ = some (gm_set σ1 4 1, ga σ 1 2) := g1
  refine ⟨xk_sr C1 26 bx (some (xk_n C)), gm_set σ1 4 1, ga σ 1 2, ?_, g1', h1.fr F2 (fun j => M2.2 1 (by decide) j) (by decide) (by decide) (fun _ _ => rfl) rfl, ?_, n1, s1⟩
  · unfold fX0_image
    rw [show xk_nw C 19 = some (xk_mk C 20 0 10) from rfl, ev_b, f1, ev_b, p_r h1.kB rfl, ev_b, g_i (C := xk_sr C1 26 bx (some (xk_n C))) (k := 1) h1.kB rfl, i_sr, h1.1.2.2.2.2.2.1.1, ev_b]
  · obtain ⟨a, b, c, d, ⟨e, e'⟩, f, g, t⟩ := H1
    have hA1 := h1.1
    have nb1 := hA1.1.1.2.1
    have k5 := hA1.1.2.2.1.2.2.2.2.1
    have k2 := hA1.1.2.2.1.2.1
    refine ⟨a.fr hA1.2.2.2.2.1.2.1 F2 (by decide) (fun q q1 q2 => by simp only [List.mem_cons, List.not_mem_nil, or_false]; omega) (fun _ _ => rfl), b.fr F2 M2 (by decide) (by decide) (fun _ _ => rfl) (fun _ _ => rfl) (by decide) (by decide), c.fr F2 M2 (by simp) (by decide) (by decide) (fun _ _ => rfl) (by decide) (by decide), ?_, ⟨?_, e'⟩, .inr ⟨by rw [gs_set, if_pos rfl], xk_n C, by rw [r_sr, if_pos ⟨rfl, rfl⟩], ?_⟩, g.fr nb1 F2 (by decide) (by decide) (fun _ _ => rfl) (fun _ _ => rfl), (M2.1 22 (by decide)).trans t⟩
    · obtain ⟨d1, d2, d3, d4⟩ := d
      exact ⟨d1, (M2.1 7 (by decide)).trans d2, d3, fun j hj => by rw [M2.2 8 (by decide)]; exact d4 j hj⟩
    · obtain ⟨d1, d2, d3⟩ := e
      exact ⟨d1, (M2.1 35 (by decide)).trans d2, fun j hj => by rw [M2.2 34 (by decide)]; exact d3 j hj⟩
    · exact (I1.fr hA1.2.2.2.1.2.1 F2 (by decide) (by decide) (fun _ _ => rfl) (fun _ _ => rfl)).rows (fun j hj => e1 j (by omega) hj)
theorem op_undo {N : Nat} (hN : 300 ≤ N) (h : cR bx sh cr hb nS nC nH C σ) (H : Rt bx sh cr hb fm nS nC nH nF nT m cls C σ) : ∃ C' σ' r nS' nC', fX0_undo N bx C = some (C', r) ∧ fX3_undo N σ = some (σ', r) ∧ cR bx sh cr hb nS' nC' nH C' σ' ∧ Rt bx sh cr hb fm nS' nC' nH nF nT m cls C' σ' ∧ xk_n C' = xk_n C ∧ xk_s C' = xk_s C := by
  have nb := h.1.1.1.2.1
  unfold fX0_undo fX3_undo
  rcases H.2.2.2.2.2.1 with ⟨r26, g4⟩ | ⟨g4, im, r26, I⟩
  · refine ⟨C, σ, -3, nS, nC, ?_, ?_, h, H, rfl, rfl⟩
    · rw [g_r h.kB rfl, r26, ev_b, if_pos rfl]
    · rw [if_pos g4]
  · obtain ⟨C1, iS, iC, f1, ⟨l1, l2, l3, l4⟩, B, R⟩ := put_l (N := N) (by omega) h I
    obtain ⟨σ1, g1, e1, -, M1⟩ := copy_u N 240 N 0 σ (by omega) (by omega)
    have g1' : fX3_undo_L12 N N σ 0 = some (σ1, ga σ1 1 2) := g1
    have R1 := R σ1 (fun j hj => e1 j (by omega) hj)
    refine ⟨C1, σ1, ga σ1 1 2, iS, iC, ?_, ?_, R1, ?_, B.2.1.1, B.2.1.2⟩
    · rw [g_r h.kB rfl, r26, ev_b, if_neg (by simp), ev_b, g_is I.1, ev_b, f1, ev_b, g_i R1.kB rfl, R1.1.2.2.2.2.2.1.1, ev_b]
    · rw [if_neg (by rw [g4]; decide)]; exact g1'
    · refine H.bk h.1 B M1 l2 (.inr ⟨(M1.1 4 (by decide)).trans g4, im, (B.1.r (by omega) (by decide)).trans r26, ?_⟩) (by decide) (by decide)
      have I' := (I.fr h.1.2.2.2.1.2.1 B.1 (by decide) (by decide) (fun _ _ => rfl) (fun w hw => bkE_30 hw)).rows (s' := ga σ1 2) (fun j _ => M1.2 2 (by decide) j)
      obtain ⟨k, n, jS, jC, E1, E2, E3, E4, ⟨a1, a2, hI⟩, b, c⟩ := I'
      have e1 : jS = iS := by
        have := b.1; rw [B.1.i I.2.1 (by decide), l3, s_eq _ _ (by have := h.n20; omega) (by have := h.n20; omega)] at this; exact this.symm
      have e2 : jC = iC := by
        have := b.2.1; rw [B.1.i I.2.1 (by decide), l4, s_eq _ _ (by have := h.n12; omega) (by have := h.n12; omega)] at this; exact this.symm
      exact ⟨k, n, jS, jC, E1, E2, E3, E4, ⟨by omega, by omega, hI⟩, b, c⟩
end
end
section
/-! STAGE 2: the number of a test -/
theorem gdl {α : Type} (a b : List α) (i : Nat) (d : α) (h : i < a.length) : (a ++ b).getD i d = a.getD i d := by
  rw [List.getD_eq_getElem?_getD, List.getD_eq_getElem?_getD, List.getElem?_append_left h]
theorem gdr {α : Type} (a b : List α) (i : Nat) (d : α) (h : a.length ≤ i) : (a ++ b).getD i d = b.getD (i - a.length) d := by
  rw [List.getD_eq_getElem?_getD, List.getD_eq_getElem?_getD, List.getElem?_append_right h]
theorem num_hd {N : Nat} {σ : gm_S} {h M pos : Nat} (hh : h < 8) (hM : ga σ 18 h = nI M) (hM9 : M ≤ 139) (hp : pos < 140 * h + M) (k : Nat) (t n : Int32) : fX3_numberOf_L9 N σ (k + 1) (nI h) t n (nI pos) = if ga σ 17 pos < 0 then fX3_numberOf_L9 N σ k (nI h) t n (nI (pos + 1)) else if n = t then (gx_dv (ga σ 17 pos) (nI 32)).bind (fun v => some v) else fX3_numberOf_L9 N σ k (nI h) t (n + 1) (nI (pos + 1)) := by
  obtain ⟨e1, e2, e3⟩ := goes_hd hh hM hM9 hp
  conv => lhs; unfold fX3_numberOf_L9
  unfold fX3_numberOf_B55
  simp only [e1, ev_b, e2, if_false, e3, s_a1 pos]
theorem num_tr {N M h t : Nat} {C : xk_C} {σ : gm_S} (hM9 : M ≤ 139) (hh : h < 8) (hM : ga σ 18 h = nI M) (ht : t < 1000) : ∀ d a cd ls, tr2 C d a cd ls → ∀ n pos k, cdAt σ pos cd → pos + cd.length ≤ 140 * h + M → n ≤ t → (t < n + ls.length → fX3_numberOf_L9 N σ (k + cd.length) (nI h) (nI t) (nI n) (nI pos) = some (nI (ls.getD (t - n) (0, 0)).2)) ∧ (n + ls.length ≤ t → fX3_numberOf_L9 N σ (k + cd.length) (nI h) (nI t) (nI n) (nI pos) = fX3_numberOf_L9 N σ k (nI h) (nI t) (nI (n + ls.length)) (nI (pos + cd.length))) := by
  intro d
  induction d with
  | zero => intro a cd ls h; exact h.elim
  | succ d ih =>
    intro a cd ls htr n pos k hcd hpos hn
    rcases htr with ⟨w, hw, v, ka, an, h1, h2, h3, h4, h5, rfl, rfl⟩ | ⟨b, cd', ka, an, h1, h2, rfl⟩ | ⟨b, c, cd1, cd2, ls1, ls2, both, ka, an, h1, h2, h3, h4, h5, rfl, rfl⟩
    · simp only [List.length_cons, List.length_nil, Nat.zero_add] at hpos ⊢
      have e := hcd.one
      obtain ⟨-, f2, -, -⟩ := isSo_b w hw v h1 h2 h3
      rw [num_hd hh hM hM9 (by omega), e, if_neg (s_nn _ (by omega))]
      constructor
      · intro hlt
        have : n = t := by omega
        subst this
        rw [if_pos rfl, f2, ev_b]
        simp
      · intro hle
        rw [if_neg (fun q => by rw [s_eq _ _ (by omega) (by omega)] at q; omega), s_a1]
    · obtain ⟨hc1, hc2⟩ := hcd.app
      have hl : (cd' ++ [-1]).length = cd'.length + 1 := by simp
      rw [hl] at hpos ⊢
      obtain ⟨i1, i2⟩ := ih b cd' ls h2 n pos (k + 1) hc1 (by omega) hn
      have e0 : k + (cd'.length + 1) = k + 1 + cd'.length := by omega
      rw [e0]
      refine ⟨i1, fun hle => ?_⟩
      rw [i2 hle, num_hd hh hM hM9 (by omega), hc2.one, if_pos (by decide), ← Nat.add_assoc]
    · obtain ⟨hc12, hc3⟩ := hcd.app
      obtain ⟨hc1, hc2⟩ := hc12.app
      have hl : (cd1 ++ cd2 ++ [if both = true then -2 else -3]).length = cd1.length + cd2.length + 1 := by simp only [List.length_append, List.length_cons, List.length_nil]
      have hl2 : (cd1 ++ cd2).length = cd1.length + cd2.length := by simp
      have hll : (ls1 ++ ls2).length = ls1.length + ls2.length := by simp
      rw [hl] at hpos ⊢
      rw [hl2] at hc3
      rw [hll]
      obtain ⟨i1, i2⟩ := ih b cd1 ls1 h4 n pos (k + 1 + cd2.length) hc1 (by omega) hn
      have e0 : k + (cd1.length + cd2.length + 1) = k + 1 + cd2.length + cd1.length := by omega
      rw [e0]
      by_cases q : t < n + ls1.length
      · rw [i1 q]
        refine ⟨fun _ => ?_, fun hle => by omega⟩
        rw [gdl _ _ _ _ (by omega)]
      · rw [i2 (by omega)]
        obtain ⟨j1, j2⟩ := ih c cd2 ls2 h5 (n + ls1.length) (pos + cd1.length) (k + 1) hc2 (by omega) (by omega)
        refine ⟨fun hlt => ?_, fun hle => ?_⟩
        · rw [j1 (by omega), gdr _ _ _ _ (by omega)]
          congr 4; omega
        · have hlt : (if both = true then (-2 : Int32) else -3) < 0 := by cases both <;> decide
          rw [j2 (by omega), num_hd hh hM hM9 (by omega), show pos + cd1.length + cd2.length = pos + (cd1.length + cd2.length) from by omega, hc3.one, if_pos hlt, Nat.add_assoc n, Nat.add_assoc pos]
theorem num_cl {N h t : Nat} {C : xk_C} {σ : gm_S} {cl : List (Nat × Nat × List Int32 × List (Nat × Nat))} (hh : h < 8) (n139 : (cdl cl).length ≤ 139) (ht : t < 1000) (htr : ∀ c, c ∈ cl → c.1 < 4 ∧ tr2 C 125 c.2.1 c.2.2.1 c.2.2.2) (hm : pHm σ h cl) : ∀ suf pre, cl = pre ++ suf → ∀ k, (cdl suf).length < k → (lvl pre).length ≤ t → fX3_numberOf_L9 N σ k (nI h) (nI t) (nI (lvl pre).length) (nI (140 * h + (cdl pre).length)) = some (if t < (lvl cl).length then nI ((lvl cl).getD t (0, 0)).2 else -1) := by
  intro suf
  induction suf with
  | nil =>
    intro pre hpre k hk hp
    rw [List.append_nil] at hpre
    subst hpre
    obtain ⟨k, rfl⟩ : ∃ j, k = j + 1 := ⟨k - 1, by omega⟩
    rw [if_neg (by omega)]
    unfold fX3_numberOf_L9
    rw [m_rd σ (k := 18) (j := h) hh (by omega), ev_b, hm.1, if_pos]
    rw [s_mul, s_add]; exact lp_end _
  | cons c suf ih =>
    intro pre hpre k hk hp
    obtain ⟨hw4, htc⟩ := htr c (by rw [hpre]; simp)
    have hcd : cdl cl = cdl pre ++ (c.2.2.1 ++ ([-10 - nI c.1] ++ cdl suf)) := by
      rw [hpre, cdl_app]; show cdl pre ++ ((c.2.2.1 ++ [-10 - nI c.1]) ++ cdl suf) = _; rw [List.append_assoc c.2.2.1]
    have hlv : lvl cl = lvl pre ++ (c.2.2.2 ++ lvl suf) := by rw [hpre, lvl_app]; rfl
    have hcl : (cdl cl).length = (cdl pre).length + (c.2.2.1.length + (1 + (cdl suf).length)) := by rw [hcd]; simp; omega
    have hll : (lvl cl).length = (lvl pre).length + (c.2.2.2.length + (lvl suf).length) := by rw [hlv]; simp
    have hcs1 : (cdl (c :: suf)).length = c.2.2.1.length + 1 + (cdl suf).length := by show ((c.2.2.1 ++ [-10 - nI c.1]) ++ cdl suf).length = _; simp; omega
    rw [hcs1] at hk
    obtain ⟨hm1, hm2⟩ := hm
    rw [hcd] at hm2
    obtain ⟨-, q1⟩ := hm2.app
    obtain ⟨q2, q3⟩ := q1.app
    obtain ⟨q4, -⟩ := q3.app
    obtain ⟨k, rfl⟩ : ∃ j, k = (j + 1) + c.2.2.1.length := ⟨k - 1 - c.2.2.1.length, by omega⟩
    obtain ⟨i1, i2⟩ := num_tr (N := N) (t := t) n139 hh hm1 ht 125 _ _ _ htc (lvl pre).length (140 * h + (cdl pre).length) (k + 1) q2 (by omega) hp
    by_cases q : t < (lvl pre).length + c.2.2.2.length
    · rw [i1 q, if_pos (by omega), hlv, gdr _ _ _ _ hp, gdl _ _ _ _ (by omega)]
    · rw [i2 (by omega), num_hd hh hm1 n139 (by omega), q4.one, if_pos (end_c c.1 hw4).1]
      have e2 : (lvl (pre ++ [c])).length = (lvl pre).length + c.2.2.2.length := by rw [lvl_app]; show (lvl pre ++ (c.2.2.2 ++ [])).length = _; simp
      have e3 : (cdl (pre ++ [c])).length = (cdl pre).length + c.2.2.1.length + 1 := by rw [cdl_app]; show (cdl pre ++ ((c.2.2.1 ++ [-10 - nI c.1]) ++ [])).length = _; simp; omega
      have := ih (pre ++ [c]) (by rw [hpre]; simp) k (by omega) (by omega)
      rw [e2, e3, ← Nat.add_assoc, ← Nat.add_assoc] at this
      exact this
theorem num_l {N h t : Nat} {bx a : Nat} {C : xk_C} {σ : gm_S} {cl : List (Nat × Nat × List Int32 × List (Nat × Nat))} (hN : 200 ≤ N) (hh : h < 8) (ht : t < 1000) (hX : pHx bx C a h cl) (hm : pHm σ h cl) : fX3_numberOf N σ (nI h) (nI t) = some (if t < (lvl cl).length then nI ((lvl cl).getD t (0, 0)).2 else -1) := by
  have := num_cl (N := N) hh hX.2.2.2.2.1 ht hX.2.2.2.2.2 hm cl [] rfl N (by have := hX.2.2.2.2.1; omega) (Nat.zero_le _)
  unfold fX3_numberOf
  rw [s_mul]
  exact this
end
section
/-! STAGE 2: mending: one trial -/
def mI : List Nat := [4, 5, 6, 24, 25, 27, 28, 29, 30, 31, 41, 42, 46, 47, 48, 49, 50, 51, 52, 80, 101, 103]
def B2 (bx : Nat) (C C' : xk_C) : Prop := Fr mI bkR (bkE bx) C C' ∧ (xk_n C' = xk_n C ∧ xk_s C' = xk_s C) ∧ ∀ x m g, x ≠ bx + 1 → x ≠ bx + 3 → pL C x m g → pL C' x m g
section
variable {bx : Nat} {sh cr hb fm : Nat → Nat} {nS nC nH nF nT m im : Nat} {cls : Nat → List (Nat × Nat × List Int32 × List (Nat × Nat))} {C C' C'' : xk_C} {σ σ' : gm_S} {ks as : List Nat}
theorem B2.id : B2 bx C C := ⟨Fr.refl, ⟨rfl, rfl⟩, fun _ _ _ _ _ h => h⟩
theorem B2.trans (h : B2 bx C C') (h' : B2 bx C' C'') : B2 bx C C'' := ⟨h.1.trans h'.1, ⟨h'.2.1.1.trans h.2.1.1, h'.2.1.2.trans h.2.1.2⟩, fun x m g a b c => h'.2.2 x m g a b (h.2.2 x m g a b c)⟩
theorem BK.b2 (h : BK bx C C') : B2 bx C C' := ⟨h.1.mono (by decide) (by decide) (fun _ _ h => h), h.2.1, h.2.2⟩
theorem oC.b2 (o : oC bx sh cr hb nS nC nH C σ C' σ') : B2 bx C C' := ⟨o.2.1.1.mono (by decide) (by decide) (fun k a q => by unfold bkE at q; unfold oE; rw [Bool.or_eq_false_iff] at q; exact q.2), o.2.1.2, fun x m g _ _ c => c.fr o.2.1.1 (by decide) (by decide) (fun e _ => oE_34 e)⟩
theorem B2.si (f a : Nat) (v : Int32) (hf : f ∈ mI) (hf' : f ≠ 103) : B2 bx C (xk_si C f a v) :=
  ⟨Fr.si Fr.refl _ _ _ (.inl hf), ⟨rfl, rfl⟩, fun x m g _ _ c => c.fr (fi := [f]) (fr := []) (E := fun _ _ => false) (Fr.si Fr.refl _ _ _ (.inl (by simp))) (by simp; omega) (by simp) (fun _ _ => rfl)⟩
theorem IM.b2 {s : Nat → Int32} (I : IM bx sh hb nS nC nH im s C) (hsn : ∀ i, i < nS → sh i < xk_n C) (B : B2 bx C C') : IM bx sh hb nS nC nH im s C' := I.fr hsn B.1 (by decide) (by decide) (fun _ _ => rfl) (fun w hw => bkE_30 hw)
theorem pHx.b2 {b hh : Nat} {cl : List (Nat × Nat × List Int32 × List (Nat × Nat))} (H : pHx bx C b hh cl) (B : B2 bx C C') : pHx bx C' b hh cl := by
  obtain ⟨F, -, hL⟩ := B
  obtain ⟨⟨ka, an, i65, r69⟩, ⟨T, W, F', ⟨r66, r67, r68⟩, ⟨b1, b2, b3, b4⟩, LT, LF, kW, lW, hW⟩, n8, n40, n139, htr⟩ := H
  refine ⟨⟨(F.k an).trans ka, F.lt an, (F.i an (by decide)).trans i65, (F.r an (by decide)).trans r69⟩, ⟨T, W, F', ⟨(F.r an (by decide)).trans r66, (F.r an (by decide)).trans r67, (F.r an (by decide)).trans r68⟩, ⟨b1, b2, b3, F.lt b4⟩, hL _ _ _ (by omega) (by omega) LT, hL _ _ _ (by omega) (by omega) LF, (F.k b4).trans kW, (F.l b4).trans lW, fun k hk => ?_⟩, n8, n40, n139, fun c hc => ⟨(htr c hc).1, tr2.fr F (by decide) (by decide) (by decide) (by decide) (by decide) (by decide) _ _ _ _ (htr c hc).2⟩⟩
  rw [F.e b4 (by rw [kW]; exact bkE_30 b2)]; exact hW k hk
theorem dl0 (h : gs σ 22 = -1) {hh : Nat} (hhh : hh < 8) (q : Nat) : dl σ hh q = 0 := by
  unfold dl; rw [h, if_neg (s_m1 hh (by omega))]
theorem Rt.b2 (H : Rt bx sh cr hb fm nS nC nH nF nT m cls C σ) (hA : cA bx sh cr hb nS nC C σ) (B : B2 bx C C') (e80 : ∀ a, a < xk_n C → xk_i C' 80 a = xk_i C 80 a) (M : Mf ks as σ σ') (g22 : gs σ' 22 = -1) (m1 : ∀ k, k ∈ [4, 5, 6, 7, 35] → k ∉ ks) (m2 : ∀ k, k ∈ [2, 8, 11, 17, 18, 34] → k ∉ as) : Rt bx sh cr hb fm nS nC nH nF nT m cls C' σ' := by
  obtain ⟨a, ⟨b1, b2, b3, b4, b5⟩, ⟨c1, c2, c3, c4, c5⟩, d, ⟨e, e'⟩, f, g, h⟩ := H
  have F := B.1
  have nb := hA.1.1.2.1
  have k5 := hA.1.2.2.1.2.2.2.2.1
  have k2 := hA.1.2.2.1.2.1
  refine ⟨a.fr hA.2.2.2.2.1.2.1 F (by decide) (fun q q1 q2 => by unfold bkR; simp only [List.mem_cons, List.not_mem_nil, or_false]; omega) (fun x _ => rfl), ⟨(M.1 5 (m1 _ (by decide))).trans b1, b2, B.2.2 _ _ _ (by omega) (by omega) b3, fun hh hhh => ?_, b5⟩, ⟨(M.1 6 (m1 _ (by decide))).trans c1, c2, B.2.2 _ _ _ (by omega) (by omega) c3, fun i hi => (F.k (c3.2.2.2.1 i hi).1).trans (c4 i hi), fun i hi j hj => ?_⟩, ?_, ⟨?_, e'⟩, f.fr hA.2.2.2.1.2.1 (by omega) F M (by decide) (by decide) (fun _ _ => rfl) (fun w hw => bkE_30 hw) (m1 _ (by decide)) (m2 _ (by decide)), g.fr nb F (by decide) (by decide) (fun x _ => rfl) (fun x _ => rfl), g22⟩
  · obtain ⟨x1, x2, x3⟩ := b4 hh hhh
    refine ⟨x1.b2 B, ⟨(M.2 18 (m2 _ (by decide)) hh).trans x2.1, x2.2.same (fun j => M.2 17 (m2 _ (by decide)) j)⟩, fun q hq => ?_⟩
    have := x3 q hq
    rw [dl0 h (by omega)] at this
    rw [e80 _ (x1.lv hq).1, dl0 g22 (by omega)]; exact this
  · rw [F.i (c3.2.2.2.1 i hi).1 (by unfold mI; simp only [List.mem_cons, List.not_mem_nil, or_false]; omega), M.2 11 (m2 _ (by decide))]
    exact c5 i hi j hj
  · obtain ⟨d1, d2, d3, d4⟩ := d
    refine ⟨(F.i (by omega) (by decide)).trans d1, (M.1 7 (m1 _ (by decide))).trans d2, d3, fun j hj => ?_⟩
    rw [F.e (by omega) (by rw [k5]; rfl), M.2 8 (m2 _ (by decide))]; exact d4 j hj
  · obtain ⟨d1, d2, d3⟩ := e
    refine ⟨(F.i (by omega) (by decide)).trans d1, (M.1 35 (m1 _ (by decide))).trans d2, fun j hj => ?_⟩
    rw [F.e (by omega) (by rw [k2]; unfold bkE; simp), M.2 34 (m2 _ (by decide))]; exact d3 j hj
theorem copy_k (N : Nat) (x1 x2 x3 x4 : Int32) : ∀ d k i (σ : gm_S), i + d = 240 → d < k → ∃ σ', fX3_pointsBehind_L3 N k σ x1 x2 x3 x4 (nI i) = fX3_pointsBehind_L49 N N (gm_set (gm_set (gm_set σ' 22 x1) 20 x2) 21 x3) x4 0 ∧ (∀ j, i ≤ j → j < 240 → ga σ' 3 j = ga σ 1 j) ∧ (∀ j, j < i → ga σ' 3 j = ga σ 3 j) ∧ Mf [] [3] σ σ' := by
  intro d
  induction d with
  | zero =>
    intro k i σ hid hk
    obtain ⟨k, rfl⟩ : ∃ k', k = k' + 1 := ⟨k - 1, by omega⟩
    have : i = 240 := by omega
    subst this
    refine ⟨σ, ?_, fun j h1 h2 => by omega, fun j _ => rfl, Mf.refl⟩
    unfold fX3_pointsBehind_L3
    rw [if_pos (lp_end _), m_pt, ev_b, m_pt, ev_b, m_pt, ev_b]
  | succ d ih =>
    intro k i σ hid hk
    obtain ⟨k, rfl⟩ : ∃ k', k = k' + 1 := ⟨k - 1, by omega⟩
    obtain ⟨σ', f, e1, e2, M⟩ := ih k (i + 1) (gm_sta σ 3 i (ga σ 1 i)) (by omega) (by omega)
    refine ⟨σ', ?_, fun j h1 h2 => ?_, fun j hj => ?_, (Mf.refl.sta _ _ _ (by decide)).trans M⟩
    · unfold fX3_pointsBehind_L3
      rw [if_neg (lp_go (by omega) (by omega)), m_rd σ (k := 1) (j := i) (show i < 240 by omega) (by omega), ev_b, m_wr σ (k := 3) (j := i) _ (show i < 240 by omega) (by omega), ev_b, s_a1, f]
    · by_cases q : j = i
      · subst q; rw [e2 j (by omega), ga_sta, if_pos ⟨rfl, rfl⟩]
      · rw [e1 j (by omega) h2, ga_sta, if_neg (by omega)]
    · rw [e2 j (by omega), ga_sta, if_neg (by omega)]
theorem copy_b (N : Nat) (r : Int32) : ∀ d k i (σ : gm_S), i + d = 240 → d < k → ∃ σ', fX3_pointsBehind_L80 N k σ r (nI i) = some (σ', r) ∧ (∀ j, i ≤ j → j < 240 → ga σ' 1 j = ga σ 3 j) ∧ (∀ j, j < i → ga σ' 1 j = ga σ 1 j) ∧ Mf [] [1] σ σ' := by
  intro d
  induction d with
  | zero =>
    intro k i σ hid hk
    obtain ⟨k, rfl⟩ : ∃ k', k = k' + 1 := ⟨k - 1, by omega⟩
    have : i = 240 := by omega
    subst this
    refine ⟨σ, ?_, fun j h1 h2 => by omega, fun j _ => rfl, Mf.refl⟩
    unfold fX3_pointsBehind_L80
    rw [if_pos (lp_end _)]
  | succ d ih =>
    intro k i σ hid hk
    obtain ⟨k, rfl⟩ : ∃ k', k = k' + 1 := ⟨k - 1, by omega⟩
    obtain ⟨σ', f, e1, e2, M⟩ := ih k (i + 1) (gm_sta σ 1 i (ga σ 3 i)) (by omega) (by omega)
    refine ⟨σ', ?_, fun j h1 h2 => ?_, fun j hj => ?_, (Mf.refl.sta _ _ _ (by decide)).trans M⟩
    · unfold fX3_pointsBehind_L80
      rw [if_neg (lp_go (by omega) (by omega)), m_rd σ (k := 3) (j := i) (show i < 240 by omega) (by omega), ev_b, m_wr σ (k := 1) (j := i) _ (show i < 240 by omega) (by omega), ev_b, s_a1, f]
    · by_cases q : j = i
      · subst q; rw [e2 j (by omega), ge]
      · rw [e1 j (by omega) h2, ga_sta, if_neg (by omega)]
    · rw [e2 j (by omega), gn _ _ _ _ (by omega)]
/-- x's end of a trial -/
def xTry (N bx : Nat) (C : xk_C) (im : Nat) (p : Int32) : Option (xk_C × Int32) := (xk_is C 1 (some bx)).bind fun b2 => (fX0_points N b2 C).bind fun r1 => if r1 < p then fX0_isEnough_B32 N bx C (some im) 0 else fX0_isEnough_B32 N bx C (some im) 1
def mTry (N : Nat) (σ : gm_S) : Option (gm_S × Int32) := (gm_pt σ 22 (-1)).bind fun σ4 => (fX3_points N σ4).bind fun r5 => fX3_pointsBehind_L80 N N σ4 r5 0
theorem try_t {N : Nat} (hN : 300 ≤ N) (n : Nat) (hn : n ≤ 10) (p : Int32) : ∀ d k i (C : xk_C) (σ : gm_S), i + d = n → d < k → cR bx sh cr hb nS nC nH C σ → pH bx hb nH cls C σ → ∃ C' σ', fX0_isEnough_L3 N bx k C (some im) (nI n) p (nI i) = xTry N bx C' im p ∧ fX3_pointsBehind_L49 N k σ (nI n) (nI i) = mTry N σ' ∧ oC bx sh cr hb nS nC nH C σ C' σ' := by
  intro d
  induction d with
  | zero =>
    intro k i C σ hid hk h H
    obtain ⟨k, rfl⟩ : ∃ k', k = k' + 1 := ⟨k - 1, by omega⟩
    have : i = n := by omega
    subst this
    refine ⟨C, σ, ?_, ?_, oC.id h⟩
    · unfold fX0_isEnough_L3; rw [if_pos (lp_end _)]; rfl
    · unfold fX3_pointsBehind_L49; rw [if_pos (lp_end _)]; rfl
  | succ d ih =>
    intro k i C σ hid hk h H
    obtain ⟨k, rfl⟩ : ∃ k', k = k' + 1 := ⟨k - 1, by omega⟩
    obtain ⟨C2, σ2, f1, f2, o⟩ := goTick_l (N := N) (by omega) h H
    obtain ⟨C', σ', g1, g2, o'⟩ := ih k (i + 1) C2 σ2 (by omega) (by omega) o.1 (o.pH H)
    refine ⟨C', σ', ?_, ?_, o.trans o'⟩
    · unfold fX0_isEnough_L3; rw [if_neg (lp_go (by omega) (by omega)), g_is h.kB, ev_b, f1, ev_b, s_a1, g1]
    · unfold fX3_pointsBehind_L49; rw [if_neg (lp_go (by omega) (by omega)), f2, ev_b, s_a1, g2]
theorem try_l {N : Nat} (hN : 300 ≤ N) {n : Nat} (hn : n ≤ 10) (h : cR bx sh cr hb nS nC nH C σ) (I : IM bx sh hb nS nC nH im (ga σ 1) C) (e91 : xk_i C 91 im = nI nS) (e92 : xk_i C 92 im = nI nC) (hc t d p : Int32) (H : ∀ σ1, Mf [20, 21, 22] [3] σ σ1 → gs σ1 22 = hc → gs σ1 20 = t → gs σ1 21 = d → pH bx hb nH cls C σ1) : ∃ C' σ' r x, fX0_isEnough N bx C (some im) (nI n) p = some (C', x) ∧ fX3_pointsBehind N σ hc t d (nI n) = some (σ', r) ∧ x = (if r < p then 0 else 1) ∧ cR bx sh cr hb nS nC nH C' σ' ∧ B2 bx C C' ∧ Mf [20, 21, 22] [1, 3, 16, 19] σ σ' ∧ (∀ j, j < 240 → ga σ' 1 j = ga σ 1 j) ∧ gs σ' 22 = -1 ∧ (∀ f a, f = 80 ∨ f = 24 ∨ f = 25 → a < xk_n C → xk_i C' f a = xk_i C f a) := by
  have hn2 := h.n20
  have hn1 := h.n12
  obtain ⟨σ0, f0, e0, -, M0⟩ := copy_k N hc t d (nI n) 240 N 0 σ (by omega) (by omega)
  have f0' : fX3_pointsBehind N σ hc t d (nI n) = fX3_pointsBehind_L49 N N (gm_set (gm_set (gm_set σ0 22 hc) 20 t) 21 d) (nI n) 0 := f0
  have M1 : Mf [20, 21, 22] [3] σ (gm_set (gm_set (gm_set σ0 22 hc) 20 t) 21 d) := (((M0.mono (by decide) (by decide)).set _ _ (by decide)).set _ _ (by decide)).set _ _ (by decide)
  have H1 := H _ M1 (by rw [gs_set, if_neg (by decide), gs_set, if_neg (by decide), gs_set, if_pos rfl]) (by rw [gs_set, if_neg (by decide), gs_set, if_pos rfl]) (by rw [gs_set, if_pos rfl])
  have h1 : cR bx sh cr hb nS nC nH C (gm_set (gm_set (gm_set σ0 22 hc) 20 t) 21 d) := h.fr (Fr.refl (fi := []) (fr := []) (E := fun _ _ => false)) (fun j => M1.2 1 (by decide) j) (by decide) (by decide) (fun _ _ => rfl) rfl
  have k3 : ∀ j, j < 240 → ga (gm_set (gm_set (gm_set σ0 22 hc) 20 t) 21 d) 3 j = ga σ 1 j := fun j hj => e0 j (by omega) hj
  obtain ⟨C2, σ2, g1, g2, o⟩ := try_t hN n hn p (im := im) n N 0 C _ (by omega) (by omega) h1 H1
  have g1' : fX0_isEnough N bx C (some im) (nI n) p = xTry N bx C2 im p := g1
  have g2' : fX3_pointsBehind_L49 N N (gm_set (gm_set (gm_set σ0 22 hc) 20 t) 21 d) (nI n) 0 = mTry N σ2 := g2
  have M2 : Mf [20, 21, 22] [1, 3, 16, 19] σ (gm_set σ2 22 (-1)) := ((M1.mono (by decide) (by decide)).trans (o.2.2.mono (by decide) (by decide))).set _ _ (by decide)
  have h2 : cR bx sh cr hb nS nC nH C2 (gm_set σ2 22 (-1)) := o.1.fr (Fr.refl (fi := []) (fr := []) (E := fun _ _ => false)) (fun j => rfl) (by decide) (by decide) (fun _ _ => rfl) rfl
  obtain ⟨r, p1, p2⟩ := op_points (N := N) (by omega) h2
  have I2 := I.b2 h.1.2.2.2.1.2.1 o.b2
  obtain ⟨C3, iS, iC, q1, ⟨l1, l2, l3, l4⟩, B, R⟩ := put_l (N := N) (by omega) o.1 I2
  have eS : iS = nS := by rw [o.b2.1.i I.2.1 (by decide), e91, s_eq _ _ (by omega) (by omega)] at l3; exact l3.symm
  have eC : iC = nC := by rw [o.b2.1.i I.2.1 (by decide), e92, s_eq _ _ (by omega) (by omega)] at l4; exact l4.symm
  subst eS eC
  obtain ⟨σ3, c1, c2, -, M3⟩ := copy_b N r 240 N 0 (gm_set σ2 22 (-1)) (by omega) (by omega)
  have c1' : fX3_pointsBehind_L80 N N (gm_set σ2 22 (-1)) r 0 = some (σ3, r) := c1
  have rows : ∀ j, j < 240 → ga σ3 1 j = ga σ 1 j := fun j hj => by rw [c2 j (by omega) hj, ga_set, o.2.2.2 3 (by decide), k3 j hj]
  have b32 : ∀ v : Int32, v = 0 ∨ v = 1 → fX0_isEnough_B32 N bx C2 (some im) v = some (C3, v) := fun v hv => by
    unfold fX0_isEnough_B32
    rw [g_is I2.1, ev_b, q1, ev_b]
    rcases hv with rfl | rfl <;> rfl
  refine ⟨C3, σ3, r, if r < p then 0 else 1, ?_, ?_, rfl, R σ3 rows, o.b2.trans B.b2, M2.trans (M3.mono (by decide) (by decide)), rows, ?_, fun f a hf ha => ?_⟩
  · rw [g1']; unfold xTry
    rw [g_is o.1.kB, ev_b, p1, ev_b]
    by_cases c : r < p
    · rw [if_pos c, if_pos c]; exact b32 0 (.inl rfl)
    · rw [if_neg c, if_neg c]; exact b32 1 (.inr rfl)
  · rw [f0', g2']; unfold mTry
    rw [m_pt, ev_b, p2, ev_b, c1']
  · rw [M3.1 22 (by simp), gs_set, if_pos rfl]
  · have d1 : f ∉ bkI := by rcases hf with rfl | rfl | rfl <;> decide
    have d2 : f ∉ oI := by rcases hf with rfl | rfl | rfl <;> decide
    rw [B.1.i (by have := o.2.1.2.1; omega) d1, o.2.1.1.i ha d2]
end
end
section
/-! STAGE 2: mend -/
section
variable {bx : Nat} {sh cr hb fm : Nat → Nat} {nS nC nH nF nT m im : Nat} {cls : Nat → List (Nat × Nat × List Int32 × List (Nat × Nat))} {C C' C'' : xk_C} {σ σ' : gm_S}
/-- between trials -/
def MS (bx : Nat) (sh cr hb fm : Nat → Nat) (nS nC nH nF nT m im : Nat) (cls : Nat → List (Nat × Nat × List Int32 × List (Nat × Nat))) (C : xk_C) (σ : gm_S) : Prop := cR bx sh cr hb nS nC nH C σ ∧ Rt bx sh cr hb fm nS nC nH nF nT m cls C σ ∧ IM bx sh hb nS nC nH im (ga σ 1) C ∧ xk_i C 91 im = nI nS ∧ xk_i C 92 im = nI nC
theorem cR.si3 (h : cR bx sh cr hb nS nC nH C σ) (f a : Nat) (v : Int32) (hf : f ∉ [4, 5, 6, 37, 38, 39, 40, 41, 42, 44, 46, 47, 48, 49, 50, 51, 52, 103]) : cR bx sh cr hb nS nC nH (xk_si C f a v) σ :=
  h.fr (fi := [f]) (fr := []) (E := fun _ _ => false) (Fr.refl.si _ _ _ (.inl (by simp))) (fun _ => rfl) (fun g hg => by rw [List.mem_singleton.mp hg]; exact hf) (by simp) (fun _ _ => rfl) rfl
theorem mends_l {N : Nat} (hN : 300 ≤ N) {n : Nat} (hn : n ≤ 10) (S : MS bx sh cr hb fm nS nC nH nF nT m im cls C σ) {h t : Nat} (hh : h < nH) (ht : t < (lvl (cls h)).length) (cv p : Int32) :
    (fX3_isThousand (nI ((lvl (cls h)).getD t (0, 0)).2 + cv) = some 0 → fX0_mends N bx C (some im) (some (hb h)) (nI t) cv (nI n) p = some (C, 0)) ∧
    (fX3_isThousand (nI ((lvl (cls h)).getD t (0, 0)).2 + cv) = some 1 → ∃ C' σ' r, fX0_mends N bx C (some im) (some (hb h)) (nI t) cv (nI n) p = some (C', if r < p then 0 else 1) ∧ fX3_pointsBehind N σ (nI h) (nI t) cv (nI n) = some (σ', r) ∧ MS bx sh cr hb fm nS nC nH nF nT m im cls C' σ' ∧ xk_i C' 24 bx = cv ∧ xk_i C' 25 bx = nI t ∧ (xk_n C' = xk_n C ∧ xk_s C' = xk_s C)) := by
  obtain ⟨R, H, I, e91, e92⟩ := S
  obtain ⟨p1, p2, p3, p4, p5⟩ := id H.2.1
  obtain ⟨hX, hm, hnn⟩ := p4 h hh
  have g22 : gs σ 22 = -1 := H.2.2.2.2.2.2.2
  obtain ⟨⟨ka, -, -, -⟩, ⟨T, W, F, ⟨-, -, r68⟩, -, -, LF, -⟩, -, n40, -⟩ := id hX
  have hgd : (lvl (cls h)).getD t (0, 0) = (lvl (cls h))[t] := by rw [List.getD_eq_getElem?_getD, List.getElem?_eq_getElem ht]; rfl
  obtain ⟨fn, fk, fv⟩ := hX.lv ht
  have i80 : xk_i C 80 ((lvl (cls h))[t]).1 = nI ((lvl (cls h))[t]).2 := by
    have := hnn t ht; rw [dl0 g22 (by omega), Int32.add_zero] at this; exact this
  have gt : fJ2_get F C (nI t) = some (some ((lvl (cls h))[t]).1) := by rw [LF.get ht, hgd]
  rw [hgd]
  generalize hfa : ((lvl (cls h))[t]).1 = fa at *
  generalize hv : ((lvl (cls h))[t]).2 = v at *
  have hd : fX0_mends N bx C (some im) (some (hb h)) (nI t) cv (nI n) p = (fX3_isThousand (nI v + cv)).bind fun r6 => if r6 = 0 then some (C, 0) else (xk_gi C 80 (some fa)).bind fun v7 => (xk_pi C 80 (some fa) (v7 + cv)).bind fun σ8 => (xk_is σ8 1 (some bx)).bind fun b10 => (fX0_isEnough N b10 σ8 (some im) (nI n) p).bind fun r9 => (xk_gi r9.1 80 (some fa)).bind fun v11 => (xk_pi r9.1 80 (some fa) (v11 - cv)).bind fun σ12 => (xk_pi σ12 24 (some bx) cv).bind fun σ13 => (xk_pi σ13 25 (some bx) (nI t)).bind fun σ14 => (gz r9.2).bind fun v15 => some (σ14, v15) := by
    unfold fX0_mends
    rw [g_r ka rfl, r68, ev_b, g_is LF.1, ev_b, gt, ev_b, g_ck fk, ev_b, g_i fk rfl, i80, ev_b]; rfl
  rw [hd]
  constructor
  · intro e; rw [e, ev_b, if_pos rfl]
  · intro e
    rw [e, ev_b, if_neg (by decide), g_i fk rfl, i80, ev_b, p_i fk rfl, ev_b]
    have R1 : cR bx sh cr hb nS nC nH (xk_si C 80 fa (nI v + cv)) σ := R.si3 80 fa _ (by decide)
    have B1 : B2 bx C (xk_si C 80 fa (nI v + cv)) := B2.si _ _ _ (by decide) (by decide)
    have I1 := I.b2 R.1.2.2.2.1.2.1 B1
    have F1 : Fr [80] [] (fun _ _ => false) C (xk_si C 80 fa (nI v + cv)) := Fr.refl.si _ _ _ (.inl (by decide))
    obtain ⟨C2, σ2, r, x, g1, g2, ex, R2, B2', M2, rows, g22', o80⟩ := try_l hN hn R1 I1 (by rw [i_si, if_neg (by omega)]; exact e91) (by rw [i_si, if_neg (by omega)]; exact e92) (nI h) (nI t) cv p (cls := cls) (fun σ1 M1 w22 w20 w21 => by
      refine ⟨(M1.1 5 (by decide)).trans p1, p2, p3.fr F1 (by decide) (by decide) (fun _ _ => rfl), fun h' hh' => ?_, p5⟩
      obtain ⟨x1, x2, x3⟩ := p4 h' hh'
      refine ⟨x1.fr F1 (by decide) (by decide) (fun _ _ => rfl) (fun _ _ => rfl), ⟨(M1.2 18 (by decide) h').trans x2.1, x2.2.same (fun j => M1.2 17 (by decide) j)⟩, fun q hq => ?_⟩
      have old := x3 q hq
      rw [dl0 g22 (by omega), Int32.add_zero] at old
      have n40' := x1.2.2.2.1
      have gq : (lvl (cls h')).getD q (0, 0) = (lvl (cls h'))[q] := by rw [List.getD_eq_getElem?_getD, List.getElem?_eq_getElem hq]; rfl
      unfold dl
      rw [w22, w20, w21, i_si]
      by_cases c : h' = h ∧ q = t
      · obtain ⟨rfl, rfl⟩ := c
        rw [hfa, hv, if_pos ⟨rfl, rfl⟩, if_pos rfl, if_pos rfl]
      · have ne : ¬ (80 = 80 ∧ ((lvl (cls h'))[q]).1 = fa) := fun e => c (by
          have := p5 h' h q t hh' hh hq ht (by rw [gq, hgd, hfa]; exact e.2)
          exact this)
        rw [if_neg ne, old]
        by_cases c1 : nI h' = nI h
        · rw [if_pos c1]
          have eh : h' = h := (s_eq _ _ (by omega) (by omega)).mp c1
          have ne2 : ¬ nI q = nI t := fun e => c ⟨eh, (s_eq _ _ (by omega) (by omega)).mp e⟩
          rw [if_neg ne2, Int32.add_zero]
        · rw [if_neg c1, Int32.add_zero])
    have fk2 : xk_k C2 fa = 17 := (B2'.1.k fn).trans fk
    have e80 : xk_i C2 80 fa = nI v + cv := by rw [o80 80 fa (.inl rfl) fn, i_si, if_pos ⟨rfl, rfl⟩]
    have kB2 := R2.kB
    have ev : nI v + cv - cv = nI v := Int32.add_sub_cancel _ _
    have nbx : fa ≠ bx := fun q => by rw [q, kB2] at fk2; omega
    rw [g_is R1.kB, ev_b, g1, ev_b, g_i fk2 rfl, e80, ev_b, ev, p_i fk2 rfl, ev_b, p_i (C := xk_si C2 80 fa (nI v)) kB2 rfl, ev_b, p_i (C := xk_si (xk_si C2 80 fa (nI v)) 24 bx cv) kB2 rfl, ev_b]
    have x01 : x = 0 ∨ x = 1 := by rw [ex]; split <;> simp
    have gzx : gz x = some x := by rcases x01 with q | q <;> rw [q] <;> rfl
    rw [gzx, ev_b]
    have B5 : B2 bx C (xk_si (xk_si (xk_si C2 80 fa (nI v)) 24 bx cv) 25 bx (nI t)) := (((B1.trans B2').trans (B2.si 80 fa (nI v) (by decide) (by decide))).trans (B2.si 24 bx cv (by decide) (by decide))).trans (B2.si 25 bx (nI t) (by decide) (by decide))
    have R5 : cR bx sh cr hb nS nC nH (xk_si (xk_si (xk_si C2 80 fa (nI v)) 24 bx cv) 25 bx (nI t)) σ2 := ((R2.si3 80 fa _ (by decide)).si3 24 bx _ (by decide)).si3 25 bx _ (by decide)
    have f80 : ∀ a, a < xk_n C → xk_i (xk_si (xk_si (xk_si C2 80 fa (nI v)) 24 bx cv) 25 bx (nI t)) 80 a = xk_i C 80 a := fun a ha => by
      rw [i_si, if_neg (by omega), i_si, if_neg (by omega), i_si]
      by_cases q : a = fa
      · rw [if_pos ⟨rfl, q⟩, q, i80]
      · rw [if_neg (fun z => q z.2), o80 80 a (.inl rfl) ha, i_si, if_neg (fun z => q z.2)]
    refine ⟨_, σ2, r, by rw [ex], g2, ⟨R5, H.b2 R.1 B5 f80 M2 g22' (by decide) (by decide), (I.b2 R.1.2.2.2.1.2.1 B5).rows rows, ?_, ?_⟩, ?_, ?_, B5.2.1⟩
    · rw [B5.1.i I.2.1 (by decide)]; exact e91
    · rw [B5.1.i I.2.1 (by decide)]; exact e92
    · rw [i_si, if_neg (by omega), i_si, if_pos ⟨rfl, rfl⟩]
    · rw [i_si, if_pos ⟨rfl, rfl⟩]
theorem neg_m (a : Int32) : (-1 : Int32) * a = -a := by rw [Int32.neg_mul, Int32.one_mul]
/-- where a search for a mend ends -/
def MEnd (bx : Nat) (sh cr hb fm : Nat → Nat) (nS nC nH nF nT m im : Nat) (cls : Nat → List (Nat × Nat × List Int32 × List (Nat × Nat))) (x4 : Int32) (C : xk_C) (X : Option (xk_C × Int32)) (Y : Option (gm_S × Int32)) : Prop := ∃ C' σ' cv tt, X = some (C', 1) ∧ Y = some (σ', if x4 = 0 then cv else tt) ∧ xk_i C' 24 bx = cv ∧ xk_i C' 25 bx = tt ∧ MS bx sh cr hb fm nS nC nH nF nT m im cls C' σ' ∧ (xk_n C' = xk_n C ∧ xk_s C' = xk_s C)
theorem mend_t {N : Nat} (hN : 300 ≤ N) {n : Nat} (hn : n ≤ 10) {h : Nat} (hh : h < nH) (p x4 : Int32) (b : Nat) (Kx : xk_C → Option Nat → Int32 → Int32 → Option Nat → Int32 → Option (xk_C × Int32)) (Km : gm_S → Int32 → Int32 → Int32 → Int32 → Int32 → Option (gm_S × Int32)) : ∀ d k k' t (C : xk_C) (σ : gm_S), t + d = (lvl (cls h)).length → d < k → d < k' → MS bx sh cr hb fm nS nC nH nF nT m im cls C σ → MEnd bx sh cr hb fm nS nC nH nF nT m im cls x4 C (fX0_findMend_L46 N bx Kx k C (some (hb h)) (nI n) p (some im) (nI b) (nI t)) (fX3_mend_L82 N Km k' σ (nI h) (nI n) p x4 (nI b) (nI t)) ∨ ∃ C' σ', fX0_findMend_L46 N bx Kx k C (some (hb h)) (nI n) p (some im) (nI b) (nI t) = Kx C' (some (hb h)) (nI n) p (some im) (nI (b + 1)) ∧ fX3_mend_L82 N Km k' σ (nI h) (nI n) p x4 (nI b) (nI t) = Km σ' (nI h) (nI n) p x4 (nI (b + 1)) ∧ MS bx sh cr hb fm nS nC nH nF nT m im cls C' σ' ∧ (xk_n C' = xk_n C ∧ xk_s C' = xk_s C) := by
  intro d
  induction d with
  | zero =>
    intro k k' t C σ hid hk hk' S
    obtain ⟨k, rfl⟩ : ∃ j, k = j + 1 := ⟨k - 1, by omega⟩
    obtain ⟨k', rfl⟩ : ∃ j, k' = j + 1 := ⟨k' - 1, by omega⟩
    have : t = (lvl (cls h)).length := by omega
    obtain ⟨hX, hm, -⟩ := S.2.1.2.1.2.2.2.1 h hh
    have n8 := S.1.n8
    obtain ⟨⟨ka, -, -, -⟩, ⟨T, W, F, ⟨-, -, r68⟩, -, -, LF, -⟩, -, n40, -⟩ := id hX
    refine .inr ⟨C, σ, ?_, ?_, S, rfl, rfl⟩
    · unfold fX0_findMend_L46
      rw [g_r ka rfl, r68, ev_b, g_is LF.1, ev_b, LF.size, ev_b, this, if_pos (lp_end _), s_a1]
    · unfold fX3_mend_L82
      have e1 : (if t < (lvl (cls h)).length then nI ((lvl (cls h)).getD t (0, 0)).2 else -1) = -1 := if_neg (by omega)
      rw [num_l (by omega) (by omega) (by omega) hX hm, ev_b, e1, if_pos rfl, s_a1]
  | succ d ih =>
    intro k k' t C σ hid hk hk' S
    obtain ⟨k, rfl⟩ : ∃ j, k = j + 1 := ⟨k - 1, by omega⟩
    obtain ⟨k', rfl⟩ : ∃ j, k' = j + 1 := ⟨k' - 1, by omega⟩
    have ht : t < (lvl (cls h)).length := by omega
    obtain ⟨hX, hm, -⟩ := S.2.1.2.1.2.2.2.1 h hh
    have n8 := S.1.n8
    obtain ⟨⟨ka, -, -, -⟩, ⟨T, W, F, ⟨-, -, r68⟩, -, -, LF, -⟩, -, n40, -⟩ := id hX
    have lv := hX.lv ht
    have hgd : (lvl (cls h)).getD t (0, 0) = (lvl (cls h))[t] := by rw [List.getD_eq_getElem?_getD, List.getElem?_eq_getElem ht]; rfl
    have num : ∀ (C' : xk_C) (σ' : gm_S), MS bx sh cr hb fm nS nC nH nF nT m im cls C' σ' → fX3_numberOf N σ' (nI h) (nI t) = some (nI ((lvl (cls h)).getD t (0, 0)).2) := fun C' σ' S' => by
      obtain ⟨hX', hm', -⟩ := S'.2.1.2.1.2.2.2.1 h hh
      rw [num_l (by omega) (by omega) (by omega) hX' hm', if_pos ht]
    have xh : fX0_findMend_L46 N bx Kx (k + 1) C (some (hb h)) (nI n) p (some im) (nI b) (nI t) = (fX0_mends N bx C (some im) (some (hb h)) (nI t) (-(nI b)) (nI n) p).bind fun r10 => if r10.2 = 0 then (xk_is r10.1 1 (some bx)).bind fun b13 => (fX0_mends N b13 r10.1 (some im) (some (hb h)) (nI t) (nI b) (nI n) p).bind fun r12 => if r12.2 = 0 then fX0_findMend_L46 N bx Kx k r12.1 (some (hb h)) (nI n) p (some im) (nI b) (nI (t + 1)) else some (r12.1, 1) else some (r10.1, 1) := by
      conv => lhs; unfold fX0_findMend_L46
      rw [g_r ka rfl, r68, ev_b, g_is LF.1, ev_b, LF.size, ev_b, if_neg (lp_go ht (by omega)), g_is S.1.kB, ev_b, s_a1]
    obtain ⟨N1, hN1⟩ : ∃ j, N = j + 3 := ⟨N - 3, by omega⟩
    have vne : ¬ nI ((lvl (cls h)).getD t (0, 0)).2 = -1 := by rw [hgd]; exact s_m1 _ (by have := lv.2.2; omega)
    -- the model's two signs
    have mh : fX3_mend_L82 N Km (k' + 1) σ (nI h) (nI n) p x4 (nI b) (nI t) = fX3_mend_L96 N Km (fX3_mend_L82 N Km k') N σ (nI h) (nI n) p x4 (nI b) (nI t) (-1) := by
      conv => lhs; unfold fX3_mend_L82
      rw [num C σ S, ev_b, if_neg vne]
    have s3 : ∀ j (σ' : gm_S), fX3_mend_L96 N Km (fX3_mend_L82 N Km k') (j + 1) σ' (nI h) (nI n) p x4 (nI b) (nI t) (1 + 2) = fX3_mend_L82 N Km k' σ' (nI h) (nI n) p x4 (nI b) (nI (t + 1)) := fun j σ' => by
      unfold fX3_mend_L96; rw [if_pos (by decide), s_a1]
    -- one sign
    have sg : ∀ (sn : Int32) j (C' : xk_C) (σ' : gm_S), ¬ ((2 : Int32) ≤ sn) → MS bx sh cr hb fm nS nC nH nF nT m im cls C' σ' → (fX3_isThousand (nI ((lvl (cls h)).getD t (0, 0)).2 + sn * nI b) = some 0 → fX3_mend_L96 N Km (fX3_mend_L82 N Km k') (j + 1) σ' (nI h) (nI n) p x4 (nI b) (nI t) sn = fX3_mend_L96 N Km (fX3_mend_L82 N Km k') j σ' (nI h) (nI n) p x4 (nI b) (nI t) (sn + 2)) ∧ (fX3_isThousand (nI ((lvl (cls h)).getD t (0, 0)).2 + sn * nI b) = some 1 → ∀ σ'' r, fX3_pointsBehind N σ' (nI h) (nI t) (sn * nI b) (nI n) = some (σ'', r) → fX3_mend_L96 N Km (fX3_mend_L82 N Km k') (j + 1) σ' (nI h) (nI n) p x4 (nI b) (nI t) sn = if r < p then fX3_mend_L96 N Km (fX3_mend_L82 N Km k') j σ'' (nI h) (nI n) p x4 (nI b) (nI t) (sn + 2) else some (σ'', if x4 = 0 then sn * nI b else nI t)) := by
      intro sn j C' σ' hsn S'
      refine ⟨fun e => ?_, fun e σ'' r f => ?_⟩
      · conv => lhs; unfold fX3_mend_L96
        unfold fX3_mend_B158
        rw [if_neg hsn, num C' σ' S', ev_b, e, ev_b, if_pos rfl]
      · conv => lhs; unfold fX3_mend_L96
        unfold fX3_mend_B158
        rw [if_neg hsn, num C' σ' S', ev_b, e, ev_b, if_neg (by decide), f, ev_b]
        by_cases c : r < p
        · rw [if_pos c, if_pos c]
        · rw [if_neg c, if_neg c]; split <;> rfl
    -- the second sign
    have second : ∀ (C1 : xk_C) (σ1 : gm_S), MS bx sh cr hb fm nS nC nH nF nT m im cls C1 σ1 → (xk_n C1 = xk_n C ∧ xk_s C1 = xk_s C) → MEnd bx sh cr hb fm nS nC nH nF nT m im cls x4 C ((fX0_mends N bx C1 (some im) (some (hb h)) (nI t) (nI b) (nI n) p).bind fun r12 => if r12.2 = 0 then fX0_findMend_L46 N bx Kx k r12.1 (some (hb h)) (nI n) p (some im) (nI b) (nI (t + 1)) else some (r12.1, 1)) (fX3_mend_L96 N Km (fX3_mend_L82 N Km k') (N1 + 2) σ1 (nI h) (nI n) p x4 (nI b) (nI t) 1) ∨ ∃ C' σ', ((fX0_mends N bx C1 (some im) (some (hb h)) (nI t) (nI b) (nI n) p).bind fun r12 => if r12.2 = 0 then fX0_findMend_L46 N bx Kx k r12.1 (some (hb h)) (nI n) p (some im) (nI b) (nI (t + 1)) else some (r12.1, 1)) = Kx C' (some (hb h)) (nI n) p (some im) (nI (b + 1)) ∧ fX3_mend_L96 N Km (fX3_mend_L82 N Km k') (N1 + 2) σ1 (nI h) (nI n) p x4 (nI b) (nI t) 1 = Km σ' (nI h) (nI n) p x4 (nI (b + 1)) ∧ MS bx sh cr hb fm nS nC nH nF nT m im cls C' σ' ∧ (xk_n C' = xk_n C ∧ xk_s C' = xk_s C) := by
      intro C1 σ1 S1 n1
      obtain ⟨a0, a1⟩ := mends_l hN hn S1 hh ht (nI b) p
      obtain ⟨b0, b1⟩ := sg 1 (N1 + 1) C1 σ1 (by decide) S1
      rw [Int32.one_mul] at b0 b1
      have go : ∀ (C2 : xk_C) (σ2 : gm_S), MS bx sh cr hb fm nS nC nH nF nT m im cls C2 σ2 → (xk_n C2 = xk_n C ∧ xk_s C2 = xk_s C) → MEnd bx sh cr hb fm nS nC nH nF nT m im cls x4 C (fX0_findMend_L46 N bx Kx k C2 (some (hb h)) (nI n) p (some im) (nI b) (nI (t + 1))) (fX3_mend_L82 N Km k' σ2 (nI h) (nI n) p x4 (nI b) (nI (t + 1))) ∨ ∃ C' σ', fX0_findMend_L46 N bx Kx k C2 (some (hb h)) (nI n) p (some im) (nI b) (nI (t + 1)) = Kx C' (some (hb h)) (nI n) p (some im) (nI (b + 1)) ∧ fX3_mend_L82 N Km k' σ2 (nI h) (nI n) p x4 (nI b) (nI (t + 1)) = Km σ' (nI h) (nI n) p x4 (nI (b + 1)) ∧ MS bx sh cr hb fm nS nC nH nF nT m im cls C' σ' ∧ (xk_n C' = xk_n C ∧ xk_s C' = xk_s C) := fun C2 σ2 S2 n2 => by
        rcases ih k k' (t + 1) C2 σ2 (by omega) (by omega) (by omega) S2 with ⟨C', σ', cv, tt, q1, q2, q3, q4, q5, q6⟩ | ⟨C', σ', q1, q2, q3, q4⟩
        · exact .inl ⟨C', σ', cv, tt, q1, q2, q3, q4, q5, q6.1.trans n2.1, q6.2.trans n2.2⟩
        · exact .inr ⟨C', σ', q1, q2, q3, q4.1.trans n2.1, q4.2.trans n2.2⟩
      rcases thou_ok (nI ((lvl (cls h)).getD t (0, 0)).2 + nI b) with e | e
      · rw [a0 e, ev_b, if_pos rfl, b0 e, s3]
        exact go C1 σ1 S1 n1
      · obtain ⟨C2, σ2, r, f1, f2, S2, i24, i25, n2⟩ := a1 e
        have n2' : xk_n C2 = xk_n C ∧ xk_s C2 = xk_s C := ⟨n2.1.trans n1.1, n2.2.trans n1.2⟩
        rw [f1, ev_b, b1 e σ2 r f2]
        by_cases c : r < p
        · simp only [if_pos c, if_true]
          rw [s3]
          exact go C2 σ2 S2 n2'
        · simp only [if_neg c, ev_10, if_false]
          exact .inl ⟨C2, σ2, nI b, nI t, rfl, rfl, i24, i25, S2, n2'⟩
    rw [xh, mh]
    obtain ⟨a0, a1⟩ := mends_l hN hn S hh ht (-(nI b)) p
    obtain ⟨b0, b1⟩ := sg (-1) (N1 + 2) C σ (by decide) S
    rw [neg_m] at b0 b1
    have sN : fX3_mend_L96 N Km (fX3_mend_L82 N Km k') N σ (nI h) (nI n) p x4 (nI b) (nI t) (-1) = fX3_mend_L96 N Km (fX3_mend_L82 N Km k') (N1 + 2 + 1) σ (nI h) (nI n) p x4 (nI b) (nI t) (-1) := by congr 1
    rw [sN]
    have m12 : (-1 : Int32) + 2 = 1 := by decide
    rcases thou_ok (nI ((lvl (cls h)).getD t (0, 0)).2 + -(nI b)) with e | e
    · rw [a0 e, ev_b, if_pos rfl, g_is S.1.kB, ev_b, b0 e, m12]
      exact second C σ S ⟨rfl, rfl⟩
    · obtain ⟨C2, σ2, r, f1, f2, S2, i24, i25, n2⟩ := a1 e
      rw [f1, ev_b, b1 e σ2 r f2]
      by_cases c : r < p
      · simp only [if_pos c, if_true, g_is S2.1.kB, ev_b, m12]
        exact second C2 σ2 S2 n2
      · simp only [if_neg c, ev_10, if_false]
        exact .inl ⟨C2, σ2, -(nI b), nI t, rfl, rfl, i24, i25, S2, n2⟩
theorem mend_b {N : Nat} (hN : 300 ≤ N) {n : Nat} (hn : n ≤ 10) {h : Nat} (hh : h < nH) (p x4 : Int32) : ∀ d k b (C : xk_C) (σ : gm_S), b + d = 6 → d < k → MS bx sh cr hb fm nS nC nH nF nT m im cls C σ → MEnd bx sh cr hb fm nS nC nH nF nT m im cls x4 C (fX0_findMend_L37 N bx k C (some (hb h)) (nI n) p (some im) (nI b)) (fX3_mend_L73 N k σ (nI h) (nI n) p x4 (nI b)) ∨ ∃ C' σ', fX0_findMend_L37 N bx k C (some (hb h)) (nI n) p (some im) (nI b) = some (C', 0) ∧ fX3_mend_L73 N k σ (nI h) (nI n) p x4 (nI b) = some (σ', -100) ∧ MS bx sh cr hb fm nS nC nH nF nT m im cls C' σ' ∧ (xk_n C' = xk_n C ∧ xk_s C' = xk_s C) := by
  intro d
  induction d with
  | zero =>
    intro k b C σ hid hk S
    obtain ⟨k, rfl⟩ : ∃ j, k = j + 1 := ⟨k - 1, by omega⟩
    have : b = 6 := by omega
    subst this
    refine .inr ⟨C, σ, ?_, ?_, S, rfl, rfl⟩
    · unfold fX0_findMend_L37; rw [if_pos (by decide)]
    · unfold fX3_mend_L73; rw [if_pos (by decide)]
  | succ d ih =>
    intro k b C σ hid hk S
    obtain ⟨k, rfl⟩ : ∃ j, k = j + 1 := ⟨k - 1, by omega⟩
    have n40 := (S.2.1.2.1.2.2.2.1 h hh).1.2.2.2.1
    have l5 : ¬ ((5 : Int32) < nI b) := by rw [show (5 : Int32) = nI 5 from rfl, s_lt _ _ (by omega) (by omega)]; omega
    unfold fX0_findMend_L37 fX3_mend_L73
    rw [if_neg l5, if_neg l5]
    rcases mend_t hN hn hh p x4 b (fX0_findMend_L37 N bx k) (fX3_mend_L73 N k) (lvl (cls h)).length N N 0 C σ (by omega) (by omega) (by omega) S with E | ⟨C1, σ1, f1, f2, S1, n1⟩
    · exact .inl E
    · have f1' : fX0_findMend_L46 N bx (fX0_findMend_L37 N bx k) N C (some (hb h)) (nI n) p (some im) (nI b) 0 = _ := f1
      have f2' : fX3_mend_L82 N (fX3_mend_L73 N k) N σ (nI h) (nI n) p x4 (nI b) 0 = _ := f2
      rw [f1', f2']
      rcases ih k (b + 1) C1 σ1 (by omega) (by omega) S1 with ⟨C', σ', cv, tt, q1, q2, q3, q4, q5, q6⟩ | ⟨C', σ', q1, q2, q3, q4⟩
      · exact .inl ⟨C', σ', cv, tt, q1, q2, q3, q4, q5, q6.1.trans n1.1, q6.2.trans n1.2⟩
      · exact .inr ⟨C', σ', q1, q2, q3, q4.1.trans n1.1, q4.2.trans n1.2⟩
theorem op_mend {N : Nat} (hN : 300 ≤ N) (R : cR bx sh cr hb nS nC nH C σ) (H : Rt bx sh cr hb fm nS nC nH nF nT m cls C σ) (a1 a2 a3 a4 : Int32) : ∃ C' σ' r, fX0_mend N bx C a1 a2 a3 a4 = some (C', r) ∧ fX3_mend N σ a1 a2 a3 a4 = some (σ', r) ∧ cR bx sh cr hb nS nC nH C' σ' ∧ Rt bx sh cr hb fm nS nC nH nF nT m cls C' σ' ∧ xk_n C ≤ xk_n C' ∧ xk_n C' ≤ xk_n C + 5 ∧ xk_s C' ≤ xk_s C + 400 := by
  have n8 := R.n8
  have nb := R.1.1.1.2.1
  have idr : ∀ r : Int32, ∃ C' σ' r', some (C, r) = some (C', r') ∧ some (σ, r) = some (σ', r') ∧ cR bx sh cr hb nS nC nH C' σ' ∧ Rt bx sh cr hb fm nS nC nH nF nT m cls C' σ' ∧ xk_n C ≤ xk_n C' ∧ xk_n C' ≤ xk_n C + 5 ∧ xk_s C' ≤ xk_s C + 400 := fun r => ⟨C, σ, r, rfl, rfl, R, H, Nat.le_refl _, by omega, by omega⟩
  unfold fX0_mend fX3_mend
  rw [g_is R.kB, ev_b]
  simp only [in_eq]
  rcases s_rng nH (by omega) a1 with ⟨h, hh, rfl⟩ | hv
  · simp only [isHabit_in H.2.1.1 n8 hh, habitAt_in R H.2.1 hh, ev_b, reduceCtorEq, if_false, ev_10]
    rcases in_ok a4 0 1 with e | ⟨e, -, -⟩
    · simp only [e, ev_b, if_true]; exact idr _
    simp only [e, ev_b, ev_10, if_false]
    rcases in_ok a2 1 (nI 10) with e | ⟨e, g1, g2⟩
    · simp only [e, ev_b, if_true]; exact idr _
    simp only [e, ev_b, ev_10, if_false]
    rcases in_ok a3 (-9999) (nI 9999) with e | ⟨e, -, -⟩
    · simp only [e, ev_b, if_true]; exact idr _
    simp only [e, ev_b, ev_10, if_false]
    obtain ⟨n, hn, rfl⟩ := s_get (n := 11) (by omega) (Int32.le_trans (by decide) g1) (Int32.lt_of_le_of_lt g2 (by decide))
    have hbk : ∀ i, i < nH → xk_k C (hb i) = 14 ∧ hb i < xk_n C := fun i hi => ⟨(H.2.1.2.2.2.1 i hi).1.1.1, (H.2.1.2.2.2.1 i hi).1.1.2.1⟩
    obtain ⟨C1, f1, F1, n1, s1, I1⟩ := img_new (N := N) (by omega) R hbk
    have R1 := R.fresh F1
    have H1 := H.fresh R.1 F1
    have kB1 := R1.kB
    have Bx : B2 bx C1 (xk_si (xk_si C1 24 bx 0) 25 bx (-5)) := (B2.si 24 bx 0 (by decide) (by decide)).trans (B2.si 25 bx (-5) (by decide) (by decide))
    have R3 : cR bx sh cr hb nS nC nH (xk_si (xk_si C1 24 bx 0) 25 bx (-5)) σ := (R1.si3 24 bx _ (by decide)).si3 25 bx _ (by decide)
    have g22 : gs σ 22 = -1 := H.2.2.2.2.2.2.2
    have H3 : Rt bx sh cr hb fm nS nC nH nF nT m cls (xk_si (xk_si C1 24 bx 0) 25 bx (-5)) σ := H1.b2 R1.1 Bx (fun a _ => by rw [i_si, if_neg (by omega), i_si, if_neg (by omega)]) (Mf.refl (ks := []) (as := [])) g22 (by decide) (by decide)
    have I3 := I1.b2 R1.1.2.2.2.1.2.1 Bx
    have im1 := I1.2.1
    have hI3 := I3
    obtain ⟨-, -, jS, jC, -, -, -, -, -, b91, -⟩ := id I1
    have e91 : xk_i C1 91 (xk_n C) = nI nS ∧ xk_i C1 92 (xk_n C) = nI nC := by
      obtain ⟨C9, f9, H9⟩ := img_a R
      obtain ⟨C8, f8, H8⟩ := img_s N R nS N 0 C9 (by omega) (by have := R.n20; omega) H9
      obtain ⟨C7, f7, H7⟩ := img_c N R hbk nC N 0 C8 (by omega) (by have := R.n12; omega) H8
      have f8' : fX19_init_L143 N (xk_n C) N C9 (some bx) 0 = fX19_init_L225 N (xk_n C) N C8 (some bx) 0 := f8
      have f7' : fX19_init_L225 N (xk_n C) N C8 (some bx) 0 = some (C7, ()) := f7
      rw [f9, f8', f7'] at f1
      cases f1
      exact ⟨H7.2.1.1, H7.2.1.2.1⟩
    obtain ⟨C4, σ4, r, x, t1, t2, ex, R4, B4, M4, rows, g22', o80⟩ := try_l hN (show n ≤ 10 by omega) R3 I3 (by rw [i_si, if_neg (by omega), i_si, if_neg (by omega)]; exact e91.1) (by rw [i_si, if_neg (by omega), i_si, if_neg (by omega)]; exact e91.2) (-1) 0 0 a3 (cls := cls) (fun σ1 M1 w22 w20 w21 => by
      obtain ⟨p1, p2, p3, p4, p5⟩ := id H3.2.1
      refine ⟨(M1.1 5 (by decide)).trans p1, p2, p3, fun h' hh' => ?_, p5⟩
      obtain ⟨x1, x2, x3⟩ := p4 h' hh'
      refine ⟨x1, ⟨(M1.2 18 (by decide) h').trans x2.1, x2.2.same (fun j => M1.2 17 (by decide) j)⟩, fun q hq => ?_⟩
      have old := x3 q hq
      rw [dl0 g22 (by omega)] at old
      rw [dl0 w22 (by omega)]; exact old)
    have S4 : MS bx sh cr hb fm nS nC nH nF nT m (xk_n C) cls C4 σ4 := ⟨R4, H3.b2 R3.1 B4 (fun a ha => o80 80 a (.inl rfl) ha) M4 g22' (by decide) (by decide), (I3.b2 R3.1.2.2.2.1.2.1 B4).rows rows, by rw [B4.1.i I3.2.1 (by decide), i_si, if_neg (by omega), i_si, if_neg (by omega)]; exact e91.1, by rw [B4.1.i I3.2.1 (by decide), i_si, if_neg (by omega), i_si, if_neg (by omega)]; exact e91.2⟩
    have n4 : xk_n C4 = xk_n C + 5 := by rw [B4.2.1.1]; exact n1
    have s4 : xk_s C4 ≤ xk_s C + 400 := by rw [B4.2.1.2]; exact s1
    have q24 : xk_i C4 24 bx = 0 ∧ xk_i C4 25 bx = -5 := by
      have nb3 : bx < xk_n (xk_si (xk_si C1 24 bx 0) 25 bx (-5)) := by show bx < xk_n C1; omega
      rw [o80 24 bx (.inr (.inl rfl)) nb3, o80 25 bx (.inr (.inr rfl)) nb3, i_si, if_neg (by omega), i_si, if_pos ⟨rfl, rfl⟩, i_si, if_pos ⟨rfl, rfl⟩]
      exact ⟨rfl, rfl⟩
    have xf : fX0_findMend N bx C (some (hb h)) (nI n) a3 = if x = 0 then fX0_findMend_L37 N bx N C4 (some (hb h)) (nI n) a3 (some (xk_n C)) 1 else some (C4, 1) := by
      unfold fX0_findMend
      rw [show xk_nw C 19 = some (xk_mk C 20 0 10) from rfl, ev_b, f1, ev_b, p_i kB1 rfl, ev_b, p_i (C := xk_si C1 24 bx 0) kB1 rfl, ev_b, g_is (C := xk_si (xk_si C1 24 bx 0) 25 bx (-5)) kB1, ev_b, t1, ev_b]
    rw [xf, t2, ev_b]
    by_cases c : r < a3
    · have x0 : x = 0 := by rw [ex, if_pos c]
      rw [if_pos x0, if_pos c]
      rcases mend_b hN (show n ≤ 10 by omega) hh a3 a4 5 N 1 C4 σ4 (by omega) (by omega) S4 with ⟨C', σ', cv, tt, q1, q2, q3, q4, q5, q6⟩ | ⟨C', σ', q1, q2, q3, q4⟩
      · have q1' : fX0_findMend_L37 N bx N C4 (some (hb h)) (nI n) a3 (some (xk_n C)) 1 = some (C', 1) := q1
        have q2' : fX3_mend_L73 N N σ4 (nI h) (nI n) a3 a4 1 = some (σ', if a4 = 0 then cv else tt) := q2
        rw [q1', ev_b, q2', if_neg (show ¬ ((1 : Int32) = 0) by decide), g_i q5.1.kB rfl, g_i q5.1.kB rfl, q3, q4]
        refine ⟨C', σ', if a4 = 0 then cv else tt, ?_, rfl, q5.1, q5.2.1, by omega, by omega, by omega⟩
        split <;> rfl
      · have q1' : fX0_findMend_L37 N bx N C4 (some (hb h)) (nI n) a3 (some (xk_n C)) 1 = some (C', 0) := q1
        have q2' : fX3_mend_L73 N N σ4 (nI h) (nI n) a3 a4 1 = some (σ', -100) := q2
        rw [q1', ev_b, q2', if_pos rfl]
        exact ⟨C', σ', -100, rfl, rfl, q3.1, q3.2.1, by omega, by omega, by omega⟩
    · have x0 : ¬ x = 0 := by rw [ex, if_neg c]; decide
      rw [if_neg x0, ev_b, if_neg (show ¬ ((1 : Int32) = 0) by decide), if_neg c, g_i R4.kB rfl, g_i R4.kB rfl, q24.1, q24.2]
      refine ⟨C4, σ4, if a4 = 0 then 0 else -5, ?_, ?_, R4, S4.2.1, by omega, by omega, by omega⟩
      · split <;> rfl
      · split <;> rfl
  · simp only [isHabit_out H.2.1.1 n8 hv, habitAt_out R H.2.1 hv, ev_b, if_true]
    exact idr _
end
end
