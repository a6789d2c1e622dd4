set_option maxRecDepth 16384
section
/-! STAGE 2: the reader: words -/
theorem wd_c : ∀ w, w < 4 → ∀ j, j < gw_len.getD w 0 → gs_at w j = nI (gs_at w j).toNatClampNeg ∧ (gs_at w j).toNatClampNeg < 128 := by decide +kernel
theorem wd_e : ∀ w, w < 4 → gs_at w (gw_len.getD w 0 - 1) = nI 32 ∧ 5 ≤ gw_len.getD w 0 ∧ gw_len.getD w 0 ≤ 6 := by decide +kernel
section
variable {bx : Nat} {C0 C : xk_C} {σ0 σ : gm_S} {h L ha T W F nK op at_ : Nat} {gT : Nat → Nat} {cd : List Int32} {lv : List (Nat × Nat)}
theorem dead_spells (w : Nat) : ∀ n j k (σ : gm_S), gs σ 14 = 1 → j + n = gw_len.getD w 0 → n < k → ∃ σ', fX3_spells_L2 w k σ j = some σ' ∧ Mf [15] [] σ σ' := by
  intro n
  induction n with
  | zero =>
    intro j k σ g hj hk
    obtain ⟨k, rfl⟩ : ∃ q, k = q + 1 := ⟨k - 1, by omega⟩
    rw [fX3_spells_L2, if_neg (by omega)]
    exact ⟨σ, rfl, Mf.refl⟩
  | succ n ih =>
    intro j k σ g hj hk
    obtain ⟨k, rfl⟩ : ∃ q, k = q + 1 := ⟨k - 1, by omega⟩
    obtain ⟨σ1, f, M⟩ := dead_must g (gs_at w j)
    rw [fX3_spells_L2, if_pos (by omega), f, ev_b]
    obtain ⟨σ2, f2, M2⟩ := ih (j + 1) k σ1 ((M.1 14 (by decide)).trans g) (by omega) (by omega)
    exact ⟨σ2, f2, M.trans M2⟩
theorem spell_l {N : Nat} (Z : RZ bx C0 σ0 h L) {w : Nat} (hw : w < 4) : ∀ n j kx km at_ (C : xk_C) (σ : gm_S), j + n + 1 = gw_len.getD w 0 → n < kx → n + 2 < km → RS bx C0 σ0 h L ha T W F nK gT op at_ cd lv C σ →
    (∃ C' σ', fX2_word_L56 N (bx + 8) kx C (nI w) (some (bx + 10 + w)) (nI (gw_len.getD w 0 - 1)) (nI j) = some (C', .inr (nI w)) ∧ fX3_spells_L2 w km σ j = some σ' ∧ RS bx C0 σ0 h L ha T W F nK gT op (at_ + n + 1) cd lv C' σ' ∧ Fr [33] [] (fun _ _ => false) C C' ∧ xk_n C' = xk_n C ∧ xk_s C' = xk_s C) ∨ OB C0 σ0 h L at_ C (fX2_word_L56 N (bx + 8) kx C (nI w) (some (bx + 10 + w)) (nI (gw_len.getD w 0 - 1)) (nI j)) (fX3_spells_L2 w km σ j) := by
  obtain ⟨we1, we2, we3⟩ := wd_e w hw
  intro n
  induction n with
  | zero =>
    intro j kx km at_ C σ hj hkx hkm R
    obtain ⟨kx, rfl⟩ : ∃ q, kx = q + 1 := ⟨kx - 1, by omega⟩
    obtain ⟨km, rfl⟩ : ∃ q, km = q + 2 := ⟨km - 2, by omega⟩
    have ej : j = gw_len.getD w 0 - 1 := by omega
    have hm : fX3_spells_L2 w (km + 2) σ j = (fX3_must σ (nI 32)).bind fun r => some r := by
      rw [fX3_spells_L2, if_pos (by omega), ej, we1]
      congr 1
      funext r
      rw [fX3_spells_L2, if_neg (by omega)]
    have o : ∀ r : Option gm_S, (r.bind fun r17 => some r17) = r := fun r => by cases r <;> rfl
    rw [hm, o, fX2_word_L56, if_pos ((s_le _ _ (by omega) (by omega)).mpr (by omega)), g_is (R.kr Z), ev_b]
    rcases sign_l (c := 32) Z R (by omega) with ⟨ht, j1, j2, R5⟩ | ⟨C5, σ5, e5, at5, j1, j2, W5, l5, l6, l7⟩
    · rw [j1, ev_b, j2]
      exact .inl ⟨_, _, rfl, rfl, R5, Fr.refl.si _ _ _ (.inl (by decide)), rfl, rfl⟩
    · rw [j1, ev_b, j2]
      exact .inr ⟨C5, σ5, e5, at5, rfl, rfl, W5, l5, l6, l7⟩
  | succ n ih =>
    intro j kx km at_ C σ hj hkx hkm R
    obtain ⟨kx, rfl⟩ : ∃ q, kx = q + 1 := ⟨kx - 1, by omega⟩
    obtain ⟨km, rfl⟩ : ∃ q, km = q + 1 := ⟨km - 1, by omega⟩
    have nb := Z.1.2.1
    have pr := Z.2.1
    have kw : xk_k C (bx + 10 + w) = 32 := (R.1.1.k (by omega)).trans (pr.2.2.2.2.2.1 w hw)
    have lw : xk_l C (bx + 10 + w) = gw_len.getD w 0 - 1 := (R.1.1.l (by omega)).trans (pr.2.2.2.2.2.2.1 w hw)
    have ew : xk_e C (bx + 10 + w) j = gs_at w j := (R.1.1.e (by omega) rfl j).trans (pr.2.2.2.2.2.2.2 w hw j (by omega))
    obtain ⟨c1, c2⟩ := wd_c w hw j (by omega)
    rw [fX2_word_L56, if_neg (fun z => by have := (s_le _ _ (by omega) (by omega)).mp z; omega), g_ld (t := 2) kw (by omega) (by omega), ew, ev_b, g_is (R.kr Z), ev_b, fX3_spells_L2, if_pos (by omega), c1]
    rcases sign_l Z R c2 with ⟨ht, j1, j2, R5⟩ | ⟨C5, σ5, e5, at5, j1, j2, W5, l5, l6, l7⟩
    · rw [j1, ev_b, j2, ev_b]
      have IH := ih (j + 1) kx km (at_ + 1) _ _ (by omega) (by omega) (by omega) R5
      rw [show xk_th (xk_si C 33 (bx + 8) (nI (at_ + 1)), (Sum.inr () : Nat ⊕ Unit)) (fun σ13 v14 => fX2_word_L56 N (bx + 8) kx σ13 (nI w) (some (bx + 10 + w)) (nI (gw_len.getD w 0 - 1)) (nI j + 1)) = fX2_word_L56 N (bx + 8) kx (xk_si C 33 (bx + 8) (nI (at_ + 1))) (nI w) (some (bx + 10 + w)) (nI (gw_len.getD w 0 - 1)) (nI (j + 1)) by rw [← s_a1 j]; rfl]
      rcases IH with ⟨C', σ', f1, f2, f3, f4, f5, f6⟩ | ⟨C', σ', e', at', f1, f2, f3, f4, f5, f6⟩
      · refine .inl ⟨C', σ', f1, f2, ?_, (Fr.refl.si _ _ _ (.inl (by decide))).trans f4, f5, f6⟩
        rw [show at_ + (n + 1) + 1 = at_ + 1 + n + 1 by omega]; exact f3
      · have n1 : xk_n (xk_si C 33 (bx + 8) (nI (at_ + 1))) = xk_n C := rfl
        have s1 : xk_s (xk_si C 33 (bx + 8) (nI (at_ + 1))) = xk_s C := rfl
        exact .inr ⟨C', σ', e', at', f1, f2, f3, by omega, by omega, by omega⟩
    · rw [j1, ev_b, j2, ev_b]
      obtain ⟨σ6, f, M6⟩ := dead_spells w (n + 1) (j + 1) km σ5 W5.2.2.2.1 (by omega) (by omega)
      rw [f]
      exact .inr ⟨C5, σ6, e5, at5, rfl, rfl, W5.dead M6, l5, l6, l7⟩
/-- the class's search for a word -/
theorem word_s {N : Nat} (Z : RZ bx C0 σ0 h L) (R : RS bx C0 σ0 h L ha T W F nK gT op at_ cd lv C σ) {x : Int32} (f1 : fX2_next (bx + 8) C = some x) {w k : Nat} (hw : w < 4) : fX2_word_L2 N (bx + 8) (k + 1) C (nI w) = if gs_at w 0 = x then fX2_word_B27 N (bx + 8) C (nI w) else fX2_word_L2 N (bx + 8) k C (nI w + -1) := by
  have nb := Z.1.2.1
  have pr := Z.2.1
  obtain ⟨we1, we2, we3⟩ := wd_e w hw
  have kr := R.kr Z
  have r32 : xk_r C 32 (bx + 8) = some (bx + 9) := (R.1.1.r (by omega) (by decide)).trans pr.2.1
  have k9 : xk_k C (bx + 9) = 39 := (R.1.1.k (by omega)).trans pr.2.2.1
  have l9 : xk_l C (bx + 9) = 4 := (R.1.1.l (by omega)).trans pr.2.2.2.1
  have q9 : xk_q C (bx + 9) w = some (bx + 10 + w) := (R.1.1.q (by omega) rfl w).trans (pr.2.2.2.2.1 w hw)
  have kw : xk_k C (bx + 10 + w) = 32 := (R.1.1.k (by omega)).trans (pr.2.2.2.2.2.1 w hw)
  have lw : xk_l C (bx + 10 + w) = gw_len.getD w 0 - 1 := (R.1.1.l (by omega)).trans (pr.2.2.2.2.2.2.1 w hw)
  have ew : xk_e C (bx + 10 + w) 0 = gs_at w 0 := (R.1.1.e (by omega) rfl 0).trans (pr.2.2.2.2.2.2.2 w hw 0 (by omega))
  rw [fX2_word_L2, if_neg (s_nn w (by omega)), g_r kr rfl, r32, ev_b, g_lq (t := 9) k9 (by omega) (by omega), q9, ev_b, s_n0, g_ld (t := 2) kw (by omega) (by omega), ew, ev_b, g_is kr, ev_b, f1, ev_b]
theorem word_b {N : Nat} (Z : RZ bx C0 σ0 h L) (R : RS bx C0 σ0 h L ha T W F nK gT op at_ cd lv C σ) {w : Nat} (hw : w < 4) : fX2_word_B27 N (bx + 8) C (nI w) = fX2_word_L56 N (bx + 8) N C (nI w) (some (bx + 10 + w)) (nI (gw_len.getD w 0 - 1)) (nI 0) := by
  have nb := Z.1.2.1
  have pr := Z.2.1
  have kr := R.kr Z
  have r32 : xk_r C 32 (bx + 8) = some (bx + 9) := (R.1.1.r (by omega) (by decide)).trans pr.2.1
  have k9 : xk_k C (bx + 9) = 39 := (R.1.1.k (by omega)).trans pr.2.2.1
  have l9 : xk_l C (bx + 9) = 4 := (R.1.1.l (by omega)).trans pr.2.2.2.1
  have q9 : xk_q C (bx + 9) w = some (bx + 10 + w) := (R.1.1.q (by omega) rfl w).trans (pr.2.2.2.2.1 w hw)
  have kw : xk_k C (bx + 10 + w) = 32 := (R.1.1.k (by omega)).trans (pr.2.2.2.2.2.1 w hw)
  have lw : xk_l C (bx + 10 + w) = gw_len.getD w 0 - 1 := (R.1.1.l (by omega)).trans (pr.2.2.2.2.2.2.1 w hw)
  unfold fX2_word_B27
  rw [if_pos (s_ge0 w (by omega)), g_r kr rfl, r32, ev_b, g_lq (t := 9) k9 (by omega) (by omega), q9, ev_b, g_al (t := 2) kw, lw, ev_b]
  rfl
theorem word_l {N : Nat} (hN : 20 ≤ N) (Z : RZ bx C0 σ0 h L) (R : RS bx C0 σ0 h L ha T W F nK gT op at_ cd lv C σ) :
    (∃ C' σ' w at', w < 4 ∧ fX2_word N (bx + 8) C = some (C', .inr (nI w)) ∧ fX3_word N σ = some (σ', nI w) ∧ RS bx C0 σ0 h L ha T W F nK gT op at' cd lv C' σ' ∧ at_ + 5 ≤ at' ∧ Fr [33] [] (fun _ _ => false) C C' ∧ xk_n C' = xk_n C ∧ xk_s C' = xk_s C) ∨
    (∃ σ' v, fX3_word N σ = some (σ', v) ∧ OB C0 σ0 h L at_ C (fX2_word N (bx + 8) C) (some σ')) := by
  obtain ⟨N, rfl⟩ : ∃ j, N = j + 5 := ⟨N - 5, by omega⟩
  obtain ⟨x, y, f1, f2, q, hl, -, -⟩ := R.next Z
  have e3 : fX2_word (N + 5) (bx + 8) C = if gs_at 3 0 = x then fX2_word_B27 (N + 5) (bx + 8) C (nI 3) else if gs_at 2 0 = x then fX2_word_B27 (N + 5) (bx + 8) C (nI 2) else if gs_at 1 0 = x then fX2_word_B27 (N + 5) (bx + 8) C (nI 1) else if gs_at 0 0 = x then fX2_word_B27 (N + 5) (bx + 8) C (nI 0) else fX2_word_B27 (N + 5) (bx + 8) C (-1) := by
    have m3 : nI 3 + -1 = nI 2 := by decide
    have m2 : nI 2 + -1 = nI 1 := by decide
    have m1 : nI 1 + -1 = nI 0 := by decide
    have m0 : nI 0 + -1 = -1 := by decide
    have last : fX2_word_L2 (N + 5) (bx + 8) (N + 1) C (-1) = fX2_word_B27 (N + 5) (bx + 8) C (-1) := by rw [fX2_word_L2, if_pos (by decide)]
    unfold fX2_word
    rw [show (3 : Int32) = nI 3 from rfl, word_s Z R f1 (show 3 < 4 by omega), m3, word_s Z R f1 (show 2 < 4 by omega), m2, word_s Z R f1 (show 1 < 4 by omega), m1, word_s Z R f1 (show 0 < 4 by omega), m0, last]
  have g3 : gs_at 3 0 = nI 119 := by decide
  have g2 : gs_at 2 0 = nI 103 := by decide
  have g1 : gs_at 1 0 = nI 107 := by decide
  have g0 : gs_at 0 0 = nI 116 := by decide
  rw [e3, g3, g2, g1, g0]
  have run : ∀ w, w < 4 → fX3_word (N + 5) σ = (fX3_spells (N + 5) σ w).bind (fun r => some (r, nI w)) →
      (∃ C' σ' w' at', w' < 4 ∧ fX2_word_B27 (N + 5) (bx + 8) C (nI w) = some (C', .inr (nI w')) ∧ fX3_word (N + 5) σ = some (σ', nI w') ∧ RS bx C0 σ0 h L ha T W F nK gT op at' cd lv C' σ' ∧ at_ + 5 ≤ at' ∧ Fr [33] [] (fun _ _ => false) C C' ∧ xk_n C' = xk_n C ∧ xk_s C' = xk_s C) ∨
      (∃ σ' v, fX3_word (N + 5) σ = some (σ', v) ∧ OB C0 σ0 h L at_ C (fX2_word_B27 (N + 5) (bx + 8) C (nI w)) (some σ')) := by
    intro w hw em
    obtain ⟨we1, we2, we3⟩ := wd_e w hw
    rw [word_b Z R hw, em]
    unfold fX3_spells
    rcases spell_l (N := N + 5) Z hw (gw_len.getD w 0 - 1) 0 (N + 5) (N + 5) at_ C σ (by omega) (by omega) (by omega) R with ⟨C', σ', j1, j2, j3, j4, j5, j6⟩ | ⟨C', σ', e', at', j1, j2, j3, j4, j5, j6⟩
    · rw [j2]
      exact .inl ⟨C', σ', w, _, hw, j1, rfl, j3, by omega, j4, j5, j6⟩
    · rw [j2]
      exact .inr ⟨σ', _, rfl, C', σ', e', at', j1, rfl, j3, j4, j5, j6⟩
  have hm : fX3_word (N + 5) σ = if y = nI 103 then (fX3_spells (N + 5) σ 2).bind fun r3 => some (r3, nI 2) else if y = nI 107 then (fX3_spells (N + 5) σ 1).bind fun r4 => some (r4, nI 1) else if y = nI 116 then (fX3_spells (N + 5) σ 0).bind fun r5 => some (r5, nI 0) else if y = nI 119 then (fX3_spells (N + 5) σ 3).bind fun r6 => some (r6, nI 3) else some (gm_set σ 14 1, -1) := by
    unfold fX3_word
    rw [f2, ev_b]
    rfl
  by_cases c3 : nI 119 = x
  · have ey := (q.is (show 119 < 128 by omega)).mp c3.symm
    rw [if_pos c3]
    exact run 3 (by omega) (by rw [hm, ey, if_neg (by decide), if_neg (by decide), if_neg (by decide), if_pos rfl])
  · rw [if_neg c3]
    by_cases c2 : nI 103 = x
    · have ey := (q.is (show 103 < 128 by omega)).mp c2.symm
      rw [if_pos c2]
      exact run 2 (by omega) (by rw [hm, ey, if_pos rfl])
    · rw [if_neg c2]
      by_cases c1 : nI 107 = x
      · have ey := (q.is (show 107 < 128 by omega)).mp c1.symm
        rw [if_pos c1]
        exact run 1 (by omega) (by rw [hm, ey, if_neg (by decide), if_pos rfl])
      · rw [if_neg c1]
        by_cases c0 : nI 116 = x
        · have ey := (q.is (show 116 < 128 by omega)).mp c0.symm
          rw [if_pos c0]
          exact run 0 (by omega) (by rw [hm, ey, if_neg (by decide), if_neg (by decide), if_pos rfl])
        · rw [if_neg c0]
          right
          rw [hm, if_neg (fun z => c2 ((q.is (by omega)).mpr z).symm), if_neg (fun z => c1 ((q.is (by omega)).mpr z).symm), if_neg (fun z => c0 ((q.is (by omega)).mpr z).symm), if_neg (fun z => c3 ((q.is (by omega)).mpr z).symm)]
          refine ⟨_, _, rfl, ?_⟩
          unfold fX2_word_B27
          rw [if_neg (by decide)]
          exact R.bad Z Mf.refl
end
end
section
/-! STAGE 2: the reader: clauses -/
def RC (bx : Nat) (C0 : xk_C) (σ0 : gm_S) (h L ha T W F at_ : Nat) (cl : List (Nat × Nat × List Int32 × List (Nat × Nat))) (C : xk_C) (σ : gm_S) : Prop :=
  RS bx C0 σ0 h L ha T W F cl.length (fun k => (cl.getD k (0, 0, [], [])).2.1) 6 at_ (cdl cl) (lvl cl) C σ ∧
  (xk_k C W = 30 ∧ W < xk_n C ∧ xk_l C W = 8 ∧ ∀ k, k < cl.length → xk_e C W k = nI (cl.getD k (0, 0, [], [])).1) ∧
  (cl.length ≤ 8 ∧ ∀ c, c ∈ cl → c.1 < 4 ∧ tr2 C 125 c.2.1 c.2.2.1 c.2.2.2)
def mcl (N : Nat) (σ : gm_S) : Option gm_S := (fX3_word N σ).bind fun r9 => (fX3_some (fX3_factor N 10) N r9.1).bind fun r10 => fX3_emits r10 (-10 - r9.2)
section
variable {bx : Nat} {C0 C : xk_C} {σ0 σ : gm_S} {h L ha T W F nK op at_ : Nat} {gT : Nat → Nat} {cd : List Int32} {lv : List (Nat × Nat)} {cl : List (Nat × Nat × List Int32 × List (Nat × Nat))}
theorem RS.cgT {nK' : Nat} {gT' : Nat → Nat} (R : RS bx C0 σ0 h L ha T W F nK gT op at_ cd lv C σ) (e : nK' = nK) (hg : ∀ i, i < nK → gT' i = gT i) : RS bx C0 σ0 h L ha T W F nK' gT' op at_ cd lv C σ := by
  subst e
  obtain ⟨a, b, c, d, ⟨c1, c2⟩, e, f, g⟩ := R
  exact ⟨a, b, c, d, ⟨c1.cg hg, c2⟩, e, f, g⟩
theorem RS.any0 (R : RS bx C0 σ0 h L ha T W F nK gT 0 at_ cd lv C σ) : RS bx C0 σ0 h L ha T W F nK gT 6 at_ cd lv C σ := by
  obtain ⟨a, ⟨b1, b2, b3⟩, c, d, e, f, g, h1, h2, h3, h4⟩ := R
  exact ⟨a, ⟨b1, b2, fun z => by omega⟩, c, d, e, f, g, h1, h2, h3, by omega⟩
/-- a clause joins the habit's clauses -/
theorem RS.addT (Z : RZ bx C0 σ0 h L) (R : RS bx C0 σ0 h L ha T W F nK gT op at_ cd lv C σ) (hK : nK ≤ 600) {a : Nat} (hfn : a < xk_n C) (kf : xk_k C a = 16 ∨ xk_k C a = 17 ∨ xk_k C a = 18) : ∃ C', fJ2_add T C (some a) = some (C', 1) ∧ RS bx C0 σ0 h L ha T W F (nK + 1) (fun i => if i = nK then a else gT i) op at_ cd lv C' σ ∧ Fr [101, 103] [102] lsE C C' ∧ xk_n C' ≤ xk_n C + 1 ∧ xk_s C' ≤ xk_s C + 1501 := by
  have nb := R.nb Z
  obtain ⟨⟨F0, M, m1, m2⟩, ⟨r35, i33, i34⟩, ⟨a1, a2, a3, a4, a5, a6, a7⟩, ⟨b1, b2, b3, b4, b5, b6, b7⟩, ⟨c1, c2⟩, d, g, e1, e2, e3, e4⟩ := R
  have hU : U1 C := F0.u Z.1.2.2.1
  obtain ⟨C', g1, p, ⟨Q, n1, s1, -, keep⟩, SFi, SFr, SFe, SFq, SF5⟩ := L_add2 c1 hU hK (b := a) ⟨hfn, by rcases kf with k | k | k <;> rw [k] <;> rfl⟩
  refine ⟨C', g1, ⟨⟨?_, M, m1, m2⟩, ⟨(Q.r (by omega) (by decide)).trans r35, (Q.i (by omega) (by decide)).trans i33, fun ho => (Q.i (by omega) (by decide)).trans (i34 ho)⟩, ⟨(Q.k a2).trans a1, Q.lt a2, (Q.r a2 (by decide)).trans a3, (Q.r a2 (by decide)).trans a4, (Q.r a2 (by decide)).trans a5, (Q.i a2 (by decide)).trans a6, (Q.r a2 (by decide)).trans a7⟩, ⟨b1, b2, b3, b4, b5, fun z hz => by rw [Q.d]; exact b6 z ((SFr 102 F c2.2.1 (Ne.symm b5)).symm.trans hz), fun z hz => ?_⟩, ⟨p, keep _ _ _ (Ne.symm b5) c2⟩, ⟨fun x hx => ?_, d.2⟩, g, e1, e2, e3, e4⟩, Q, n1, s1⟩
  · refine ⟨⟨Nat.le_trans F0.n Q.n, Nat.le_trans F0.s Q.s⟩, ?_, fun u => Q.u (F0.u u), fun a ha0 => ?_⟩
    · obtain ⟨z1, z2, z3, z4⟩ := F0.2.1
      obtain ⟨y1, y2, y3, y4⟩ := Q.2.1
      exact ⟨y1.trans z1, y2.trans z2, y3.trans z3, y4.trans z4⟩
    · have han : a < xk_n C := F0.lt ha0
      have haF : a ≠ T := by omega
      obtain ⟨k0, l0, i0, r0, q0⟩ := F0.2.2.2 a ha0
      refine ⟨(Q.k han).trans k0, (Q.l han).trans l0, fun f' hf' => (SFi f' a han haF).trans (i0 f' hf'), fun f' hf' => (SFr f' a han haF).trans (r0 f' hf'), fun _ => ⟨fun j => (SFe a j han).trans ((q0 rfl).1 j), fun j => (SFq a j han (fun z => ?_)).trans ((q0 rfl).2 j)⟩⟩
      rcases b7 a z with w | w
      · exact w
      · omega
  · rw [Q.d]
    rcases SF5 z hz with w | w
    · exact b7 z w
    · exact .inr (Nat.le_trans F0.n w)
  · obtain ⟨d1, d2, d3, d4⟩ := d.1 x hx
    exact ⟨(Q.k d2).trans d1, Q.lt d2, d3, (Q.i d2 (by decide)).trans d4⟩
theorem clause_p {N : Nat} (hN : 200 ≤ N) (Z : RZ bx C0 σ0 h L) (H : RC bx C0 σ0 h L ha T W F at_ cl C σ) (h8 : cl.length < 8) :
    (∃ C' σ' c at', fX2_clause N (bx + 8) C = some (C', .inr ()) ∧ mcl N σ = some σ' ∧ RC bx C0 σ0 h L ha T W F at' (cl ++ [c]) C' σ' ∧ at_ < at' ∧ xk_n C' + 2 * at_ ≤ xk_n C + 2 * at' ∧ xk_s C' + 600 * at_ ≤ xk_s C + 600 * at') ∨ OB C0 σ0 h L at_ C (fX2_clause N (bx + 8) C) (mcl N σ) := by
  obtain ⟨R, ⟨kW, nW, lW, eW⟩, -, trs⟩ := H
  have hL := Z.2.2.2.1
  have hcd := R.2.2.2.2.2.2.2.2.1
  unfold fX2_clause mcl
  rw [g_is (R.kr Z), ev_b]
  have hd : ∀ σ, gs σ 14 = 1 → fX3_factor N 10 σ = some σ := fun σ g => dead_factor N 9 g
  rcases word_l (N := N) (by omega) Z R with ⟨C1, σ1, w, at1, hw, f1, f2, R1, l1, Q1, n1, s1⟩ | ⟨σ1, v, f2, C1, σ1', e1, at1, f1, f3, W1, l1, l2, l3⟩
  · rw [f1, ev_b, f2, ev_b]
    show (∃ C' σ' c at', ((xk_pi C1 34 (some (bx + 8)) 0).bind fun σ6 => (xk_gr σ6 35 (some (bx + 8))).bind fun v7 => (xk_gr σ6 67 v7).bind fun v8 => (xk_gr σ6 35 (some (bx + 8))).bind fun v9 => (xk_gr σ6 66 v9).bind fun v10 => (xk_is σ6 21 v10).bind fun b12 => (fJ2_size b12 σ6).bind fun r11 => (xk_st σ6 0 v8 r11 (nI w)).bind fun σ13 => (xk_gr σ13 35 (some (bx + 8))).bind fun v14 => (xk_gr σ13 66 v14).bind fun v15 => (xk_is σ13 3 (some (bx + 8))).bind fun b17 => (fX2_some (fX2_fact N 10) N b17 σ13).bind fun r18 => xk_th r18 fun σ19 v20 => (xk_is σ19 21 v15).bind fun b22 => (fJ2_add b22 σ19 v20).bind fun r21 => some (r21.1, Sum.inr ())) = some (C', .inr ()) ∧ ((fX3_some (fX3_factor N 10) N σ1).bind fun r10 => fX3_emits r10 (-10 - nI w)) = some σ' ∧ _) ∨ OB C0 σ0 h L at_ C ((xk_pi C1 34 (some (bx + 8)) 0).bind fun σ6 => (xk_gr σ6 35 (some (bx + 8))).bind fun v7 => (xk_gr σ6 67 v7).bind fun v8 => (xk_gr σ6 35 (some (bx + 8))).bind fun v9 => (xk_gr σ6 66 v9).bind fun v10 => (xk_is σ6 21 v10).bind fun b12 => (fJ2_size b12 σ6).bind fun r11 => (xk_st σ6 0 v8 r11 (nI w)).bind fun σ13 => (xk_gr σ13 35 (some (bx + 8))).bind fun v14 => (xk_gr σ13 66 v14).bind fun v15 => (xk_is σ13 3 (some (bx + 8))).bind fun b17 => (fX2_some (fX2_fact N 10) N b17 σ13).bind fun r18 => xk_th r18 fun σ19 v20 => (xk_is σ19 21 v15).bind fun b22 => (fJ2_add b22 σ19 v20).bind fun r21 => some (r21.1, Sum.inr ())) ((fX3_some (fX3_factor N 10) N σ1).bind fun r10 => fX3_emits r10 (-10 - nI w))
    have kr1 := R1.kr Z
    have R2 := R1.opn (op' := 0) (by omega)
    rw [gm_id σ1 15 (nI 0) R1.2.2.2.2.2.2.1.2.2.2.1] at R2
    have FB2 : Fr [33, 34, 101, 103] [102] (fun k _ => k == 34 || k == 30) C (xk_si C1 34 (bx + 8) (nI 0)) := (Q1.mono (by decide) (by decide) (fun _ _ _ => rfl)).si _ _ _ (.inl (by decide))
    have n2 : xk_n (xk_si C1 34 (bx + 8) (nI 0)) = xk_n C := n1
    have s2 : xk_s (xk_si C1 34 (bx + 8) (nI 0)) = xk_s C := s1
    have eW2 : ∀ j, xk_e (xk_si C1 34 (bx + 8) (nI 0)) W j = xk_e C W j := fun j => Q1.e nW rfl j
    have kW2 : xk_k (xk_si C1 34 (bx + 8) (nI 0)) W = 30 := (Q1.k nW).trans kW
    have lW2 : xk_l (xk_si C1 34 (bx + 8) (nI 0)) W = 8 := (Q1.l nW).trans lW
    rw [p_i kr1 rfl, ev_b, show xk_si C1 34 (bx + 8) (0 : Int32) = xk_si C1 34 (bx + 8) (nI 0) from rfl]
    generalize xk_si C1 34 (bx + 8) (nI 0) = C2 at *
    have kr2 := R2.kr Z
    have r67 : xk_gr C2 67 (some ha) = some (some W) := by rw [g_r R2.2.2.1.1 rfl, R2.2.2.1.2.2.2.1]
    have r66 : xk_gr C2 66 (some ha) = some (some T) := by rw [g_r R2.2.2.1.1 rfl, R2.2.2.1.2.2.1]
    rw [g_r kr2 rfl, R2.2.1.1, ev_b, r67, ev_b, ev_b, r66, ev_b, g_is R2.2.2.2.2.1.1.1, ev_b, R2.2.2.2.2.1.1.size, ev_b, p_st kW2 (by omega) (by omega), ev_b]
    have Q3 : Fr [] [] (fun k _ => k == 30) C2 (xk_se C2 W cl.length (nI w)) := Fr.refl.se _ _ _ (.inl (by rw [kW2]; rfl))
    have R3 := R2.fr (by have := R2.nb Z; omega) Q3 (R2.1.1.se _ _ _ (.inr R2.2.2.2.1.2.2.1)) (by simp) (by simp) (fun _ _ => rfl)
    have FB3 : Fr [33, 34, 101, 103] [102] (fun k _ => k == 34 || k == 30) C (xk_se C2 W cl.length (nI w)) := FB2.se _ _ _ (.inl (by rw [kW]; rfl))
    have n3 : xk_n (xk_se C2 W cl.length (nI w)) = xk_n C2 := rfl
    have s3 : xk_s (xk_se C2 W cl.length (nI w)) = xk_s C2 := rfl
    have eW3 : ∀ j, xk_e (xk_se C2 W cl.length (nI w)) W j = if j = cl.length then nI w else xk_e C W j := fun j => by
      rw [e_se]
      by_cases q : j = cl.length
      · rw [if_pos ⟨rfl, q⟩, if_pos q]
      · rw [if_neg (fun z => q z.2), if_neg q, eW2]
    have kW3 : xk_k (xk_se C2 W cl.length (nI w)) W = 30 := kW2
    have lW3 : xk_l (xk_se C2 W cl.length (nI w)) W = 8 := lW2
    generalize xk_se C2 W cl.length (nI w) = C3 at *
    have kr3 := R3.kr Z
    have r66' : xk_gr C3 66 (some ha) = some (some T) := by rw [g_r R3.2.2.1.1 rfl, R3.2.2.1.2.2.1]
    rw [g_r kr3 rfl, R3.2.1.1, ev_b, r66', ev_b, g_is kr3, ev_b]
    rcases some_p (N := N) hN Z (fX2_fact N 10) (fX3_factor N 10) (fun at_ cd lv C σ R => fact_l hN Z 10 0 at_ cd lv C σ (by omega) (by omega) R) _ _ _ _ _ R3 with ⟨C4, σ4, a, cdn, lsn, at2, f3, f4, R4, ⟨l2, l3⟩, tra, FB4, l4, l5⟩ | ⟨C4, σ4, e4, at4, f3, f4, W4, l2, l3, l4⟩
    · rw [f3, ev_b, f4, ev_b]
      left
      show ∃ C' σ' c at', ((xk_is C4 21 (some T)).bind fun b22 => (fJ2_add b22 C4 (some a)).bind fun r21 => some (r21.1, Sum.inr ())) = some (C', (.inr () : Nat ⊕ Unit)) ∧ _
      obtain ⟨ka, na⟩ := tra.kd
      obtain ⟨C5, g1, R5, Q5, n5, s5⟩ := R4.addT Z (by omega) na ka
      obtain ⟨σ6, g2, R6⟩ := R5.emit Z (by rw [List.length_append]; omega) (-10 - nI w)
      rw [g_is R4.2.2.2.2.1.1.1, ev_b, g1, ev_b, g2]
      have nW3 : W < xk_n C3 := by omega
      have nW4 : W < xk_n C4 := FB4.lt nW3
      have FBA : Fr [33, 34, 101, 103] [102] (fun k _ => k == 34 || k == 30) C C5 := (FB3.trans (FB4.mono (fun _ z => z) (fun _ z => z) (fun k a z => by unfold lsE; simp only [Bool.or_eq_false_iff] at z; exact z.1))).trans (Q5.mono (by decide) (by decide) (fun k a z => by unfold lsE; simp only [Bool.or_eq_false_iff] at z; exact z.1))
      have hge : ∀ k, k < cl.length → (cl ++ [(w, a, cdn, lsn)]).getD k (0, 0, [], []) = cl.getD k (0, 0, [], []) := fun k hk => by simp only [List.getD_eq_getElem?_getD]; rw [List.getElem?_append_left hk]
      have hgl : (cl ++ [(w, a, cdn, lsn)]).getD cl.length (0, 0, [], []) = (w, a, cdn, lsn) := by simp [List.getD_eq_getElem?_getD]
      have elen : (cl ++ [(w, a, cdn, lsn)]).length = cl.length + 1 := by rw [List.length_append, List.length_singleton]
      have ecd : cdl (cl ++ [(w, a, cdn, lsn)]) = cdl cl ++ cdn ++ [-10 - nI w] := by rw [cdl_app]; show _ ++ ((cdn ++ [-10 - nI w]) ++ []) = _; simp [List.append_assoc]
      have elv : lvl (cl ++ [(w, a, cdn, lsn)]) = lvl cl ++ lsn := by rw [lvl_app]; show _ ++ (lsn ++ []) = _; simp
      refine ⟨C5, σ6, (w, a, cdn, lsn), at2, rfl, rfl, ⟨?_, ⟨(Q5.k nW4).trans ((FB4.k nW3).trans kW3), Q5.lt nW4, (Q5.l nW4).trans ((FB4.l nW3).trans lW3), fun k hk => ?_⟩, by omega, fun c hc => ?_⟩, by omega, by omega, by omega⟩
      · rw [ecd, elv]
        refine (R6.any0).cgT elen (fun i hi => ?_)
        by_cases q : i = cl.length
        · subst q; rw [if_pos rfl, hgl]
        · rw [if_neg q, hge i (by omega)]
      · rw [elen] at hk
        rw [Q5.e nW4 (by rw [(FB4.k nW3).trans kW3]; rfl), FB4.e nW3 (by rw [kW3]; rfl), eW3]
        by_cases q : k = cl.length
        · subst q; rw [if_pos rfl, hgl]
        · rw [if_neg q, hge k (by omega)]; exact eW k (by omega)
      · rcases List.mem_append.mp hc with hc | hc
        · exact ⟨(trs c hc).1, tr2.fr FBA (by decide) (by decide) (by decide) (by decide) (by decide) (by decide) _ _ _ _ (trs c hc).2⟩
        · rw [List.mem_singleton.mp hc]
          refine ⟨hw, tr2.fr Q5 (by decide) (by decide) (by decide) (by decide) (by decide) (by decide) _ _ _ _ (tr2.mono _ _ _ _ _ ?_ tra)⟩
          have := R4.2.2.2.2.2.2.2.1
          omega
    · rw [f3, ev_b, f4, ev_b, dead_emits W4.2.2.2.1]
      right
      exact ⟨C4, σ4, e4, at4, rfl, rfl, W4, by omega, by omega, by omega⟩
  · cases f3
    rw [f1, ev_b, f2, ev_b]
    have g := W1.2.2.2.1
    right
    refine ⟨C1, σ1, e1, at1, rfl, ?_, W1, l1, l2, l3⟩
    show ((fX3_some (fX3_factor N 10) N σ1).bind fun r10 => fX3_emits r10 (-10 - v)) = some σ1
    rw [dead_some (by omega) _ (hd σ1 g) g, ev_b, dead_emits g]
end
end
section
/-! STAGE 2: the reader: a whole text -/
section
variable {bx : Nat} {C0 C : xk_C} {σ0 σ : gm_S} {h L ha T W F nK op at_ : Nat} {gT : Nat → Nat} {cd : List Int32} {lv : List (Nat × Nat)} {cl : List (Nat × Nat × List Int32 × List (Nat × Nat))}
/-- the reference when there is no more -/
theorem fin_m {N km : Nat} (h8 : h < 8) (g14 : gs σ 14 = 0) (g13 : gs σ 13 = nI at_) (a10 : ga σ 10 h = nI L) (hl : at_ ≤ L) (hL : L ≤ 120) (x2 : Int32) : fX3_readsIn_B95 N (fX3_readsIn_L31 N (km + 1)) σ (nI h) x2 = some (if at_ = L then σ else gm_set σ 14 1) := by
  unfold fX3_readsIn_B95 fX3_readsIn_B96 fX3_readsIn_B111
  rw [if_pos rfl, m_pt, ev_b, gm_id σ 13 (gs σ 13 + 0) (Int32.add_zero _).symm, fX3_readsIn_L31, if_pos rfl, if_pos g14, m_rd σ (k := 10) (j := h) h8 (by omega), a10, ev_b, g13]
  unfold fX3_readsIn_B139 fX3_readsIn_B144
  by_cases c : at_ = L
  · rw [if_pos (by rw [c]), if_pos c, m_pz (.inl rfl), ev_b, gm_id σ 14 0 g14]
  · rw [if_neg (fun z => c ((s_eq _ _ (by omega) (by omega)).mp z)), if_neg c, m_pz (.inr rfl), ev_b]
theorem fin_d {N km : Nat} (g14 : gs σ 14 = 1) (x1 x2 : Int32) : ∃ σ', fX3_readsIn_B67 N (fX3_readsIn_L31 N (km + 1)) σ x1 0 x2 = some σ' ∧ Mf [15] [] σ σ' := by
  unfold fX3_readsIn_B67 fX3_readsIn_B95 fX3_readsIn_B96 fX3_readsIn_B111
  rw [if_neg (by rw [g14]; decide), if_pos rfl, m_pt, ev_b, gm_id σ 13 (gs σ 13 + 0) (Int32.add_zero _).symm, fX3_readsIn_L31, if_pos rfl, if_neg (by rw [g14]; decide)]
  unfold fX3_readsIn_B139 fX3_readsIn_B144
  rw [m_pz (.inr rfl), ev_b]
  exact ⟨_, rfl, dead14 g14⟩
/-- one round of the reference -/
theorem rnd_m {N km : Nat} (σ : gm_S) (x1 x2 : Int32) : fX3_readsIn_L31 N (km + 1) σ x1 x2 1 = (mcl N σ).bind fun r12 => if gs r12 14 = 0 then fX3_readsIn_B67 N (fX3_readsIn_L31 N km) r12 x1 1 x2 else fX3_readsIn_B67 N (fX3_readsIn_L31 N km) r12 x1 0 x2 := by
  rw [fX3_readsIn_L31, if_neg (by decide)]
  unfold mcl
  cases fX3_word N σ with
  | none => rfl
  | some r =>
    rw [ev_b, ev_b]
    cases fX3_some (fX3_factor N 10) N r.1 with
    | none => rfl
    | some r' => rfl
theorem read_l {N : Nat} (hN : 200 ≤ N) (Z : RZ bx C0 σ0 h L) : ∀ n kx km at_ cl (C : xk_C) (σ : gm_S), L < at_ + n → n < kx → n + 1 < km → RC bx C0 σ0 h L ha T W F at_ cl C σ → 1 ≤ cl.length →
    (∃ C' σ' cl', fX2_read_L34 N (bx + 8) kx C = some (C', .inr (some ha)) ∧ fX3_readsIn_B67 N (fX3_readsIn_L31 N km) σ (nI h) 1 (nI (cl.length - 1)) = some σ' ∧ RC bx C0 σ0 h L ha T W F L cl' C' σ' ∧ xk_n C' + 2 * at_ ≤ xk_n C + 2 * L ∧ xk_s C' + 600 * at_ ≤ xk_s C + 600 * L) ∨ OB C0 σ0 h L at_ C (fX2_read_L34 N (bx + 8) kx C) (fX3_readsIn_B67 N (fX3_readsIn_L31 N km) σ (nI h) 1 (nI (cl.length - 1))) := by
  have hL := Z.2.2.2.1
  have h8 := Z.2.2.2.2.1
  intro n
  induction n with
  | zero => intro kx km at_ cl C σ hn _ _ H; have := H.1.2.2.2.2.2.2.2.1; omega
  | succ n ih =>
    intro kx km at_ cl C σ hn hkx hkm H h1
    obtain ⟨kx, rfl⟩ : ∃ j, kx = j + 1 := ⟨kx - 1, by omega⟩
    obtain ⟨km, rfl⟩ : ∃ j, km = j + 2 := ⟨km - 2, by omega⟩
    have R := H.1
    have c8 := H.2.2.1
    obtain ⟨x, y, f1, f2, q, hl, -, hend⟩ := R.next Z
    have kr := R.kr Z
    have g14 := R.2.2.2.2.2.2.1.2.2.1
    have g13 := R.2.2.2.2.2.2.1.2.1
    have hle := R.2.2.2.2.2.2.2.1
    have i33 := R.2.1.2.1
    have r35 := R.2.1.1
    have z1 := Z.1.2.1
    have r36 : xk_r C 36 (bx + 8) = some bx := (R.1.1.r (by omega) (by decide)).trans Z.2.1.1
    have kb : xk_k C bx = 1 := (R.1.1.k (by omega)).trans Z.1.1
    have i9 : xk_i C 9 bx = nI L := (R.1.1.i (by omega) (by decide)).trans Z.2.2.1
    have a10 : ga σ 10 h = nI L := (R.1.2.1.2 10 (by decide) h).trans Z.2.2.2.2.2.1
    have ecl : nI (cl.length - 1) + 1 = nI cl.length := by rw [s_a1]; congr 1; omega
    have hB : fX3_readsIn_B67 N (fX3_readsIn_L31 N (km + 2)) σ (nI h) 1 (nI (cl.length - 1)) = if nI 8 ≤ nI cl.length then fX3_readsIn_B95 N (fX3_readsIn_L31 N (km + 2)) σ (nI h) (nI cl.length) else if y = nI 59 then fX3_readsIn_B96 N (fX3_readsIn_L31 N (km + 2)) σ (nI h) (nI cl.length) 1 else fX3_readsIn_B95 N (fX3_readsIn_L31 N (km + 2)) σ (nI h) (nI cl.length) := by
      unfold fX3_readsIn_B67
      rw [if_pos g14, f2, ev_b, ecl]
    have hf := fin_m (N := N) (km := km + 1) h8 g14 g13 a10 hle hL (nI cl.length)
    rw [hB, hf, fX2_read_L34, g_i kr rfl, i33, ev_b, g_r kr rfl, r36, ev_b, g_i kb rfl, i9, ev_b]
    by_cases c : at_ < L
    · rw [if_neg (fun z => by have := (s_le _ _ (by omega) (by omega)).mp z; omega), g_is kr, ev_b, f1, ev_b, if_neg (show ¬ at_ = L by omega)]
      by_cases e : x = nI 59
      · have e' := (q.is (by omega)).mp e
        rw [if_pos e, if_pos e', g_r kr rfl, r35, ev_b, g_r R.2.2.1.1 rfl, R.2.2.1.2.2.1, ev_b, g_is R.2.2.2.2.1.1.1, ev_b, R.2.2.2.2.1.1.size, ev_b]
        by_cases c9 : cl.length = 8
        · rw [if_pos (by rw [c9]), if_pos (by rw [c9]; decide)]
          right
          exact R.bad Z Mf.refl
        · rw [if_neg (fun z => c9 ((s_eq _ 8 (by omega) (by omega)).mp z)), if_neg (fun z => by have := (s_le 8 _ (by omega) (by omega)).mp z; omega), ev_b, p_i kr rfl, ev_b, s_a1]
          have hB2 : fX3_readsIn_B96 N (fX3_readsIn_L31 N (km + 2)) σ (nI h) (nI cl.length) 1 = fX3_readsIn_L31 N (km + 2) (gm_set σ 13 (nI (at_ + 1))) (nI h) (nI cl.length) 1 := by
            unfold fX3_readsIn_B96 fX3_readsIn_B111
            rw [if_neg (by decide), m_pt, ev_b, g13, s_a1]
          rw [hB2, rnd_m]
          have R1 := R.stp Z c
          have Q1 : Fr [33] [] (fun _ _ => false) C (xk_si C 33 (bx + 8) (nI (at_ + 1))) := Fr.refl.si _ _ _ (.inl (by decide))
          have n1 : xk_n (xk_si C 33 (bx + 8) (nI (at_ + 1))) = xk_n C := rfl
          have s1 : xk_s (xk_si C 33 (bx + 8) (nI (at_ + 1))) = xk_s C := rfl
          have H1 : RC bx C0 σ0 h L ha T W F (at_ + 1) cl (xk_si C 33 (bx + 8) (nI (at_ + 1))) (gm_set σ 13 (nI (at_ + 1))) := ⟨R1, H.2.1, c8, fun d hd => ⟨(H.2.2.2 d hd).1, tr2.fr Q1 (by decide) (by decide) (by decide) (by decide) (by decide) (by decide) _ _ _ _ (H.2.2.2 d hd).2⟩⟩
          generalize xk_si C 33 (bx + 8) (nI (at_ + 1)) = C1 at *
          generalize gm_set σ 13 (nI (at_ + 1)) = σ1 at *
          rw [g_is (R1.kr Z), ev_b]
          rcases clause_p (N := N) hN Z H1 (by omega) with ⟨C2, σ2, d, at2, j1, j2, H2, l1, l2, l3⟩ | ⟨C2, σ2, e2, at2, j1, j2, W2, l1, l2, l3⟩
          · rw [j1, ev_b, j2, ev_b, if_pos H2.1.2.2.2.2.2.2.1.2.2.1]
            have IH := ih kx (km + 1) at2 (cl ++ [d]) C2 σ2 (by omega) (by omega) (by omega) H2 (by rw [List.length_append, List.length_singleton]; omega)
            rw [show (cl ++ [d]).length - 1 = cl.length by rw [List.length_append, List.length_singleton]; omega] at IH
            show (∃ C' σ' cl', fX2_read_L34 N (bx + 8) kx C2 = some (C', .inr (some ha)) ∧ _ ∧ _) ∨ OB C0 σ0 h L at_ C (fX2_read_L34 N (bx + 8) kx C2) _
            rcases IH with ⟨C3, σ3, cl3, k1, k2, k3, k4, k5⟩ | ⟨C3, σ3, e3, at3, k1, k2, k3, k4, k5, k6⟩
            · exact .inl ⟨C3, σ3, cl3, k1, k2, k3, by omega, by omega⟩
            · exact .inr ⟨C3, σ3, e3, at3, k1, k2, k3, by omega, by omega, by omega⟩
          · obtain ⟨σ3, j3, M3⟩ := fin_d (N := N) (km := km) W2.2.2.2.1 (nI h) (nI cl.length)
            rw [j1, ev_b, j2, ev_b, if_neg (by rw [W2.2.2.2.1]; decide), j3]
            right
            exact ⟨C2, σ3, e2, at2, rfl, rfl, W2.dead M3, by omega, by omega, by omega⟩
      · have e' : ¬ y = nI 59 := fun z => e ((q.is (by omega)).mpr z)
        rw [if_neg e, if_neg e', ite_self]
        right
        exact R.bad Z Mf.refl
    · have eat : at_ = L := by omega
      have ey : ¬ y = nI 59 := by rw [(hend c).2]; decide
      rw [if_pos ((s_le _ _ (by omega) (by omega)).mpr (by omega)), if_neg ey, ite_self, if_pos eat, g_r kr rfl, r35, ev_b]
      left
      rw [eat] at H
      exact ⟨C, σ, cl, rfl, rfl, H, by omega, by omega⟩
end
end
section
/-! STAGE 2: new lists, a new habit -/
section
variable {fi fr : List Nat} {E : Nat → Nat → Bool} {C C' : xk_C}
theorem Fr.mkL (h : Fr fi fr E C C') (l z : Nat) : Fr fi fr E C (xk_mk C' 21 l z) := by
  obtain ⟨⟨a1, a2⟩, b, u, c⟩ := h
  refine ⟨⟨Nat.le_trans a1 (Nat.le_succ _), Nat.le_trans a2 (Nat.le_add_right _ _)⟩, b, fun hu => ?_, fun x hx => ?_⟩
  · obtain ⟨u1, u2, u3, u4, u5, u6⟩ := u hu
    have hk : ∀ x, x ≠ xk_n C' → xk_k (xk_mk C' 21 l z) x = 21 → xk_k C' x = 21 := fun x hn hx => by rw [k_mk, if_neg hn] at hx; exact hx
    have hr : ∀ x e, xk_r (xk_mk C' 21 l z) 102 x = some e → x ≠ xk_n C' ∧ xk_r C' 102 x = some e := fun x e hx => by
      rw [r_mk] at hx
      by_cases q : x = xk_n C'
      · rw [if_pos q] at hx; cases hx
      · rw [if_neg q] at hx; exact ⟨q, hx⟩
    refine ⟨fun x hx => ?_, fun x e hx he => ?_, fun x y e hx hy he he' => ?_, Nat.lt_succ_of_lt u4, ?_, ?_⟩
    · by_cases q : x = xk_n C'
      · rw [q]; exact Nat.lt_succ_self _
      · exact Nat.lt_succ_of_lt (u1 x (hk x q hx))
    · obtain ⟨q, he⟩ := hr x e he
      exact Nat.lt_succ_of_lt (u2 x e (hk x q hx) he)
    · obtain ⟨q, he⟩ := hr x e he
      obtain ⟨q', he'⟩ := hr y e he'
      exact u3 x y e (hk x q hx) (hk y q' hy) he he'
    · show (if xk_d C' = xk_n C' then 21 else xk_k C' (xk_d C')) = 34
      rw [if_neg (by omega), u5]
    · show (if xk_d C' = xk_n C' then l else xk_l C' (xk_d C')) = 0
      rw [if_neg (by omega), u6]
  · obtain ⟨k', l', i, r, e⟩ := c x hx
    have hne : x ≠ xk_n C' := by omega
    refine ⟨by rw [k_mk, if_neg hne]; exact k', by rw [l_mk, if_neg hne]; exact l', fun f hf => by rw [i_mk, if_neg hne]; exact i f hf, fun f hf => by rw [r_mk, if_neg hne]; exact r f hf, fun hE => ⟨fun j => by rw [e_mk, if_neg hne]; exact (e hE).1 j, fun j => by rw [q_mk, if_neg hne]; exact (e hE).2 j⟩⟩
theorem Fr.srd (h : Fr fi fr E C C') (a : Nat) (ha : xk_n C ≤ a) : Fr fi fr E C (xk_sr C' 102 a (some (xk_d C'))) := by
  obtain ⟨a1, b, u, c⟩ := h
  refine ⟨a1, b, fun hu => ?_, fun x hx => ?_⟩
  · obtain ⟨u1, u2, u3, u4⟩ := u hu
    have hr : ∀ x e, xk_r (xk_sr C' 102 a (some (xk_d C'))) 102 x = some e → e = xk_d C' ∨ xk_r C' 102 x = some e := fun x e hx => by
      rw [r_sr] at hx
      by_cases q : x = a
      · rw [if_pos ⟨rfl, q⟩] at hx; cases hx; exact .inl rfl
      · rw [if_neg (fun z => q z.2)] at hx; exact .inr hx
    refine ⟨u1, fun x e hx he => ?_, fun x y e hx hy he he' => ?_, u4⟩
    · rcases hr x e he with rfl | he
      · exact u4.1
      · exact u2 x e hx he
    · rcases hr x e he with rfl | he
      · exact .inl rfl
      · rcases hr y e he' with rfl | he'
        · exact .inl rfl
        · exact u3 x y e hx hy he he'
  · obtain ⟨k, l, i, r, e⟩ := c x hx
    refine ⟨k, l, i, fun g hg => ?_, e⟩
    rw [r_sr, if_neg (by omega), r g hg]
/-- a new list -/
theorem new_l (C : xk_C) (hU : U1 C) : ∃ C', fJ2_init (xk_n C) (xk_mk C 21 0 3) = some (C', ()) ∧ Fr [] [] (fun _ _ => false) C C' ∧ xk_n C' = xk_n C + 1 ∧ xk_s C' = xk_s C + 3 ∧ (∀ g, pL C' (xk_n C) 0 g) ∧ xk_r C' 102 (xk_n C) = some (xk_d C') := by
  have k0 : xk_k (xk_mk C 21 0 3) (xk_n C) = 21 := by rw [k_mk, if_pos rfl]
  have F1 : Fr [] [] (fun _ _ => false) C (xk_mk C 21 0 3) := Fr.refl.mkL _ _
  have i0 : xk_i (xk_mk C 21 0 3) 103 (xk_n C) = 0 := by rw [i_mk, if_pos rfl]
  have n1 : xk_n (xk_mk C 21 0 3) = xk_n C + 1 := rfl
  have s1 : xk_s (xk_mk C 21 0 3) = xk_s C + 3 := rfl
  unfold fJ2_init fJ1_init
  show ∃ C', ((xk_pi (xk_mk C 21 0 3) 101 (some (xk_n C)) 0).bind fun σ2 => some (σ2, ())).bind _ = some (C', ()) ∧ _
  rw [p_i k0 rfl, ev_b, ev_b]
  have F2 : Fr [] [] (fun _ _ => false) C (xk_si (xk_mk C 21 0 3) 101 (xk_n C) 0) := F1.si _ _ _ (.inr (Nat.le_refl _))
  have k2 : xk_k (xk_si (xk_mk C 21 0 3) 101 (xk_n C) 0) (xk_n C) = 21 := k0
  have i2 : xk_i (xk_si (xk_mk C 21 0 3) 101 (xk_n C) 0) 103 (xk_n C) = 0 := by rw [wi1 (f' := 101) rfl (by decide)]; exact i0
  have n2 : xk_n (xk_si (xk_mk C 21 0 3) 101 (xk_n C) 0) = xk_n C + 1 := n1
  have s2 : xk_s (xk_si (xk_mk C 21 0 3) 101 (xk_n C) 0) = xk_s C + 3 := s1
  generalize xk_si (xk_mk C 21 0 3) 101 (xk_n C) 0 = C2 at *
  rw [p_r k2 rfl, ev_b]
  have F3 := F2.srd (xk_n C) (Nat.le_refl _)
  have U3 := F3.u hU
  have hd : xk_d C2 = xk_d C := F2.d
  refine ⟨_, rfl, F3, n2, s2, fun g => ⟨k2, by show xk_n C < xk_n C2; omega, i2, fun i hi => by omega, xk_d C2, by rw [r_sr, if_pos ⟨rfl, rfl⟩], U3.2.2.2.1, U3.2.2.2.2.1, by omega, ?_, ⟨fun _ => rfl, fun _ => U3.2.2.2.2.2⟩, fun i hi => by omega⟩, by rw [r_sr, if_pos ⟨rfl, rfl⟩]; rfl⟩
  have : xk_l C2 (xk_d C2) = 0 := U3.2.2.2.2.2
  show xk_l C2 (xk_d C2) ≤ 1000
  omega
end
section
variable {bx : Nat} {C : xk_C} {σ0 σ : gm_S} {h L : Nat}
/-- a new habit, empty -/
theorem new_h {hb : Nat → Nat} (hU : U1 C) (v : Option Nat) (n : Int32) : ∃ C', fX13_init (xk_n C) (xk_mk C 14 0 5) v n = some (C', ()) ∧ Fr [] [] (fun _ _ => false) C C' ∧ xk_n C' = xk_n C + 4 ∧ xk_s C' = xk_s C + 19 ∧ xk_k C' (xk_n C) = 14 ∧ xk_r C' 69 (xk_n C) = v ∧ xk_r C' 66 (xk_n C) = some (xk_n C + 1) ∧ xk_r C' 67 (xk_n C) = some (xk_n C + 2) ∧ xk_r C' 68 (xk_n C) = some (xk_n C + 3) ∧ xk_i C' 65 (xk_n C) = n ∧ (∀ g, pL C' (xk_n C + 1) 0 g) ∧ (∀ g, pL C' (xk_n C + 3) 0 g) ∧ xk_k C' (xk_n C + 2) = 30 ∧ xk_l C' (xk_n C + 2) = 8 ∧ xk_r C' 102 (xk_n C + 1) = some (xk_d C') ∧ xk_r C' 102 (xk_n C + 3) = some (xk_d C') := by
  unfold fX13_init
  have k0 : xk_k (xk_mk C 14 0 5) (xk_n C) = 14 := by rw [k_mk, if_pos rfl]
  have F0 : Fr [] [] (fun _ _ => false) C (xk_mk C 14 0 5) := Fr.refl.mk _ _ _ (by decide)
  rw [p_r k0 rfl, ev_b]
  have F1 : Fr [] [] (fun _ _ => false) C (xk_sr (xk_mk C 14 0 5) 69 (xk_n C) v) := F0.sr _ _ _ (.inr (Nat.le_refl _)) (by decide)
  have k1 : xk_k (xk_sr (xk_mk C 14 0 5) 69 (xk_n C) v) (xk_n C) = 14 := k0
  have r1 : xk_r (xk_sr (xk_mk C 14 0 5) 69 (xk_n C) v) 69 (xk_n C) = v := by rw [r_sr, if_pos ⟨rfl, rfl⟩]
  have n1 : xk_n (xk_sr (xk_mk C 14 0 5) 69 (xk_n C) v) = xk_n C + 1 := rfl
  have s1 : xk_s (xk_sr (xk_mk C 14 0 5) 69 (xk_n C) v) = xk_s C + 5 := rfl
  generalize xk_sr (xk_mk C 14 0 5) 69 (xk_n C) v = C1 at *
  have e1 : xk_nw C1 20 = some (xk_mk C1 21 0 3) := rfl
  obtain ⟨C2, g2, F2, n2, s2, L2, d2⟩ := new_l C1 (F1.u hU)
  have k2 : xk_k C2 (xk_n C) = 14 := (F2.k (by omega)).trans k1
  rw [e1, ev_b, g2, ev_b, p_r k2 rfl, ev_b]
  have e3 : xk_na (xk_sr C2 66 (xk_n C) (some (xk_n C1))) 0 (nI 8) = some (xk_mk (xk_sr C2 66 (xk_n C) (some (xk_n C1))) 30 8 8) := p_na (by omega)
  have Q3 : Fr [] [66] (fun _ _ => false) C2 (xk_mk (xk_sr C2 66 (xk_n C) (some (xk_n C1))) 30 8 8) := (Fr.refl.sr _ _ _ (.inl (by decide)) (by decide)).mk _ _ _ (by decide)
  have F3 : Fr [] [] (fun _ _ => false) C (xk_mk (xk_sr C2 66 (xk_n C) (some (xk_n C1))) 30 8 8) := ((F1.trans F2).sr _ _ _ (.inr (Nat.le_refl _)) (by decide)).mk _ _ _ (by decide)
  have n3' : xk_n (xk_sr C2 66 (xk_n C) (some (xk_n C1))) = xk_n C2 := rfl
  have r3 : xk_r (xk_mk (xk_sr C2 66 (xk_n C) (some (xk_n C1))) 30 8 8) 66 (xk_n C) = some (xk_n C1) := by rw [r_mk, if_neg (by omega), r_sr, if_pos ⟨rfl, rfl⟩]
  have kw3 : xk_k (xk_mk (xk_sr C2 66 (xk_n C) (some (xk_n C1))) 30 8 8) (xk_n C2) = 30 := by rw [k_mk, n3', if_pos rfl]
  have lw3 : xk_l (xk_mk (xk_sr C2 66 (xk_n C) (some (xk_n C1))) 30 8 8) (xk_n C2) = 8 := by rw [l_mk, n3', if_pos rfl]
  have n3 : xk_n (xk_mk (xk_sr C2 66 (xk_n C) (some (xk_n C1))) 30 8 8) = xk_n C2 + 1 := rfl
  have s3 : xk_s (xk_mk (xk_sr C2 66 (xk_n C) (some (xk_n C1))) 30 8 8) = xk_s C2 + 8 := rfl
  rw [e3, ev_b, n3']
  generalize xk_mk (xk_sr C2 66 (xk_n C) (some (xk_n C1))) 30 8 8 = C3 at *
  have k3 : xk_k C3 (xk_n C) = 14 := (Q3.k (by omega)).trans k2
  rw [p_r k3 rfl, ev_b]
  have Q4 : Fr [] [67] (fun _ _ => false) C3 (xk_sr C3 67 (xk_n C) (some (xk_n C2))) := Fr.refl.sr _ _ _ (.inl (by decide)) (by decide)
  have F4 : Fr [] [] (fun _ _ => false) C (xk_sr C3 67 (xk_n C) (some (xk_n C2))) := F3.sr _ _ _ (.inr (Nat.le_refl _)) (by decide)
  have r4 : xk_r (xk_sr C3 67 (xk_n C) (some (xk_n C2))) 67 (xk_n C) = some (xk_n C2) := by rw [r_sr, if_pos ⟨rfl, rfl⟩]
  have n4 : xk_n (xk_sr C3 67 (xk_n C) (some (xk_n C2))) = xk_n C3 := rfl
  have s4 : xk_s (xk_sr C3 67 (xk_n C) (some (xk_n C2))) = xk_s C3 := rfl
  have k4 : xk_k (xk_sr C3 67 (xk_n C) (some (xk_n C2))) (xk_n C) = 14 := k3
  generalize xk_sr C3 67 (xk_n C) (some (xk_n C2)) = C4 at *
  have e4 : xk_nw C4 20 = some (xk_mk C4 21 0 3) := rfl
  obtain ⟨C5, g5, F5, n5, s5, L5, d5⟩ := new_l C4 (F4.u hU)
  have k5 : xk_k C5 (xk_n C) = 14 := (F5.k (by omega)).trans k4
  rw [e4, ev_b, g5, ev_b, p_r k5 rfl, ev_b, p_i (C := xk_sr C5 68 (xk_n C) (some (xk_n C4))) k5 rfl, ev_b]
  have Q6 : Fr [65] [68] (fun _ _ => false) C5 (xk_si (xk_sr C5 68 (xk_n C) (some (xk_n C4))) 65 (xk_n C) n) := (Fr.refl.sr _ _ _ (.inl (by decide)) (by decide)).si _ _ _ (.inl (by decide))
  have F6 : Fr [] [] (fun _ _ => false) C (xk_si (xk_sr C5 68 (xk_n C) (some (xk_n C4))) 65 (xk_n C) n) := ((F4.trans F5).sr _ _ _ (.inr (Nat.le_refl _)) (by decide)).si _ _ _ (.inr (Nat.le_refl _))
  have r6 : xk_r (xk_si (xk_sr C5 68 (xk_n C) (some (xk_n C4))) 65 (xk_n C) n) 68 (xk_n C) = some (xk_n C4) := by rw [r_si, r_sr, if_pos ⟨rfl, rfl⟩]
  have i6 : xk_i (xk_si (xk_sr C5 68 (xk_n C) (some (xk_n C4))) 65 (xk_n C) n) 65 (xk_n C) = n := by rw [i_si, if_pos ⟨rfl, rfl⟩]
  have n6 : xk_n (xk_si (xk_sr C5 68 (xk_n C) (some (xk_n C4))) 65 (xk_n C) n) = xk_n C5 := rfl
  have s6 : xk_s (xk_si (xk_sr C5 68 (xk_n C) (some (xk_n C4))) 65 (xk_n C) n) = xk_s C5 := rfl
  generalize xk_si (xk_sr C5 68 (xk_n C) (some (xk_n C4))) 65 (xk_n C) n = C6 at *
  have c1 : xk_n C1 = xk_n C + 1 := n1
  have c2 : xk_n C2 = xk_n C + 2 := by omega
  have c4 : xk_n C4 = xk_n C + 3 := by omega
  -- along the way
  have T2 : Fr [65] [66, 67, 68] (fun _ _ => false) C2 C6 := ((Q3.mono (by simp) (by simp) (fun _ _ z => z)).trans (Q4.mono (by simp) (by simp) (fun _ _ z => z))).trans ((F5.mono (by simp) (by simp) (fun _ _ z => z)).trans (Q6.mono (by simp) (by simp) (fun _ _ z => z)))
  have T3 : Fr [65] [67, 68] (fun _ _ => false) C3 C6 := (Q4.mono (by simp) (by simp) (fun _ _ z => z)).trans ((F5.mono (by simp) (by simp) (fun _ _ z => z)).trans (Q6.mono (by simp) (by simp) (fun _ _ z => z)))
  have T4 : Fr [65] [68] (fun _ _ => false) C4 C6 := (F5.mono (by simp) (by simp) (fun _ _ z => z)).trans Q6
  refine ⟨C6, rfl, F6, by omega, by omega, (Q6.k (by omega)).trans k5, ?_, ?_, ?_, ?_, i6, fun g => ?_, fun g => ?_, ?_, ?_, ?_, ?_⟩
  · rw [T2.r (by omega) (by decide), F2.r (by omega) (by decide)]; exact r1
  · rw [T3.r (by omega) (by decide), r3, c1]
  · rw [T4.r (by omega) (by decide), r4, c2]
  · rw [r6, c4]
  · rw [← c1]; exact (L2 g).fr T2 (by decide) (by decide) (fun _ _ => rfl)
  · rw [← c4]; exact (L5 g).fr Q6 (by decide) (by decide) (fun _ _ => rfl)
  · rw [← c2, T3.k (by omega)]; exact kw3
  · rw [← c2, T3.l (by omega)]; exact lw3
  · rw [← c1, T2.r (by omega) (by decide), d2, T2.d]
  · rw [← c4, Q6.r (by omega) (by decide), d5, Q6.d]
end
end
section
/-! STAGE 2: the reader: read -/
section
variable {bx : Nat} {C : xk_C} {σ : gm_S} {h L : Nat} {hb : Nat → Nat}
theorem read_p {N : Nat} (hN : 300 ≤ N) (Z : RZ bx C σ h L) (r11 : xk_r C 11 bx = some (bx + 7)) (L7 : pL C (bx + 7) h hb) :
    (∃ C' σ' ha T W F cl, fX2_read N (bx + 8) C = some (C', .inr (some ha)) ∧ fX3_readsIn N σ (nI h) = some σ' ∧ RC bx C σ h L ha T W F L cl C' σ' ∧ xk_n C' ≤ xk_n C + 4 + 2 * L ∧ xk_s C' ≤ xk_s C + 19 + 600 * L) ∨
    (∃ C' σ' e at', fX2_read N (bx + 8) C = some (C', .inl e) ∧ fX3_readsIn N σ (nI h) = some σ' ∧ WR C σ h L e at' C' σ' ∧ xk_n C' ≤ xk_n C + 6 + 2 * L ∧ xk_s C' ≤ xk_s C + 119 + 600 * L) := by
  obtain ⟨⟨z1, z2, z3, z4, z5, z6, z7⟩, zR, z8, z9, z10, z11, z12⟩ := id Z
  unfold fX2_read fX3_readsIn
  have Q1 : Fr [33, 34] [35] (fun _ _ => false) C (xk_si C 33 (bx + 8) 0) := Fr.refl.si _ _ _ (.inl (by decide))
  have k1 : xk_k (xk_si C 33 (bx + 8) 0) (bx + 8) = 3 := z4
  have i1 : xk_i (xk_si C 33 (bx + 8) 0) 33 (bx + 8) = nI 0 := by rw [i_si, if_pos ⟨rfl, rfl⟩]; rfl
  have n1 : xk_n (xk_si C 33 (bx + 8) 0) = xk_n C := rfl
  have s1 : xk_s (xk_si C 33 (bx + 8) 0) = xk_s C := rfl
  rw [p_i z4 rfl, ev_b]
  generalize xk_si C 33 (bx + 8) 0 = C1 at *
  have U1' := Q1.u z3
  have e2 : xk_nw C1 13 = some (xk_mk C1 14 0 5) := rfl
  have F2 : Fr [] [] (fun _ _ => false) C1 (xk_mk C1 14 0 5) := Fr.refl.mk _ _ _ (by decide)
  have k2 : xk_k (xk_mk C1 14 0 5) (bx + 8) = 3 := (F2.k (by omega)).trans k1
  have kb2 : xk_k (xk_mk C1 14 0 5) bx = 1 := (F2.k (by omega)).trans ((Q1.k (by omega)).trans z1)
  have r36 : xk_r (xk_mk C1 14 0 5) 36 (bx + 8) = some bx := (F2.r (by omega) (by decide)).trans ((Q1.r (by omega) (by decide)).trans zR.1)
  have r11' : xk_r (xk_mk C1 14 0 5) 11 bx = some (bx + 7) := (F2.r (by omega) (by decide)).trans ((Q1.r (by omega) (by decide)).trans r11)
  have L7' : pL (xk_mk C1 14 0 5) (bx + 7) h hb := (L7.fr Q1 (by decide) (by decide) (fun _ _ => rfl)).fr F2 (by decide) (by decide) (fun _ _ => rfl)
  obtain ⟨C3, g3, F3, n3, s3, k3, r69, r66, r67, r68, i65, LT, LF, kW, lW, dT, dF⟩ := new_h (hb := hb) U1' (some bx) (nI h)
  rw [e2, ev_b, g_r k2 rfl, r36, ev_b, ev_b, g_r kb2 rfl, r11', ev_b, g_is L7'.1, ev_b, L7'.size, ev_b, g3, ev_b]
  have k38 : xk_k C3 (bx + 8) = 3 := (F3.k (by omega)).trans k1
  have i33 : xk_i C3 33 (bx + 8) = nI 0 := (F3.i (by omega) (by decide)).trans i1
  rw [p_r k38 rfl, ev_b]
  have F4 : Fr [33, 34] [35] (fun _ _ => false) C (xk_sr C3 35 (bx + 8) (some (xk_n C1))) := (Q1.trans (F3.mono (by simp) (by simp) (fun _ _ z => z))).sr _ _ _ (.inl (by decide)) (by decide)
  have Q4 : Fr [] [35] (fun _ _ => false) C3 (xk_sr C3 35 (bx + 8) (some (xk_n C1))) := Fr.refl.sr _ _ _ (.inl (by decide)) (by decide)
  have r35 : xk_r (xk_sr C3 35 (bx + 8) (some (xk_n C1))) 35 (bx + 8) = some (xk_n C1) := by rw [r_sr, if_pos ⟨rfl, rfl⟩]
  have n4 : xk_n (xk_sr C3 35 (bx + 8) (some (xk_n C1))) = xk_n C3 := rfl
  have s4 : xk_s (xk_sr C3 35 (bx + 8) (some (xk_n C1))) = xk_s C3 := rfl
  have k48 : xk_k (xk_sr C3 35 (bx + 8) (some (xk_n C1))) (bx + 8) = 3 := k38
  generalize xk_sr C3 35 (bx + 8) (some (xk_n C1)) = C4 at *
  rw [g_is k48, ev_b, m_pt, ev_b, m_pt, ev_b, m_pz (.inl rfl), ev_b, m_pt, ev_b, m_wr _ (k := 18) (j := h) _ z10 (by omega), ev_b]
  have MM : Mf [12, 13, 14, 15] [17, 18] σ (gm_sta (gm_set (gm_set (gm_set (gm_set σ 12 (nI h)) 13 0) 14 0) 15 0) 18 h 0) := ((((Mf.refl.set _ _ (by decide)).set _ _ (by decide)).set _ _ (by decide)).set _ _ (by decide)).sta _ _ _ (by decide)
  have m12 : gs (gm_sta (gm_set (gm_set (gm_set (gm_set σ 12 (nI h)) 13 0) 14 0) 15 0) 18 h 0) 12 = nI h := by
    rw [gs_sta, gs_set, if_neg (by decide), gs_set, if_neg (by decide), gs_set, if_neg (by decide), gs_set, if_pos rfl]
  have m13 : gs (gm_sta (gm_set (gm_set (gm_set (gm_set σ 12 (nI h)) 13 0) 14 0) 15 0) 18 h 0) 13 = nI 0 := by
    rw [gs_sta, gs_set, if_neg (by decide), gs_set, if_neg (by decide), gs_set, if_pos rfl]; rfl
  have m14 : gs (gm_sta (gm_set (gm_set (gm_set (gm_set σ 12 (nI h)) 13 0) 14 0) 15 0) 18 h 0) 14 = 0 := by
    rw [gs_sta, gs_set, if_neg (by decide), gs_set, if_pos rfl]
  have m15 : gs (gm_sta (gm_set (gm_set (gm_set (gm_set σ 12 (nI h)) 13 0) 14 0) 15 0) 18 h 0) 15 = nI 0 := by
    rw [gs_sta, gs_set, if_pos rfl]; rfl
  have m18 : ga (gm_sta (gm_set (gm_set (gm_set (gm_set σ 12 (nI h)) 13 0) 14 0) 15 0) 18 h 0) 18 h = nI 0 := by
    rw [ga_sta, if_pos ⟨rfl, rfl⟩]; rfl
  have mo : ∀ j, j ≠ h → ga (gm_sta (gm_set (gm_set (gm_set (gm_set σ 12 (nI h)) 13 0) 14 0) 15 0) 18 h 0) 18 j = ga σ 18 j := fun j hj => by
    rw [ga_sta, if_neg (fun z => hj z.2)]; rfl
  have m17 : ∀ j, ga (gm_sta (gm_set (gm_set (gm_set (gm_set σ 12 (nI h)) 13 0) 14 0) 15 0) 18 h 0) 17 j = ga σ 17 j := fun j => by
    rw [ga_sta, if_neg (by omega)]; rfl
  generalize gm_sta (gm_set (gm_set (gm_set (gm_set σ 12 (nI h)) 13 0) 14 0) 15 0) 18 h 0 = σ1 at *
  have hd : xk_d C4 = xk_d C3 := Q4.d
  obtain ⟨N, rfl⟩ : ∃ j, N = j + 1 := ⟨N - 1, by omega⟩
  have en : xk_n C1 = xk_n C := n1
  have H : RC bx C σ h L (xk_n C1) (xk_n C1 + 1) (xk_n C1 + 2) (xk_n C1 + 3) 0 [] C4 σ1 := by
    refine ⟨⟨⟨F4, MM, fun j _ => m17 j, mo⟩, ⟨r35, (Q4.i (by omega) (by decide)).trans i33, fun z => by omega⟩, ⟨(Q4.k (by omega)).trans k3, by omega, (Q4.r (by omega) (by decide)).trans r66, (Q4.r (by omega) (by decide)).trans r67, (Q4.r (by omega) (by decide)).trans r68, (Q4.i (by omega) (by decide)).trans i65, (Q4.r (by omega) (by decide)).trans r69⟩, ⟨by omega, by omega, by omega, by omega, by omega, fun e he => ?_, fun e he => ?_⟩, ⟨(LT _).fr Q4 (by decide) (by decide) (fun _ _ => rfl), (LF _).fr Q4 (by decide) (by decide) (fun _ _ => rfl)⟩, ⟨fun x hx => (by cases hx), List.Pairwise.nil⟩, ⟨m12, m13, m14, m15, m18, fun j hj => absurd hj (Nat.not_lt_zero _)⟩, Nat.zero_le _, Nat.zero_le _, Nat.zero_le _, by omega⟩, ⟨(Q4.k (by omega)).trans kW, by omega, (Q4.l (by omega)).trans lW, fun k hk => absurd hk (Nat.not_lt_zero _)⟩, Nat.zero_le _, fun c hc => by cases hc⟩
    · rw [Q4.r (by omega) (by decide), dF] at he; cases he; exact .inl hd.symm
    · rw [Q4.r (by omega) (by decide), dT] at he; cases he; exact .inl hd.symm
  rw [rnd_m]
  rcases clause_p (N := N + 1) (by omega) Z H (by simp) with ⟨C5, σ5, d, at5, j1, j2, H5, l1, l2, l3⟩ | ⟨C5, σ5, e5, at5, j1, j2, W5, l1, l2, l3⟩
  · rw [j1, ev_b, j2, ev_b, if_pos H5.1.2.2.2.2.2.2.1.2.2.1]
    rw [List.nil_append] at H5
    have IH := read_l (N := N + 1) (by omega) Z (L + 1) (N + 1) N at5 [d] C5 σ5 (by omega) (by omega) (by omega) H5 (by simp)
    rw [show ([d] : List (Nat × Nat × List Int32 × List (Nat × Nat))).length - 1 = 0 from rfl] at IH
    rcases IH with ⟨C6, σ6, cl6, q1, q2, q3, q4, q5⟩ | ⟨C6, σ6, e6, at6, q1, q2, q3, q4, q5, q6⟩
    · exact .inl ⟨C6, σ6, _, _, _, _, cl6, q1, q2, q3, by omega, by omega⟩
    · have := q3.2.2.2.2.2
      exact .inr ⟨C6, σ6, e6, at6, q1, q2, q3, by omega, by omega⟩
  · obtain ⟨N, rfl⟩ : ∃ j, N = j + 1 := ⟨N - 1, by omega⟩
    obtain ⟨σ6, j3, M3⟩ := fin_d (N := N + 1 + 1) (km := N) W5.2.2.2.1 (nI h) 0
    rw [j1, ev_b, j2, ev_b, if_neg (by rw [W5.2.2.2.1]; decide), j3]
    have := W5.2.2.2.2.2
    exact .inr ⟨C5, σ6, e5, at5, rfl, rfl, W5.dead M3, by omega, by omega⟩
end
end
section
/-! STAGE 2: a text: what stays -/
section
variable {bx : Nat} {sh cr hb fm : Nat → Nat} {nS nC nH nF nT m : Nat} {cls : Nat → List (Nat × Nat × List Int32 × List (Nat × Nat))} {C C' : xk_C} {σ σ' : gm_S}
/-- the tape goes to the texts -/
theorem copy_t {N h L : Nat} (h8 : h < 8) (hL : L ≤ 120) : ∀ n i q (σ : gm_S), i + n = L → n < q → gs σ 7 = nI L → gs σ 5 = nI h → ∃ σ' q', fX3_text_L27 N q σ (nI i) = fX3_text_L27 N (q' + 1) σ' (nI L) ∧ Mf [] [9] σ σ' ∧ (∀ j, j < i → ga σ' 9 (120 * h + j) = ga σ 9 (120 * h + j)) ∧ ∀ j, i ≤ j → j < L → ga σ' 9 (120 * h + j) = ga σ 8 j := by
  intro n
  induction n with
  | zero =>
    intro i q σ hi hq g7 g5
    obtain ⟨q, rfl⟩ : ∃ j, q = j + 1 := ⟨q - 1, by omega⟩
    have : i = L := by omega
    subst this
    exact ⟨σ, q, rfl, Mf.refl, fun _ _ => rfl, fun j h1 h2 => by omega⟩
  | succ n ih =>
    intro i q σ hi hq g7 g5
    obtain ⟨q, rfl⟩ : ∃ j, q = j + 1 := ⟨q - 1, by omega⟩
    rw [fX3_text_L27, g7, if_neg (fun z => by have := (s_le _ _ (by omega) (by omega)).mp z; omega), m_rd σ (k := 8) (j := i) (show i < 120 by omega) (by omega), ev_b, g5, s_mul, s_add, m_wr σ (k := 9) (j := 120 * h + i) _ (show 120 * h + i < 960 by omega) (by omega), ev_b, s_a1]
    obtain ⟨σ', q', f, M, e1, e2⟩ := ih (i + 1) q (gm_sta σ 9 (120 * h + i) (ga σ 8 i)) (by omega) (by omega) g7 g5
    refine ⟨σ', q', f, (Mf.refl.sta _ _ _ (by decide)).trans M, fun j hj => ?_, fun j h1 h2 => ?_⟩
    · rw [e1 j (by omega), ga_sta, if_neg (by omega)]
    · by_cases c : j = i
      · subst c; rw [e1 j (by omega), ga_sta, if_pos ⟨rfl, rfl⟩]
      · rw [e2 j (by omega) h2, ga_sta, if_neg (by omega)]
/-- the rest, the tape empty -/
theorem Rt.txt (H : Rt bx sh cr hb fm nS nC nH nF nT m cls C σ) (hA : cA bx sh cr hb nS nC C σ) (F : Fr [9, 33, 34] [35] (fun _ _ => false) C C') (M : Mf [7, 12, 13, 14, 15] [9, 10, 17, 18] σ σ') (m17 : ∀ j, j < 140 * nH → ga σ' 17 j = ga σ 17 j) (m18 : ∀ j, j < nH → ga σ' 18 j = ga σ 18 j) (t1 : xk_i C' 9 bx = nI 0) (t2 : gs σ' 7 = nI 0) : Rt bx sh cr hb fm nS nC nH nF 0 m cls C' σ' := by
  obtain ⟨a, ⟨p1, p2, p3, p4, p5⟩, c, d, ⟨⟨e1, e2, e3⟩, e'⟩, f, g, k⟩ := H
  have nb := hA.1.1.2.1
  have k2 := hA.1.2.2.1.2.1
  refine ⟨a.fr hA.2.2.2.2.1.2.1 F (by decide) (fun q q1 q2 => by simp; omega) (fun _ _ => rfl), ⟨(M.1 5 (by decide)).trans p1, p2, p3.fr F (by decide) (by decide) (fun _ _ => rfl), fun h hh => ?_, p5⟩, c.fr F M (fun q hq => by simp only [List.mem_cons, List.not_mem_nil, or_false] at hq; omega) (by decide) (by decide) (fun _ _ => rfl) (by decide) (by decide), ⟨t1, t2, by omega, fun j hj => by omega⟩, ⟨⟨(F.i (by omega) (by decide)).trans e1, (M.1 35 (by decide)).trans e2, fun j hj => ?_⟩, e'⟩, f.fr hA.2.2.2.1.2.1 (by omega) F M (by decide) (by decide) (fun _ _ => rfl) (fun _ _ => rfl) (by decide) (by decide), g.fr nb F (by decide) (by decide) (fun _ _ => rfl) (fun _ _ => rfl), (M.1 22 (by decide)).trans k⟩
  · obtain ⟨x1, x2, x3⟩ := p4 h hh
    have n139 := x1.2.2.2.2.1
    refine ⟨x1.fr F (by decide) (by decide) (fun _ _ => rfl) (fun _ _ => rfl), ⟨(m18 h hh).trans x2.1, fun j hj => ?_⟩, fun q hq => ?_⟩
    · rw [m17 _ (by omega)]; exact x2.2 j hj
    · rw [F.i (x1.lv hq).1 (by decide), x3 q hq]
      unfold dl
      rw [M.1 22 (by decide), M.1 20 (by decide), M.1 21 (by decide)]
  · rw [F.e (by omega) rfl, M.2 34 (by decide)]; exact e3 j hj
/-- a write that a list doesn't see -/
theorem pLF.si9 {a : Nat} (L : pLF a C C') (b : Nat) (v : Int32) : pLF a (xk_si C 9 b v) (xk_si C' 9 b v) := by
  obtain ⟨Q, n1, s1, kk, keep⟩ := L
  refine ⟨⟨Q.1, Q.2.1, Q.2.2.1, fun x hx => ?_⟩, n1, s1, kk, fun x m h hxa hx => ?_⟩
  · obtain ⟨k, l, i, r, e⟩ := Q.2.2.2 x hx
    refine ⟨k, l, fun f hf => ?_, r, e⟩
    rw [i_si, i_si]
    by_cases c : f = 9 ∧ x = b
    · rw [if_pos c, if_pos c]
    · rw [if_neg c, if_neg c]; exact i f hf
  · have back : pL C x m h := by
      obtain ⟨k, ha, hs, r⟩ := hx
      rw [wi1 (f' := 9) rfl (by decide)] at hs
      exact ⟨k, ha, hs, r⟩
    obtain ⟨k, ha, hs, r⟩ := keep x m h hxa back
    exact ⟨k, ha, by rw [wi1 (f' := 9) rfl (by decide)]; exact hs, r⟩
/-- one habit more: the core -/
theorem cR.hbx {hb' : Nat → Nat} (h : cR bx sh cr hb nS nC nH C σ) (h8 : nH + 1 ≤ 8) (e : ∀ i, i < nH → hb' i = hb i) : cR bx sh cr hb' nS nC (nH + 1) C σ := by
  obtain ⟨⟨a1, a2, a3, a4, ⟨C6, Cn, C44, C46, C47, C48, C49, C53, C54, C55, C56⟩, a6⟩, b, ⟨⟨v1, v2, v3, v4⟩, v5, v6, v7⟩⟩ := h
  refine ⟨⟨a1, a2, a3, a4, ⟨C6, Cn, C44, C46, C47, C48, C49, C53, C54, fun i hi => ?_, C56⟩, a6⟩, b, ⟨⟨v1, v2, h8, v4⟩, v5, fun c hc => ?_, v7⟩⟩
  · rw [C55 i hi]; exact (rf_ext (n := nH) (by omega) (v6 i hi).2.2.2.1 e).symm
  · obtain ⟨w1, w2, w3, w4, w5⟩ := v6 c hc
    refine ⟨w1, w2, w3, ?_, w5⟩
    rcases w4 with w4 | ⟨i, hi, w4⟩
    · exact .inl w4
    · exact .inr ⟨i, by omega, w4⟩
theorem IM.hbx {im : Nat} {s : Nat → Int32} {hb' : Nat → Nat} (H : IM bx sh hb nS nC nH im s C) (h8 : nH + 1 ≤ 8) (e : ∀ i, i < nH → hb' i = hb i) : IM bx sh hb' nS nC (nH + 1) im s C := by
  obtain ⟨k, n, iS, iC, E1, E2, E3, E4, ⟨a1, a2, ⟨⟨v1, v2, v3, v4⟩, v5, v6, v7⟩⟩, b, c, d, q1, q2, q3, q4, q5⟩ := H
  refine ⟨k, n, iS, iC, E1, E2, E3, E4, ⟨a1, a2, ⟨⟨v1, v2, h8, v4⟩, v5, fun c hc => ?_, v7⟩⟩, b, c, d, q1, q2, q3, fun j hj => ?_, q5⟩
  · obtain ⟨w1, w2, w3, w4, w5⟩ := v6 c hc
    refine ⟨w1, w2, w3, ?_, w5⟩
    rcases w4 with w4 | ⟨i, hi, w4⟩
    · exact .inl w4
    · exact .inr ⟨i, by omega, w4⟩
  · rw [q4 j hj]; exact (rf_ext (n := nH) (by omega) (v6 j hj).2.2.2.1 e).symm
theorem pI.hbx {hb' : Nat → Nat} (H : pI bx sh hb nS nC nH C σ) (h8 : nH + 1 ≤ 8) (e : ∀ i, i < nH → hb' i = hb i) : pI bx sh hb' nS nC (nH + 1) C σ := by
  rcases H with H | ⟨a, im, b, c⟩
  · exact .inl H
  · exact .inr ⟨a, im, b, c.hbx h8 e⟩
end
end
