set_option maxRecDepth 16384
section
/-! STAGE 2: a habit holds, both sides -/
/-- all habits -/
def pH (bx : Nat) (hb : Nat → Nat) (nH : Nat) (cls : Nat → List (Nat × Nat × List Int32 × List (Nat × Nat))) (C : xk_C) (σ : gm_S) : Prop :=
  gs σ 5 = nI nH ∧ nH ≤ 8 ∧ pL C (bx + 7) nH hb ∧ (∀ h, h < nH → pHx bx C (hb h) h (cls h) ∧ pHm σ h (cls h) ∧ pHn C σ h (lvl (cls h))) ∧
  (∀ h h' q q', h < nH → h' < nH → q < (lvl (cls h)).length → q' < (lvl (cls h')).length → ((lvl (cls h)).getD q (0, 0)).1 = ((lvl (cls h')).getD q' (0, 0)).1 → h = h' ∧ q = q')
theorem pHx.fr {fi fr : List Nat} {E : Nat → Nat → Bool} {bx : Nat} {C C' : xk_C} {a h : Nat} {cl : List (Nat × Nat × List Int32 × List (Nat × Nat))} (H : pHx bx C a h cl) (F : Fr fi fr E C C') (h1 : ∀ f, f ∈ [65, 78, 79, 83, 103] → f ∉ fi) (h2 : ∀ f, f ∈ [66, 67, 68, 69, 77, 81, 82, 102] → f ∉ fr) (h3 : ∀ e, e < xk_n C → E 34 e = false) (h4 : ∀ w, bx + 19 ≤ w → E 30 w = false) : pHx bx C' a h cl := by
  obtain ⟨⟨ka, an, i65, r69⟩, ⟨T, W, F', ⟨r66, r67, r68⟩, ⟨b1, b2, b3, b4⟩, LT, LF, kW, lW, hW⟩, n8, n40, n139, htr⟩ := H
  refine ⟨⟨(F.k an).trans ka, F.lt an, (F.i an (h1 _ (by decide))).trans i65, (F.r an (h2 _ (by decide))).trans r69⟩, ⟨T, W, F', ⟨(F.r an (h2 _ (by decide))).trans r66, (F.r an (h2 _ (by decide))).trans r67, (F.r an (h2 _ (by decide))).trans r68⟩, ⟨b1, b2, b3, F.lt b4⟩, LT.fr F (h1 _ (by decide)) (h2 _ (by decide)) h3, LF.fr F (h1 _ (by decide)) (h2 _ (by decide)) h3, (F.k b4).trans kW, (F.l b4).trans lW, fun k hk => ?_⟩, n8, n40, n139, fun c hc => ⟨(htr c hc).1, tr2.fr F (h1 _ (by decide)) (h1 _ (by decide)) (h1 _ (by decide)) (h2 _ (by decide)) (h2 _ (by decide)) (h2 _ (by decide)) _ _ _ _ (htr c hc).2⟩⟩
  rw [F.e b4 (by rw [kW]; exact h4 W b2)]; exact hW k hk
/-- leaves lie in the heap -/
theorem tr2.lv {C : xk_C} : ∀ d a cd ls, tr2 C d a cd ls → ∀ x, x ∈ ls → x.1 < xk_n C ∧ xk_k C x.1 = 17 ∧ x.2 < 1000 := by
  intro d
  induction d with
  | zero => intro a cd ls h; exact h.elim
  | succ d ih =>
    intro a cd ls h x hx
    rcases h with ⟨w, hh, v, k, n, h1, h2, h3, h4, h5, h6, h7⟩ | ⟨b, cd', k, n, h1, h2, h3⟩ | ⟨b, c, cd1, cd2, ls1, ls2, both, k, n, h1, h2, h3, h4, h5, h6, h7⟩
    · rw [h7] at hx; cases List.mem_singleton.mp hx; exact ⟨n, k, h3⟩
    · exact ih _ _ _ h2 x hx
    · rw [h7, List.mem_append] at hx
      rcases hx with hx | hx
      · exact ih _ _ _ h4 x hx
      · exact ih _ _ _ h5 x hx
theorem lvl_mem {cl : List (Nat × Nat × List Int32 × List (Nat × Nat))} {x : Nat × Nat} (h : x ∈ lvl cl) : ∃ c, c ∈ cl ∧ x ∈ c.2.2.2 := by
  induction cl with
  | nil => cases h
  | cons c r ih =>
    rcases List.mem_append.mp h with h | h
    · exact ⟨c, List.mem_cons_self, h⟩
    · obtain ⟨c', h1, h2⟩ := ih h
      exact ⟨c', List.mem_cons_of_mem _ h1, h2⟩
theorem pHx.lv {bx : Nat} {C : xk_C} {a h : Nat} {cl : List (Nat × Nat × List Int32 × List (Nat × Nat))} (H : pHx bx C a h cl) {q : Nat} (hq : q < (lvl cl).length) : (lvl cl)[q].1 < xk_n C ∧ xk_k C (lvl cl)[q].1 = 17 ∧ (lvl cl)[q].2 < 1000 := by
  obtain ⟨c, h1, h2⟩ := lvl_mem (List.getElem_mem hq)
  exact tr2.lv _ _ _ _ (H.2.2.2.2.2 c h1).2 _ h2
theorem pH.fr {fi fr : List Nat} {E : Nat → Nat → Bool} {bx : Nat} {hb : Nat → Nat} {nH : Nat} {cls : Nat → List (Nat × Nat × List Int32 × List (Nat × Nat))} {C C' : xk_C} {σ σ' : gm_S} {ks as : List Nat} (H : pH bx hb nH cls C σ) (F : Fr fi fr E C C') (M : Mf ks as σ σ') (h1 : ∀ f, f ∈ [65, 78, 79, 80, 83, 103] → f ∉ fi) (h2 : ∀ f, f ∈ [66, 67, 68, 69, 77, 81, 82, 102] → f ∉ fr) (h3 : ∀ e, e < xk_n C → E 34 e = false) (h4 : ∀ w, bx + 19 ≤ w → E 30 w = false) (m1 : ∀ k, k ∈ [5, 20, 21, 22] → k ∉ ks) (m2 : ∀ k, k ∈ [17, 18] → k ∉ as) : pH bx hb nH cls C' σ' := by
  obtain ⟨a, b, c, d, e⟩ := H
  refine ⟨(M.1 5 (m1 _ (by decide))).trans a, b, c.fr F (h1 _ (by decide)) (h2 _ (by decide)) h3, fun h hh => ?_, e⟩
  obtain ⟨d1, d2, d3⟩ := d h hh
  refine ⟨d1.fr F (fun f hf => h1 f (by simp only [List.mem_cons, List.not_mem_nil, or_false] at hf ⊢; omega)) h2 h3 h4, ⟨(M.2 18 (m2 _ (by decide)) h).trans d2.1, d2.2.same (fun j => M.2 17 (m2 _ (by decide)) j)⟩, fun q hq => ?_⟩
  rw [F.i (d1.lv hq).1 (h1 _ (by decide)), d3 q hq]
  unfold dl
  rw [M.1 22 (m1 _ (by decide)), M.1 20 (m1 _ (by decide)), M.1 21 (m1 _ (by decide))]
def hI : List Nat := [27, 28, 29, 30, 31]
section
variable {bx : Nat} {sh cr hb : Nat → Nat} {nS nC nH : Nat} {cls : Nat → List (Nat × Nat × List Int32 × List (Nat × Nat))} {C : xk_C} {σ : gm_S}
theorem stands_w (σ : gm_S) (a b c d e : Int32) : ∃ σ1, ((gm_wr σ 16 0 a).bind fun σ1 => (gm_wr σ1 16 1 b).bind fun σ2 => (gm_wr σ2 16 2 c).bind fun σ3 => (gm_wr σ3 16 3 d).bind fun σ4 => (gm_wr σ4 16 4 e).bind fun σ5 => some σ5) = some σ1 ∧ Mf [] [16] σ σ1 ∧ ga σ1 16 0 = a ∧ ga σ1 16 1 = b ∧ ga σ1 16 2 = c ∧ ga σ1 16 3 = d ∧ ga σ1 16 4 = e := by
  have w : ∀ (s : gm_S) (j : Nat) (v : Int32), j < 5 → gm_wr s 16 (nI j) v = some (gm_sta s 16 j v) := fun s j v hj => m_wr s v hj (by omega)
  have w0 := fun s v => w s 0 v (by omega)
  have w1 := fun s v => w s 1 v (by omega)
  have w2 := fun s v => w s 2 v (by omega)
  have w3 := fun s v => w s 3 v (by omega)
  have w4 := fun s v => w s 4 v (by omega)
  simp only [show nI 0 = (0 : Int32) from rfl, show nI 1 = (1 : Int32) from rfl, show nI 2 = (2 : Int32) from rfl, show nI 3 = (3 : Int32) from rfl, show nI 4 = (4 : Int32) from rfl] at w0 w1 w2 w3 w4
  rw [w0, ev_b, w1, ev_b, w2, ev_b, w3, ev_b, w4, ev_b]
  refine ⟨_, rfl, ((((Mf.refl.sta _ _ _ (by decide)).sta _ _ _ (by decide)).sta _ _ _ (by decide)).sta _ _ _ (by decide)).sta _ _ _ (by decide), ?_, ?_, ?_, ?_, ?_⟩ <;> simp [ga_sta]
theorem holdsFor_eq (N : Nat) (σ : gm_S) (h w a b c d e : Int32) (σ1 : gm_S) (hw : ((gm_wr σ 16 0 a).bind fun σ1 => (gm_wr σ1 16 1 b).bind fun σ2 => (gm_wr σ2 16 2 c).bind fun σ3 => (gm_wr σ3 16 3 d).bind fun σ4 => (gm_wr σ4 16 4 e).bind fun σ5 => some σ5) = some σ1) : fX3_holdsFor N σ h w a b c d e = if h = -1 then some (σ1, 0) else (fX3_goes N σ1 h w).bind fun r6 => if r6.2 = 0 then some (r6.1, 0) else some (r6.1, 1) := by
  unfold fX3_holdsFor
  cases h0 : gm_wr σ 16 0 a with
  | none => rw [h0] at hw; cases hw
  | some s1 =>
    rw [h0, ev_b] at hw
    rw [ev_b]
    cases h1 : gm_wr s1 16 1 b with
    | none => rw [h1] at hw; cases hw
    | some s2 =>
      rw [h1, ev_b] at hw
      rw [ev_b]
      cases h2 : gm_wr s2 16 2 c with
      | none => rw [h2] at hw; cases hw
      | some s3 =>
        rw [h2, ev_b] at hw
        rw [ev_b]
        cases h3 : gm_wr s3 16 3 d with
        | none => rw [h3] at hw; cases hw
        | some s4 =>
          rw [h3, ev_b] at hw
          rw [ev_b]
          cases h4 : gm_wr s4 16 4 e with
          | none => rw [h4] at hw; cases hw
          | some s5 =>
            rw [h4, ev_b] at hw
            cases hw
            rw [ev_b]
theorem holds_l {N : Nat} (hN : 200 ≤ N) (R : cR bx sh cr hb nS nC nH C σ) (H : pH bx hb nH cls C σ) {h : Nat} (hh : h < nH) (w f g s o n : Int32) : ∃ x C' σ', (x = 0 ∨ x = 1) ∧ fX13_holds N (hb h) C w f g s o n = some (C', x) ∧ fX3_holdsFor N σ (nI h) w f g s o n = some (σ', x) ∧ (Fr hI [] (fun _ _ => false) C C' ∧ xk_n C' = xk_n C ∧ xk_s C' = xk_s C) ∧ Mf [] [16, 19] σ σ' := by
  obtain ⟨σ1, e1, M1, g0, g1, g2, g3, g4⟩ := stands_w σ f g s o n
  have n8 : nH ≤ 8 := H.2.1
  have kB := R.kB
  have r10 := R.1.1.2.1.2.2.2.2.2.1
  have k6 := R.1.1.2.2.1.2.2.2.2.2.1
  have nb := R.1.1.1.2.1
  have ka := (H.2.2.2.1 h hh).1.1.1
  have r69 := (H.2.2.2.1 h hh).1.1.2.2.2
  have F1 : Fr hI [] (fun _ _ => false) C (xk_si (xk_si (xk_si (xk_si (xk_si C 27 (bx + 6) f) 28 (bx + 6) g) 29 (bx + 6) s) 30 (bx + 6) o) 31 (bx + 6) n) := Fr.si (Fr.si (Fr.si (Fr.si (Fr.si Fr.refl _ _ _ (.inl (by decide))) _ _ _ (.inl (by decide))) _ _ _ (.inl (by decide))) _ _ _ (.inl (by decide))) _ _ _ (.inl (by decide))
  have H1 := H.fr F1 (M1.mono (ks' := []) (as' := [16]) (fun _ h => h) (fun _ h => h)) (by decide) (by decide) (fun _ _ => rfl) (fun _ _ => rfl) (by decide) (by decide)
  have hcs : csAt (xk_si (xk_si (xk_si (xk_si (xk_si C 27 (bx + 6) f) 28 (bx + 6) g) 29 (bx + 6) s) 30 (bx + 6) o) 31 (bx + 6) n) (bx + 6) σ1 := by
    refine ⟨k6, fun w hw => ?_⟩
    have cs : w = 0 ∨ w = 1 ∨ w = 2 ∨ w = 3 ∨ w = 4 := by omega
    rcases cs with rfl | rfl | rfl | rfl | rfl
    · rw [g0]; simp [i_si]
    · rw [g1]; simp [i_si]
    · rw [g2]; simp [i_si]
    · rw [g3]; simp [i_si]
    · rw [g4]; simp [i_si]
  obtain ⟨d1, d2, d3⟩ := H1.2.2.2.1 h hh
  have hl := d1.2.2.2.2.1
  have hk := d1.2.2.1
  obtain ⟨x, σ2, hx, f1, f2, M2⟩ := clause_l (N := N) (cs := bx + 6) (wq := w) (by omega) d1 (cls h) [] rfl σ1 N N hcs d2 d3 (by omega) (by omega)
  refine ⟨x, _, σ2, hx, ?_, ?_, ⟨F1, rfl, rfl⟩, (M1.mono (fun _ h => h) (by decide)).trans (M2.mono (fun _ h => h) (by decide))⟩
  · unfold fX13_holds fX1_with
    rw [g_r ka rfl, r69, ev_b, g_r kB rfl, r10, ev_b, g_is k6, ev_b]
    simp only [ev_gi, ev_gr, ev_pi, ev_pr, ev_pz0, ev_pz1, ev_is, ev_ck, ev_ckn, ev_b, ev_10, if_true, if_false, false_and, and_false, true_and, and_true, reduceCtorEq, k_si, k_sr, k_se, k_sq, k6, h_2_27, h_2_28, h_2_29, h_2_30, h_2_31]
    exact f1
  · rw [holdsFor_eq N σ _ _ _ _ _ _ _ σ1 e1, if_neg (s_m1 h (by omega))]
    unfold fX3_goes
    rw [s_mul]
    have f2' : fX3_goes_L12 N N σ1 (nI h) w 0 0 (nI (140 * h)) = some (σ2, x) := f2
    rw [f2', ev_b]
    rcases hx with rfl | rfl
    · rfl
    · rfl
end
end
section
/-! STAGE 2: a tick: those that are bare -/
section
variable {bx : Nat} {sh cr hb : Nat → Nat} {nS nC nH : Nat} {C : xk_C} {σ : gm_S}
theorem ar0 (h : cA bx sh cr hb nS nC C σ) : xk_gr C 0 (some bx) = some (some (bx + 1)) := by rw [g_r h.1.1.1 rfl, h.1.2.1.1]
theorem ai0 (h : cA bx sh cr hb nS nC C σ) : xk_is C 21 (some (bx + 1)) = some (bx + 1) := g_is h.1.2.2.1.1
theorem as0 (h : cA bx sh cr hb nS nC C σ) : fJ2_size (bx + 1) C = some (nI nS) := h.2.1.size
theorem ag0 (h : cA bx sh cr hb nS nC C σ) {i : Nat} (hi : i < nS) : fJ2_get (bx + 1) C (nI i) = some (some (sh i)) := h.2.1.get hi
theorem ac5 (h : cA bx sh cr hb nS nC C σ) {i : Nat} (hi : i < nS) : xk_ck C 5 (some (sh i)) = some () := g_ck (h.2.2.2.1.1 i hi)
theorem aq5 (h : cA bx sh cr hb nS nC C σ) {i : Nat} (hi : i < nS) : xk_is C 5 (some (sh i)) = some (sh i) := g_is (h.2.2.2.1.1 i hi)
theorem ar3 (h : cA bx sh cr hb nS nC C σ) : xk_gr C 3 (some bx) = some (some (bx + 3)) := by rw [g_r h.1.1.1 rfl, h.1.2.1.2.2.1]
theorem ai3 (h : cA bx sh cr hb nS nC C σ) : xk_is C 21 (some (bx + 3)) = some (bx + 3) := g_is h.1.2.2.1.2.2.1
theorem as3 (h : cA bx sh cr hb nS nC C σ) : fJ2_size (bx + 3) C = some (nI nC) := h.2.2.1.size
theorem ag3 (h : cA bx sh cr hb nS nC C σ) {i : Nat} (hi : i < nC) : fJ2_get (bx + 3) C (nI i) = some (some (cr i)) := h.2.2.1.get hi
theorem ac6 (h : cA bx sh cr hb nS nC C σ) {i : Nat} (hi : i < nC) : xk_ck C 6 (some (cr i)) = some () := g_ck (h.2.2.2.2.1.1 i hi)
theorem aq6 (h : cA bx sh cr hb nS nC C σ) {i : Nat} (hi : i < nC) : xk_is C 6 (some (cr i)) = some (cr i) := g_is (h.2.2.2.2.1.1 i hi)
theorem a46 (h : cA bx sh cr hb nS nC C σ) {i : Nat} (hi : i < nC) : xk_gi C 46 (some (cr i)) = some (ga σ 1 (142 + i)) := by rw [g_i (h.2.2.2.2.1.1 i hi) rfl, h.2.2.2.2.1.2.2.2.1 i hi]
theorem a47 (h : cA bx sh cr hb nS nC C σ) {i : Nat} (hi : i < nC) : xk_gi C 47 (some (cr i)) = some (ga σ 1 (130 + i)) := by rw [g_i (h.2.2.2.2.1.1 i hi) rfl, h.2.2.2.2.1.2.2.2.2.1 i hi]
theorem a48 (h : cA bx sh cr hb nS nC C σ) {i : Nat} (hi : i < nC) : xk_gi C 48 (some (cr i)) = some (ga σ 1 (190 + i)) := by rw [g_i (h.2.2.2.2.1.1 i hi) rfl, h.2.2.2.2.1.2.2.2.2.2.1 i hi]
theorem a53 (h : cA bx sh cr hb nS nC C σ) {i : Nat} (hi : i < nC) : xk_gr C 53 (some (cr i)) = some (rf sh (ga σ 1 (178 + i))) := by rw [g_r (h.2.2.2.2.1.1 i hi) rfl, h.2.2.2.2.1.2.2.2.2.2.2.2.1 i hi]
theorem a56 (h : cA bx sh cr hb nS nC C σ) {i : Nat} (hi : i < nC) : xk_gr C 56 (some (cr i)) = some (some bx) := by rw [g_r (h.2.2.2.2.1.1 i hi) rfl, h.2.2.2.2.1.2.2.2.2.2.2.2.2.2.2 i hi]
theorem a41 (h : cA bx sh cr hb nS nC C σ) {i : Nat} (hi : i < nS) : xk_gi C 41 (some (sh i)) = some (ga σ 1 (70 + i)) := by rw [g_i (h.2.2.2.1.1 i hi) rfl, h.2.2.2.1.2.2.2.2.2.2.1 i hi]
theorem a42 (h : cA bx sh cr hb nS nC C σ) {i : Nat} (hi : i < nS) : xk_gi C 42 (some (sh i)) = some (ga σ 1 (90 + i)) := by rw [g_i (h.2.2.2.1.1 i hi) rfl, h.2.2.2.1.2.2.2.2.2.2.2.1 i hi]
theorem afs (h : cA bx sh cr hb nS nC C σ) {i : Nat} (hi : i < nS) (z : Int32) : fX4_fit (sh i) C z = some (fs σ i z) := by
  rw [fi_x (h.2.2.2.1.1 i hi), h.2.2.2.1.2.2.2.1 i hi, h.2.2.2.1.2.2.2.2.1 i hi, h.2.2.2.1.2.2.2.2.2.1 i hi]; rfl
theorem ahs (h : cA bx sh cr hb nS nC C σ) (hI : Iv nS nC nH (ga σ 1)) {c : Nat} (hc : c < nC) : fX5_isHoused (cr c) C = some (hs σ c) := by
  have h20 := hI.1.1
  unfold fX5_isHoused hs
  simp only [a53 h hc, ev_b]
  rcases hI.2.2.2.2 c hc with ⟨e, hq⟩ | ⟨i, hi, e, -, hq⟩
  · rw [e, rf_n, if_pos rfl, if_neg]; rcases hq with hq | hq <;> rw [hq] <;> decide
  · rw [e, rf_s sh i (by omega)]
    simp only [a42 h hi, ev_b, reduceCtorEq, if_false]
    rcases hq with ⟨h1, h2⟩ | ⟨h1, h2⟩ <;> rw [h1, h2] <;> decide
theorem alies (h : cA bx sh cr hb nS nC C σ) {i : Nat} (hi : i < nS) (z : Int32) : fX4_liesIn (sh i) C z = some (if ga σ 1 (90 + i) = 0 then (if ga σ 1 (70 + i) = z then 1 else 0) else 0) := by
  unfold fX4_liesIn
  simp only [a42 h hi, a41 h hi, ev_b]
  split
  · split <;> rfl
  · rfl
/-- the best of those that lie in a crab's cell -/
theorem lying_l (N : Nat) (h : cA bx sh cr hb nS nC C σ) (hI : Iv nS nC nH (ga σ 1)) {c : Nat} (hc : c < nC) : ∀ d k i (b : Int32), i + d = nS → d < k → (b = -1 ∨ ∃ j, j < nS ∧ b = nI j ∧ ga σ 1 (90 + j) = 0) → ∃ r, fX5_lying_L4 N (cr c) C k (rf sh b) (nI i) = some (rf sh r) ∧ fX3_lying_L5 N σ k (ga σ 1 (142 + c)) (ga σ 1 (130 + c)) b (nI i) = some r ∧ (r = -1 ∨ ∃ j, j < nS ∧ r = nI j ∧ ga σ 1 (90 + j) = 0) := by
  have h20 := hI.1.1
  have h0 := hI.1.2.2.2.1
  have hz := (hI.2.2.1 c hc).1
  intro d
  induction d with
  | zero =>
    intro k i b hid hk hb
    obtain ⟨k, rfl⟩ : ∃ k', k = k' + 1 := ⟨k - 1, by omega⟩
    have : i = nS := by omega
    subst this
    refine ⟨b, ?_, ?_, hb⟩
    · unfold fX5_lying_L4; simp only [a56 h hc, ar0 h, ai0 h, as0 h, ev_b, lp_end, if_true]
    · unfold fX3_lying_L5; simp only [ev_r0, h0, ev_b, lp_end, if_true]
  | succ d ih =>
    intro k i b hid hk hb
    obtain ⟨k, rfl⟩ : ∃ k', k = k' + 1 := ⟨k - 1, by omega⟩
    have hi : i < nS := by omega
    have IH := ih k (i + 1) b (by omega) (by omega) hb
    unfold fX5_lying_L4 fX3_lying_L5 fX3_lying_B47 fX3_lying_B48 fX3_lying_B81 fX3_lying_B76 fX5_lying_B78 fX5_lying_B93 fX3_lying_B82
    simp only [a56 h hc, ar0 h, ai0 h, as0 h, ag0 h hi, ac5 h hi, aq5 h hi, a46 h hc, a47 h hc, alies h hi, afs h hi, ev_b, lp_go hi (by omega : nS ≤ 1000), if_false, ev_r0, h0, m_rd1 σ _ i (by omega : 90 + i < 240), m_rd1 σ _ i (by omega : 70 + i < 240), fs_m hI hi hz, s_a1, if_true, ev_10]
    by_cases e1 : ga σ 1 (90 + i) = 0
    · simp only [e1, if_true]
      by_cases e2 : ga σ 1 (70 + i) = ga σ 1 (142 + c)
      · simp only [e2, if_true, ev_10, if_false]
        have upd := ih k (i + 1) (nI i) (by omega) (by omega) (.inr ⟨i, hi, rfl, e1⟩)
        rw [rf_s sh i (by omega)] at upd
        rcases hb with rfl | ⟨j, hj, rfl, ej⟩
        · simp only [rf_n, if_true]; exact upd
        · rw [rf_s sh j (by omega)] at IH ⊢
          simp only [reduceCtorEq, if_false, s_m1 j (by omega : j < 2147483648), aq5 h hj, afs h hj, fs_m hI hj hz, ev_b]
          by_cases e3 : fs σ i (ga σ 1 (130 + c)) ≤ fs σ j (ga σ 1 (130 + c))
          · simp only [e3, if_true]; exact IH
          · simp only [e3, if_false]; exact upd
      · simp only [e2, if_false, if_true]; exact IH
    · simp only [e1, if_false, if_true]; exact IH
theorem lying_op {N : Nat} (hN : 100 ≤ N) (h : cA bx sh cr hb nS nC C σ) (hI : Iv nS nC nH (ga σ 1)) {c : Nat} (hc : c < nC) : ∃ r, fX5_lying N (cr c) C = some (rf sh r) ∧ fX3_lying N σ (ga σ 1 (142 + c)) (ga σ 1 (130 + c)) = some r ∧ (r = -1 ∨ ∃ j, j < nS ∧ r = nI j ∧ ga σ 1 (90 + j) = 0) :=
  lying_l N h hI hc nS N 0 (-1) (by omega) (by have := hI.1.1; omega) (.inl rfl)
theorem free_of (hI : Iv nS nC nH (ga σ 1)) {j : Nat} (hj : j < nS) (e : ga σ 1 (90 + j) = 0) : ga σ 1 (110 + j) = -1 := by
  rcases hI.2.2.2.1 j hj with ⟨h1, -⟩ | ⟨c, hc, -, -, h2⟩
  · exact h1
  · exfalso; rcases h2 with h2 | h2 <;> rw [e] at h2 <;> revert h2 <;> decide
/-- a bare crab's tick -/
theorem bare1 {N : Nat} (hN : 100 ≤ N) (h : cA bx sh cr hb nS nC C σ) (hI : Iv nS nC nH (ga σ 1)) {c : Nat} (hc : c < nC) (e1 : ga σ 1 (166 + c) = 1) : ∃ C' σ', fX5_stepOn N (cr c) C = some (C', ()) ∧ fX3_bareTick N σ (nI c) = some σ' ∧ tr bx sh cr hb nS nC C σ C' σ' ∧ Iv nS nC nH (ga σ' 1) ∧ (∀ f a, f = 50 ∨ f = 51 ∨ f = 52 → xk_i C' f a = xk_i C f a) ∧ (∀ d, d < nC → (ga σ' 1 (166 + d) = 2 ↔ ga σ 1 (166 + d) = 2)) ∧ (∀ d, d < nC → ga σ' 1 (226 + d) = ga σ 1 (226 + d)) := by
  have h20 := hI.1.1
  have h12 := hI.1.2.1
  have rr : ∀ (s' : gm_S) b, b + c < 240 → gm_rd s' 1 (nI b + nI c) = some (ga s' 1 (b + c)) := fun s' b hb => m_rd1 s' b c hb
  have idt : tr bx sh cr hb nS nC C σ C σ := ⟨h, ⟨Fr.refl, rfl, rfl⟩, Mf.refl⟩
  unfold fX5_stepOn fX3_bareTick
  simp only [a53 h hc, aq6 h hc, ev_b, rr σ 178 (by omega), rr σ 142 (by omega), rr σ 130 (by omega), rr σ 190 (by omega)]
  rcases hI.2.2.2.2 c hc with ⟨e, -⟩ | ⟨k, hk, e, ek, hq⟩
  · simp only [e, rf_n, if_true]
    obtain ⟨r, f1, f2, hr⟩ := lying_op hN h hI hc
    rw [f1, f2]
    simp only [ev_b]
    rcases hr with rfl | ⟨j, hj, rfl, ej⟩
    · simp only [rf_n, if_true]
      exact ⟨_, _, rfl, rfl, idt, hI, fun f a _ => rfl, fun d _ => Iff.rfl, fun d _ => rfl⟩
    · rw [rf_s sh j (by omega), if_neg (by simp), if_neg (s_m1 j (by omega))]
      obtain ⟨C', σ', g1, g2, t, x, es⟩ := keep h hc hj
      rw [g1, g2]
      refine ⟨C', σ', rfl, rfl, t, ?_, fun f a hf => x f a (by omega) (by omega), ?_, ?_⟩
      · have hw := free_of hI hj ej
        by_cases c0 : ga σ 1 3 = 0
        · rw [es, if_pos c0]
          refine hI.upd ((hI.jr.att h20 h12 hc hj e hw (v := 1) (w := 0) (.inl ⟨rfl, rfl⟩)).eq (fun j hj => ⟨?_, ?_⟩) (fun d hd => ⟨?_, ?_⟩)) ⟨?_, ?_, ?_, ?_⟩ (fun j hj => ⟨?_, ?_, ?_⟩) (fun d hd => ⟨?_, ?_, ?_, ?_⟩)
          all_goals simp (disch := omega) only [gn, gr, va_up]
          · exact (hI.2.2.1 d hd).1
          · exact (hI.2.2.1 d hd).2.2.1
          · exact (hI.2.2.1 d hd).2.2.2.2
        · rw [es, if_neg c0]
          refine hI.upd ((hI.jr.att h20 h12 hc hj e hw (v := 2) (w := 1) (.inr ⟨rfl, rfl⟩)).eq (fun j hj => ⟨?_, ?_⟩) (fun d hd => ⟨?_, ?_⟩)) ⟨?_, ?_, ?_, ?_⟩ (fun j hj => ⟨?_, ?_, ?_⟩) (fun d hd => ⟨?_, ?_, ?_, ?_⟩)
          all_goals simp (disch := omega) only [gn, gr, va_up]
          · by_cases hdc : d = c
            · simp only [hdc, if_true]; exact e1
            · simp only [hdc, if_false]
          · exact (hI.2.2.1 d hd).1
          · exact (hI.2.2.1 d hd).2.2.1
          · exact (hI.2.2.1 d hd).2.2.2.2
      · intro d hd
        rw [es]
        by_cases c0 : ga σ 1 3 = 0
        · rw [if_pos c0]
          simp (disch := omega) only [gn, gr]
          by_cases hdc : d = c
          · subst hdc; simp [e1]
          · simp [hdc]
        · rw [if_neg c0]
          simp (disch := omega) only [gn, gr]
      · intro d hd
        rw [es]
        by_cases c0 : ga σ 1 3 = 0
        · rw [if_pos c0]; simp (disch := omega) only [gn, gr]
        · rw [if_neg c0]; simp (disch := omega) only [gn, gr]
  · have e' : rf sh (ga σ 1 (178 + c)) = some (sh k) := by rw [e, rf_s sh k (by omega)]
    have e3 : ¬ ga σ 1 (178 + c) = -1 := by rw [e]; exact s_m1 k (by omega)
    simp only [e', reduceCtorEq, e3, if_false, a48 h hc, ev_b, ev_pi _ _ _ _ (show xk_has (xk_k C (cr c)) 48 = true by rw [h.2.2.2.2.1.1 c hc]; rfl), m_wr1 σ _ c _ (by omega : 190 + c < 240), rr _ 190 (by omega), rr _ 178 (by omega), ge]
    have hA2 := wA48 h hc (ga σ 1 (190 + c) - 1)
    have t2 : tr bx sh cr hb nS nC C σ (xk_si C 48 (cr c) (ga σ 1 (190 + c) - 1)) (gm_sta σ 1 (190 + c) (ga σ 1 (190 + c) - 1)) := ⟨hA2, ⟨Fr.si Fr.refl _ _ _ (.inl (by decide)), rfl, rfl⟩, Mf.sta Mf.refl _ _ _ (by decide)⟩
    have q48 := a48 hA2 hc
    have q53 := a53 hA2 hc
    rw [gn _ _ _ (178 + c) (by omega), e'] at q53
    rw [ge] at q48
    simp only [q48, q53, aq6 hA2 hc, ev_b, gn σ (190 + c) (ga σ 1 (190 + c) - 1) (178 + c) (by omega), e]
    by_cases c0 : ga σ 1 (190 + c) - 1 = 0
    · simp only [c0, if_true] at hA2 t2 ⊢
      obtain ⟨C', σ', g1, g2, t, x, es⟩ := house hA2 hc hk
      rw [g1, g2]
      refine ⟨C', σ', rfl, rfl, t2.trans t, ?_, fun f a hf => by rw [x f a (by omega) (by omega), i_si, if_neg (by omega)], ?_, ?_⟩
      · rw [es]
        refine hI.upd ((hI.jr.hou h20 h12 hc hk e).eq (fun j hj => ⟨?_, ?_⟩) (fun d hd => ⟨?_, ?_⟩)) ⟨?_, ?_, ?_, ?_⟩ (fun j hj => ⟨?_, ?_, ?_⟩) (fun d hd => ⟨?_, ?_, ?_, ?_⟩)
        all_goals simp (disch := omega) only [gn, gr, va_up]
        · by_cases hjk : j = k
          · simp only [hjk, if_true]; exact ek.symm
          · simp only [hjk, if_false]
        · by_cases hdc : d = c
          · simp only [hdc, if_true]; exact e.symm
          · simp only [hdc, if_false]
        · exact (hI.2.2.1 d hd).1
        · exact (hI.2.2.1 d hd).2.2.1
        · exact (hI.2.2.1 d hd).2.2.2.2
      · intro d hd
        rw [es]
        simp (disch := omega) only [gn, gr]
        by_cases hdc : d = c
        · subst hdc; simp [e1]
        · simp [hdc]
      · intro d hd
        rw [es]; simp (disch := omega) only [gn, gr]
    · simp only [c0, if_false]
      refine ⟨_, _, rfl, rfl, t2, ?_, fun f a hf => by rw [i_si, if_neg (by omega)], fun d hd => by rw [gn _ _ _ _ (by omega)], fun d hd => by rw [gn _ _ _ _ (by omega)]⟩
      refine hI.upd (hI.jr.eq (fun j hj => ⟨?_, ?_⟩) (fun d hd => ⟨?_, ?_⟩)) ⟨?_, ?_, ?_, ?_⟩ (fun j hj => ⟨?_, ?_, ?_⟩) (fun d hd => ⟨?_, ?_, ?_, ?_⟩)
      all_goals simp (disch := omega) only [gn, gr]
      · exact (hI.2.2.1 d hd).1
      · exact (hI.2.2.1 d hd).2.2.1
      · exact (hI.2.2.1 d hd).2.2.2.2
end
end
section
/-! STAGE 2: a tick: others, asks, knocks -/
section
variable {bx : Nat} {sh cr hb : Nat → Nat} {nS nC nH : Nat} {cls : Nat → List (Nat × Nat × List Int32 × List (Nat × Nat))} {C : xk_C} {σ : gm_S}
theorem oE_34 (e : Nat) : oE bx 34 e = false := rfl
theorem oE_30 {w : Nat} (h : bx + 19 ≤ w) : oE bx 30 w = false := by
  unfold oE
  have : (w == bx + 4) = false := by rw [beq_eq_false_iff_ne]; omega
  rw [this]; rfl
theorem oC.pH {C' : xk_C} {σ' : gm_S} (o : oC bx sh cr hb nS nC nH C σ C' σ') (H : pH bx hb nH cls C σ) : pH bx hb nH cls C' σ' :=
  H.fr o.2.1.1 o.2.2 (by decide) (by decide) (fun e _ => oE_34 e) (fun w hw => oE_30 hw) (by decide) (by decide)
theorem other_l (N : Nat) (h : cR bx sh cr hb nS nC nH C σ) {c : Nat} (hc : c < nC) : ∀ d k i (b most : Int32), i + d = nC → d < k → (b = -1 ∨ ∃ j, j < nC ∧ b = nI j ∧ j ≠ c ∧ ga σ 1 (166 + j) = 0) → ∃ r, fX5_other_L9 N (cr c) C k (rf cr b) most (nI i) = some (rf cr r) ∧ fX3_otherOf_L11 N σ k (nI c) b most (nI i) = some r ∧ (r = -1 ∨ ∃ j, j < nC ∧ r = nI j ∧ j ≠ c ∧ ga σ 1 (166 + j) = 0) := by
  have hn := h.n12
  have hn2 := h.n20
  have hI := h.2.2
  have hz := (hI.2.2.1 c hc).1
  intro d
  induction d with
  | zero =>
    intro k i b most hid hk hb
    obtain ⟨k, rfl⟩ : ∃ k', k = k' + 1 := ⟨k - 1, by omega⟩
    have : i = nC := by omega
    subst this
    refine ⟨b, ?_, ?_, hb⟩
    · unfold fX5_other_L9; simp only [x56 h hc, xr3 h, xi3 h, xs3 h, ev_b, lp_end, if_true]
    · unfold fX3_otherOf_L11; simp only [ev_r1, h.v1, ev_b, lp_end, if_true]
  | succ d ih =>
    intro k i b most hid hk hb
    obtain ⟨k, rfl⟩ : ∃ k', k = k' + 1 := ⟨k - 1, by omega⟩
    have hi : i < nC := by omega
    have IH := ih k (i + 1) b most (by omega) (by omega) hb
    unfold fX5_other_L9 fX3_otherOf_L11 fX5_other_B100 fX3_otherOf_B119
    have ee : (some (cr i) = some (cr c)) = (i = c) := by
      apply propext; constructor
      · intro e; exact h.1.2.2.2.2.1.inj hn hi hc (Option.some.inj e)
      · intro e; rw [e]
    have en : (nI i = nI c) = (i = c) := propext (s_eq _ _ (by omega) (by omega))
    simp only [x56 h hc, xr3 h, xi3 h, xs3 h, xg3 h hi, xc6 h hi, xq6 h hi, hs_x h hi, x46 h hi, x46 h hc, x47 h hc, x53 h hi, ev_b, lp_go hi (by omega : nC ≤ 1000), if_false, ev_r1, h.v1, ee, en, hs_m σ (by omega : i < 12), m_rd1 σ _ i (by omega : 142 + i < 240), m_rd1 σ _ c (by omega : 142 + c < 240), m_rd1 σ _ i (by omega : 178 + i < 240), m_rd1 σ _ c (by omega : 130 + c < 240), s_a1]
    by_cases e : i = c
    · simp only [e, if_true]; rw [e] at IH; exact IH
    simp only [e, if_false]
    by_cases e0 : ga σ 1 (166 + i) = 0
    · obtain ⟨j, hj, j1, -, -⟩ := hsd hI hi e0
      simp only [hs_1 e0, ev_10, if_false, j1, rf_s sh j (by omega : j < 2147483648), xq5 h hj, fs_x h hj, fs_m hI hj hz, ev_b]
      by_cases e2 : ga σ 1 (142 + i) = ga σ 1 (142 + c)
      · simp only [e2, if_true]
        by_cases e3 : most < fs σ j (ga σ 1 (130 + c))
        · simp only [e3, if_true, Int32.not_le.mpr e3, if_false]
          have upd := ih k (i + 1) (nI i) (fs σ j (ga σ 1 (130 + c))) (by omega) (by omega) (.inr ⟨i, hi, rfl, e, e0⟩)
          rw [rf_s cr i (by omega)] at upd
          exact upd
        · simp only [e3, if_false, Int32.not_lt.mp e3, if_true]; exact IH
      · simp only [e2, if_false]; exact IH
    · simp only [hs_0 e0, if_true]; exact IH
theorem other_op {N : Nat} (hN : 100 ≤ N) (h : cR bx sh cr hb nS nC nH C σ) {c : Nat} (hc : c < nC) : ∃ r, fX5_other N (cr c) C = some (rf cr r) ∧ fX3_otherOf N σ (nI c) = some r ∧ (r = -1 ∨ ∃ j, j < nC ∧ r = nI j ∧ j ≠ c ∧ ga σ 1 (166 + j) = 0) := by
  unfold fX5_other fX3_otherOf
  rw [xq6 h hc, ev_b, ow_x h hc, ev_b, ow_m h.2.2 hc, ev_b]
  exact other_l N h hc nC N 0 (-1) _ (by omega) (by have := h.n12; omega) (.inl rfl)
/-- what asking leaves -/
def oA (bx : Nat) (sh cr hb : Nat → Nat) (nS nC nH : Nat) (C : xk_C) (σ : gm_S) (C' : xk_C) (σ' : gm_S) : Prop := cR bx sh cr hb nS nC nH C' σ' ∧ (Fr hI [] (fun _ _ => false) C C' ∧ xk_n C' = xk_n C ∧ xk_s C' = xk_s C) ∧ Mf [] [16, 19] σ σ'
theorem oA.oC {C' : xk_C} {σ' : gm_S} (o : oA bx sh cr hb nS nC nH C σ C' σ') : oC bx sh cr hb nS nC nH C σ C' σ' :=
  ⟨o.1, ⟨o.2.1.1.mono (by decide) (by decide) (fun _ _ _ => rfl), o.2.1.2⟩, o.2.2.mono (by decide) (by decide)⟩
theorem oA.row {C' : xk_C} {σ' : gm_S} (o : oA bx sh cr hb nS nC nH C σ C' σ') (j : Nat) : ga σ' 1 j = ga σ 1 j := o.2.2.2 1 (by decide) j
theorem cR.oA {C' : xk_C} {σ' : gm_S} (h : cR bx sh cr hb nS nC nH C σ) (F : Fr hI [] (fun _ _ => false) C C' ∧ xk_n C' = xk_n C ∧ xk_s C' = xk_s C) (M : Mf [] [16, 19] σ σ') : oA bx sh cr hb nS nC nH C σ C' σ' :=
  ⟨h.fr F.1 (fun j => M.2 1 (by decide) j) (by decide) (by decide) (fun _ _ => rfl) rfl, F, M⟩
theorem asks_l {N : Nat} (hN : 200 ≤ N) (R : cR bx sh cr hb nS nC nH C σ) (H : pH bx hb nH cls C σ) {c : Nat} (hc : c < nC) (w g o n : Int32) : ∃ x C' σ', fX5_holds N (cr c) C w g o n = some (C', x) ∧ fX3_asks N σ (nI c) w g o n = some (σ', x) ∧ oA bx sh cr hb nS nC nH C σ C' σ' := by
  have hn := R.n12
  have n8 := R.n8
  unfold fX5_holds fX3_asks
  rw [m_rd1 _ _ _ (by omega), ev_b, ow_m R.2.2 hc, ev_b, m_rd1 _ _ _ (by omega), ev_b, x55 R hc, ev_b]
  rcases (R.2.2.2.2.1 c hc).2.2.2.1 with e | ⟨h, hh, e⟩
  · rw [e, rf_n, if_pos rfl]
    obtain ⟨σ1, e1, M1, -⟩ := stands_w σ (ow σ c + nI 50) (g + nI 50) (ga σ 1 (130 + c)) o n
    rw [holdsFor_eq N σ _ _ _ _ _ _ _ σ1 e1, if_pos rfl, ev_b]
    exact ⟨0, C, σ1, rfl, rfl, R.oA ⟨Fr.refl, rfl, rfl⟩ (M1.mono (fun _ h => h) (by decide))⟩
  · rw [e, rf_s hb h (by omega), if_neg (by simp), ev_b, xq6 R hc, ev_b, ow_x R hc, ev_b, x47 R hc, ev_b, g_is (H.2.2.2.1 h hh).1.1.1, ev_b]
    obtain ⟨x, C', σ', hx, f1, f2, F, M⟩ := holds_l hN R H hh w (ow σ c + nI 50) (g + nI 50) (ga σ 1 (130 + c)) o n
    rw [f1, f2, ev_b, ev_b]
    refine ⟨x, C', σ', ?_, ?_, R.oA F M⟩
    · rcases hx with rfl | rfl <;> rfl
    · rcases hx with rfl | rfl <;> rfl
theorem k01 (y0 y1 : Int32) (h0 : y0 = 0 ∨ y0 = 1) (h1 : y1 = 0 ∨ y1 = 1) : ∃ j, j < 3 ∧ (2 : Int32) - (y1 + y0) = nI j ∧ nI 7 - (y1 + y0) = nI (5 + j) := by
  rcases h0 with rfl | rfl <;> rcases h1 with rfl | rfl
  · exact ⟨2, by omega, by decide, by decide⟩
  · exact ⟨1, by omega, by decide, by decide⟩
  · exact ⟨1, by omega, by decide, by decide⟩
  · exact ⟨0, by omega, by decide, by decide⟩
/-- two crabs change their shells -/
theorem swap_l (N : Nat) (h : cR bx sh cr hb nS nC nH C σ) {c d : Nat} (hc : c < nC) (hd : d < nC) (hcd : c ≠ d) (ec : ga σ 1 (166 + c) = 0) (ed : ga σ 1 (166 + d) = 0) {y0 y1 : Int32} (h0 : y0 = 0 ∨ y0 = 1) (h1 : y1 = 0 ∨ y1 = 1) : ∃ C' σ', fX5_knockAt_B122 N (cr c) C (some (cr d)) y0 y1 = some (C', ()) ∧ fX3_knocks_B195 N σ (nI c) (nI d) (ga σ 1 (178 + c)) (ga σ 1 (178 + d)) y0 y1 = some σ' ∧ oC bx sh cr hb nS nC nH C σ C' σ' ∧ ∀ e, e < nC → ga σ' 1 (226 + e) = ga σ 1 (226 + e) := by
  have hn := h.n12
  have hn2 := h.n20
  have hI := h.2.2
  have hF := h.2.1
  obtain ⟨j, hj, j1, j2⟩ := k01 y0 y1 h0 h1
  obtain ⟨a, ha, ea, -, -⟩ := hsd hI hc ec
  obtain ⟨b, hb', eb, -, -⟩ := hsd hI hd ed
  have k4 := h.1.1.2.2.1.2.2.2.1
  have l4 := h.1.1.2.2.2.2.1
  have r7 := h.1.1.2.1.2.2.2.1
  have kB := h.kB
  have B7 := h.1.2.2.2.2.2.1.2.2.2 j hj
  unfold fX5_knockAt_B122 fX3_knocks_B195
  rw [j1, j2, ea, eb, x56 h hc, ev_b, g_r kB rfl, r7, ev_b, g_ld (t := 0) k4 (by rw [l4]; exact hj) (by omega), ev_b, p_st k4 (by rw [l4]; exact hj) (by omega), ev_b, B7, m_rd σ (k := 1) (j := 5 + j) (show 5 + j < 240 by omega) (by omega), ev_b, m_wr σ (k := 1) (j := 5 + j) _ (show 5 + j < 240 by omega) (by omega), ev_b]
  have hA1 := wA7 h.1 hj (ga σ 1 (5 + j) + 1)
  have t1 : tr bx sh cr hb nS nC C σ (xk_se C (bx + 4) j (ga σ 1 (5 + j) + 1)) (gm_sta σ 1 (5 + j) (ga σ 1 (5 + j) + 1)) := ⟨hA1, ⟨Fr.se Fr.refl _ _ _ (.inl (by rw [k4]; unfold oE; simp)), rfl, rfl⟩, Mf.sta Mf.refl _ _ _ (by decide)⟩
  have q1 := a53 hA1 hc
  have q2 := a53 hA1 hd
  rw [gn _ _ _ _ (by omega), ea, rf_s sh a (by omega)] at q1
  rw [gn _ _ _ _ (by omega), eb, rf_s sh b (by omega)] at q2
  rw [q1, ev_b, q2, ev_b, aq6 hA1 hc, ev_b]
  obtain ⟨C2, σ2, f2, g2, t2, x2, es2⟩ := house hA1 hc hb'
  rw [f2, ev_b, g2, ev_b, aq6 t2.1 hd, ev_b]
  obtain ⟨C3, σ3, f3, g3, t3, x3, es3⟩ := house t2.1 hd ha
  have hA4 := wA54 (wA49 t3.1 hc 0) hc (-1)
  rw [f3, ev_b, g3, ev_b, p_i (k := 6) (t3.1.2.2.2.2.1.1 c hc) rfl, ev_b, p_r (C := xk_si C3 49 (cr c) 0) (k := 6) (t3.1.2.2.2.2.1.1 c hc) rfl, ev_b, m_wr1 _ _ _ _ (by omega), ev_b, m_wr1 _ _ _ _ (by omega), ev_b]
  have t4 : tr bx sh cr hb nS nC C3 σ3 (xk_sr (xk_si C3 49 (cr c) 0) 54 (cr c) none) (gm_sta (gm_sta σ3 1 (202 + c) 0) 1 (214 + c) (-1)) := ⟨hA4, ⟨Fr.sr (Fr.si Fr.refl _ _ _ (.inl (by decide))) _ _ _ (.inl (by decide)) (by decide), rfl, rfl⟩, Mf.sta (Mf.sta Mf.refl _ _ _ (by decide)) _ _ _ (by decide)⟩
  have tt := ((t1.trans t2).trans t3).trans t4
  have hab : a ≠ b := by
    intro e
    have w1 : ga σ 1 (110 + a) = nI c := by
      rcases hI.2.2.2.2 c hc with ⟨q, -⟩ | ⟨i, hi, q, q', -⟩
      · rw [ea] at q; exact absurd q (s_m1 a (by omega))
      · rw [ea, s_eq _ _ (by omega) (by omega)] at q; rw [q]; exact q'
    have w2 : ga σ 1 (110 + b) = nI d := by
      rcases hI.2.2.2.2 d hd with ⟨q, -⟩ | ⟨i, hi, q, q', -⟩
      · rw [eb] at q; exact absurd q (s_m1 b (by omega))
      · rw [eb, s_eq _ _ (by omega) (by omega)] at q; rw [q]; exact q'
    rw [e, w2, s_eq _ _ (by omega) (by omega)] at w1
    exact hcd w1.symm
  refine ⟨_, _, rfl, rfl, ⟨⟨tt.1, ?_, ?_⟩, tt.2⟩, ?_⟩
  · have xx : ∀ f e, f = 50 ∨ f = 51 ∨ f = 52 → xk_i (xk_sr (xk_si C3 49 (cr c) 0) 54 (cr c) none) f e = xk_i C f e := fun f e hf => by
      rw [i_sr, i_si, if_neg (by omega), x3 f e (by omega) (by omega), x2 f e (by omega) (by omega)]; rfl
    rw [es3, es2]
    refine ⟨fun e he => ?_, fun e he => ?_, fun e he => ?_⟩
    · rw [xx _ _ (.inl rfl), hF.1 e he]
      simp (disch := omega) only [gn, gr]
      by_cases e1 : e = c
      · subst e1; simp [hcd, ec]
      · by_cases e2 : e = d
        · subst e2; simp [ed]
        · simp [e1, e2]
    · rw [xx _ _ (.inr (.inl rfl)), hF.2.1 e he]
      simp (disch := omega) only [gn, gr]
    · rw [xx _ _ (.inr (.inr rfl)), hF.2.2 e he]
      simp (disch := omega) only [gn, gr]
  · rw [es3, es2]
    have J1 := hI.jr.det hn2 hn hc ha ea (v := 0) (w := 1) (by decide) (by decide)
    have J2 := J1.det hn2 hn (c := d) (k := b) hd hb' (by unfold va_up; rw [if_neg (Ne.symm hcd)]; exact eb) (v := 0) (w := 1) (by decide) (by decide)
    have J3 := J2.att hn2 hn (c := c) (k := b) hc hb' (by unfold va_up; rw [if_neg hcd, if_pos rfl]) (by unfold va_up; rw [if_pos rfl]) (v := 1) (w := 0) (.inl ⟨rfl, rfl⟩)
    have J4 := J3.att hn2 hn (c := d) (k := a) hd ha (by unfold va_up; rw [if_neg (Ne.symm hcd), if_pos rfl]) (by unfold va_up; rw [if_neg hab, if_neg hab, if_pos rfl]) (v := 1) (w := 0) (.inl ⟨rfl, rfl⟩)
    refine hI.upd (J4.eq (fun j hj => ⟨?_, ?_⟩) (fun e he => ⟨?_, ?_⟩)) ⟨?_, ?_, ?_, ?_⟩ (fun j hj => ⟨?_, ?_, ?_⟩) (fun e he => ⟨?_, ?_, ?_, ?_⟩)
    all_goals simp (disch := omega) only [gn, gr, va_up]
    · by_cases q1 : j = a
      · simp [q1]
      · by_cases q2 : j = b
        · simp [q2]
        · simp [q1, q2]
    · by_cases q1 : j = a
      · simp [q1]
      · by_cases q2 : j = b
        · simp [q1, q2]
        · simp [q1, q2]
    · by_cases q1 : e = c
      · simp [q1, hcd]
      · by_cases q2 : e = d
        · simp [q2]
        · simp [q1, q2]
    · by_cases q1 : e = c
      · simp [q1, hcd]
      · by_cases q2 : e = d
        · simp [q2]
        · simp [q1, q2]
    · exact (hI.2.2.1 e he).1
    · exact (hI.2.2.1 e he).2.2.1
    · by_cases q1 : e = c
      · simp only [q1, if_true]; exact .inl rfl
      · simp only [q1, if_false]; exact (hI.2.2.1 e he).2.2.2.2
  · intro e he
    rw [es3, es2]
    simp (disch := omega) only [gn, gr]
end
end
section
/-! STAGE 2: a tick: those that are housed; the whole tick -/
section
variable {bx : Nat} {sh cr hb : Nat → Nat} {nS nC nH : Nat} {cls : Nat → List (Nat × Nat × List Int32 × List (Nat × Nat))} {C : xk_C} {σ : gm_S}
/-- a crab knocks at another -/
theorem knock_l {N : Nat} (hN : 200 ≤ N) (R : cR bx sh cr hb nS nC nH C σ) (H : pH bx hb nH cls C σ) {c d : Nat} (hc : c < nC) (hd : d < nC) (hcd : c ≠ d) (ec : ga σ 1 (166 + c) = 0) (ed : ga σ 1 (166 + d) = 0) (eD : ga σ 1 (226 + c) = 0) : ∃ C' σ', fX5_knockAt N (cr c) C (some (cr d)) = some (C', ()) ∧ fX3_knocks N σ (nI c) (nI d) = some σ' ∧ oC bx sh cr hb nS nC nH C σ C' σ' ∧ ∀ e, e < nC → e ≠ c → ga σ' 1 (226 + e) = ga σ 1 (226 + e) := by
  have hn := R.n12
  have hn2 := R.n20
  have hI := R.2.2
  have k6 := R.1.2.2.2.2.1.1 c hc
  have rd : ∀ (s' : gm_S) b e, b + e < 240 → gm_rd s' 1 (nI b + nI e) = some (ga s' 1 (b + e)) := fun s' b e hb => m_rd1 s' b e hb
  have wr : ∀ (s' : gm_S) b e v, b + e < 240 → gm_wr s' 1 (nI b + nI e) v = some (gm_sta s' 1 (b + e) v) := fun s' b e v hb => m_wr1 s' b e v hb
  -- behind the first writes
  have key : ∀ y0 : Int32, ∃ C' σ', fX5_knockAt_B24 N (cr c) (xk_si C 52 (cr c) 1) (some (cr d)) y0 = some (C', ()) ∧ fX3_knocks_B39 N σ (nI c) (nI d) y0 (nI 202 + nI c) = some σ' ∧ oC bx sh cr hb nS nC nH C σ C' σ' ∧ ∀ e, e < nC → e ≠ c → ga σ' 1 (226 + e) = ga σ 1 (226 + e) := by
    intro y0
    have R1 : cR bx sh cr hb nS nC nH (xk_sr (xk_si (xk_si C 52 (cr c) 1) 49 (cr c) y0) 54 (cr c) (some (cr d))) (gm_sta (gm_sta (gm_sta σ 1 (202 + c) y0) 1 (214 + c) (nI d)) 1 (226 + c) 2) := by
      have hA1 := wAdid (wA54 (wA49 (wA52 R.1 (cr c) 1) hc y0) hc (nI d)) hc 2
      rw [rf_s cr d (by omega)] at hA1
      refine ⟨hA1, ⟨fun e he => ?_, fun e he => ?_, fun e he => ?_⟩, ?_⟩
      · rw [i_sr, i_si, if_neg (by omega), i_si, if_neg (by omega), R.2.1.1 e he]
        simp (disch := omega) only [gn, gr]
      · rw [i_sr, i_si, if_neg (by omega), i_si, if_neg (by omega), R.2.1.2.1 e he]
        simp (disch := omega) only [gn, gr]
        by_cases q : e = c
        · subst q; simp [eD]
        · simp [q]
      · rw [i_sr, i_si, if_neg (by omega), i_si]
        simp (disch := omega) only [gn, gr]
        by_cases q : e = c
        · subst q; simp
        · rw [if_neg (fun h => q (R.1.2.2.2.2.1.inj hn he hc h.2)), R.2.1.2.2 e he]; simp [q]
      · refine hI.upd (hI.jr.eq (fun j hj => ⟨?_, ?_⟩) (fun e he => ⟨?_, ?_⟩)) ⟨?_, ?_, ?_, ?_⟩ (fun j hj => ⟨?_, ?_, ?_⟩) (fun e he => ⟨?_, ?_, ?_, ?_⟩)
        all_goals simp (disch := omega) only [gn, gr]
        · exact (hI.2.2.1 e he).1
        · by_cases q : e = c
          · simp [q]
          · simp only [q, if_false]; exact (hI.2.2.1 e he).2.2.1
        · by_cases q : e = c
          · simp only [q, if_true]; exact .inr ⟨d, hd, rfl⟩
          · simp only [q, if_false]; exact (hI.2.2.1 e he).2.2.2.2
    have o1 : oC bx sh cr hb nS nC nH C σ (xk_sr (xk_si (xk_si C 52 (cr c) 1) 49 (cr c) y0) 54 (cr c) (some (cr d))) (gm_sta (gm_sta (gm_sta σ 1 (202 + c) y0) 1 (214 + c) (nI d)) 1 (226 + c) 2) := ⟨R1, ⟨Fr.sr (Fr.si (Fr.si Fr.refl _ _ _ (.inl (by decide))) _ _ _ (.inl (by decide))) _ _ _ (.inl (by decide)) (by decide), rfl, rfl⟩, Mf.sta (Mf.sta (Mf.sta Mf.refl _ _ _ (by decide)) _ _ _ (by decide)) _ _ _ (by decide)⟩
    have dd : ∀ e, e < nC → e ≠ c → ga (gm_sta (gm_sta (gm_sta σ 1 (202 + c) y0) 1 (214 + c) (nI d)) 1 (226 + c) 2) 1 (226 + e) = ga σ 1 (226 + e) := fun e he q => by
      simp (disch := omega) only [gn, gr]
    have ec1 : ga (gm_sta (gm_sta (gm_sta σ 1 (202 + c) y0) 1 (214 + c) (nI d)) 1 (226 + c) 2) 1 (166 + c) = 0 := by simp (disch := omega) only [gn, gr]; exact ec
    have ed1 : ga (gm_sta (gm_sta (gm_sta σ 1 (202 + c) y0) 1 (214 + c) (nI d)) 1 (226 + c) 2) 1 (166 + d) = 0 := by simp (disch := omega) only [gn, gr]; exact ed
    unfold fX5_knockAt_B24 fX3_knocks_B39
    rw [p_i (C := xk_si C 52 (cr c) 1) (k := 6) k6 rfl, ev_b, p_r (C := xk_si (xk_si C 52 (cr c) 1) 49 (cr c) y0) (k := 6) k6 rfl, ev_b, wr _ 202 c _ (by omega), ev_b, wr _ 214 c _ (by omega), ev_b, wr _ 226 c _ (by omega), ev_b]
    generalize xk_sr (xk_si (xk_si C 52 (cr c) 1) 49 (cr c) y0) 54 (cr c) (some (cr d)) = C1 at *
    generalize gm_sta (gm_sta (gm_sta σ 1 (202 + c) y0) 1 (214 + c) (nI d)) 1 (226 + c) 2 = σ1 at *
    have H1 := o1.pH H
    obtain ⟨a, ha, ea, oa, za⟩ := hsd R1.2.2 hc ec1
    obtain ⟨b, hb', eb, ob, zb⟩ := hsd R1.2.2 hd ed1
    rw [rd _ 178 c (by omega), ev_b, rd _ 130 d (by omega), ev_b, rd _ 130 c (by omega), rd _ 202 c (by omega), ea, fs_m R1.2.2 ha zb, ev_b, ev_b, ev_b]
    rw [x53 R1 hc, ev_b, x47 R1 hd, ev_b, ea, rf_s sh a (by omega), xq5 R1 ha, ev_b, fs_x R1 ha, ev_b, x47 R1 hc, ev_b, x49 R1 hc, ev_b, xq6 R1 hd, ev_b]
    obtain ⟨x, C2, σ2, f1, f2, o2⟩ := asks_l hN R1 H1 hd 2 (fs σ1 a (ga σ1 1 (130 + d))) (ga σ1 1 (130 + c)) (ga σ1 1 (202 + c))
    rw [f1, f2, ev_b, ev_b]
    have R2 := o2.1
    have o12 := o1.trans o2.oC
    by_cases x0 : x = 0
    · simp only [if_pos x0]
      exact ⟨C2, σ2, rfl, rfl, o12, fun e he q => by rw [o2.row, dd e he q]⟩
    · simp only [if_neg x0]
      have ec2 : ga σ2 1 (166 + c) = 0 := by rw [o2.row]; exact ec1
      have ed2 : ga σ2 1 (166 + d) = 0 := by rw [o2.row]; exact ed1
      have ea2 : ga σ2 1 (178 + c) = nI a := by rw [o2.row]; exact ea
      have eb2 : ga σ2 1 (178 + d) = nI b := by rw [o2.row]; exact eb
      obtain ⟨a', ha', ea', oa2, za2⟩ := hsd R2.2.2 hc ec2
      obtain ⟨b', hb2, eb', ob2, zb2⟩ := hsd R2.2.2 hd ed2
      have : a' = a := by rw [ea2, s_eq _ _ (by omega) (by omega)] at ea'; exact ea'.symm
      subst this
      have : b' = b := by rw [eb2, s_eq _ _ (by omega) (by omega)] at eb'; exact eb'.symm
      subst this
      have fb : fX3_fitFor σ2 (ga σ2 1 (178 + d)) (ga σ2 1 (130 + c)) = some (fs σ2 b' (ga σ2 1 (130 + c))) := by rw [eb2]; exact fs_m R2.2.2 hb' za2
      have xb : rf sh (ga σ2 1 (178 + d)) = some (sh b') := by rw [eb2, rf_s sh b' (by omega)]
      have xa : rf sh (ga σ2 1 (178 + c)) = some (sh a') := by rw [ea2, rf_s sh a' (by omega)]
      simp only [rd σ2 178 c (by omega), rd σ2 178 d (by omega), rd σ2 130 c (by omega), ow_m R2.2.2 hc, oa2, x53 R2 hd, x53 R2 hc, x47 R2 hc, ev_b, fb, xb, xa, xq5 R2 hb', fs_x R2 hb', xq5 R2 ha, fs_x R2 ha]
      have fin : ∀ y : Int32, y = 0 ∨ y = 1 → ∃ C' σ', fX5_knockAt_B90 N (cr c) C2 (some (cr d)) y = some (C', ()) ∧ fX3_knocks_B167 N σ2 (nI c) (nI d) (ga σ2 1 (178 + c)) (ga σ2 1 (178 + d)) y = some σ' ∧ oC bx sh cr hb nS nC nH C σ C' σ' ∧ ∀ e, e < nC → e ≠ c → ga σ' 1 (226 + e) = ga σ 1 (226 + e) := by
        intro y hy
        unfold fX5_knockAt_B90 fX3_knocks_B167
        have fa : fX3_fitFor σ2 (ga σ2 1 (178 + c)) (ga σ2 1 (130 + d)) = some (fs σ2 a' (ga σ2 1 (130 + d))) := by rw [ea2]; exact fs_m R2.2.2 ha zb2
        simp only [rd σ2 130 d (by omega), fa, ow_m R2.2.2 hd, ob2, x53 R2 hc, x53 R2 hd, x47 R2 hd, xa, xb, xq5 R2 ha, fs_x R2 ha, xq5 R2 hb', fs_x R2 hb', ev_b]
        by_cases le : fs σ2 a' (ga σ2 1 (130 + d)) ≤ fs σ2 b' (ga σ2 1 (130 + d))
        · rw [if_pos le, if_pos le]
          obtain ⟨C3, σ3, g1, g2, o3, dd3⟩ := swap_l N R2 hc hd hcd ec2 ed2 (y0 := 0) (y1 := y) (.inl rfl) hy
          exact ⟨C3, σ3, g1, g2, o12.trans o3, fun e he q => by rw [dd3 e he, o2.row, dd e he q]⟩
        · rw [if_neg le, if_neg le]
          obtain ⟨C3, σ3, g1, g2, o3, dd3⟩ := swap_l N R2 hc hd hcd ec2 ed2 (y0 := 1) (y1 := y) (.inr rfl) hy
          exact ⟨C3, σ3, g1, g2, o12.trans o3, fun e he q => by rw [dd3 e he, o2.row, dd e he q]⟩
      by_cases le : fs σ2 b' (ga σ2 1 (130 + c)) ≤ fs σ2 a' (ga σ2 1 (130 + c))
      · rw [if_pos le, if_pos le]; exact fin 0 (.inl rfl)
      · rw [if_neg le, if_neg le]; exact fin 1 (.inr rfl)
  unfold fX5_knockAt fX3_knocks
  have q54 : xk_gr (xk_si C 52 (cr c) 1) 54 (some (cr c)) = some (rf cr (ga σ 1 (214 + c))) := by rw [g_r (C := xk_si C 52 (cr c) 1) (k := 6) k6 rfl, r_si, R.1.2.2.2.2.1.2.2.2.2.2.2.2.2.1 c hc]
  have q49 : xk_gi (xk_si C 52 (cr c) 1) 49 (some (cr c)) = some (ga σ 1 (202 + c)) := by rw [g_i (C := xk_si C 52 (cr c) 1) (k := 6) k6 rfl, wi1 (f' := 52) rfl (by decide), R.1.2.2.2.2.1.2.2.2.2.2.2.1 c hc]
  simp only [p_z (v := 1) k6 (show xk_has 6 52 = true from rfl) (.inr rfl), q54, q49, rd σ 214 c (by omega), rd σ 202 c (by omega), ev_b]
  have ee : (rf cr (ga σ 1 (214 + c)) = some (cr d)) = (ga σ 1 (214 + c) = nI d) := by
    apply propext
    rcases (hI.2.2.1 c hc).2.2.2.2 with e | ⟨i, hi, e⟩
    · rw [e, rf_n]
      constructor
      · intro h; cases h
      · intro h; exact absurd h.symm (s_m1 d (by omega))
    · rw [e, rf_s cr i (by omega), s_eq _ _ (by omega) (by omega)]
      constructor
      · intro h; exact R.1.2.2.2.2.1.inj hn hi hd (Option.some.inj h)
      · intro h; rw [h]
  simp only [ee]
  by_cases q : ga σ 1 (214 + c) = nI d
  · simp only [if_pos q]; exact key _
  · simp only [if_neg q]; exact key 1
end
end
section
/-! STAGE 2: a housed crab's tick; the whole tick -/
section
variable {bx : Nat} {sh cr hb : Nat → Nat} {nS nC nH : Nat} {cls : Nat → List (Nat × Nat × List Int32 × List (Nat × Nat))} {C : xk_C} {σ : gm_S}
/-- what an act leaves -/
def oK (bx : Nat) (sh cr hb : Nat → Nat) (nS nC nH c : Nat) (C : xk_C) (σ : gm_S) (C' : xk_C) (σ' : gm_S) : Prop := oC bx sh cr hb nS nC nH C σ C' σ' ∧ ∀ e, e < nC → e ≠ c → ga σ' 1 (226 + e) = ga σ 1 (226 + e)
theorem waits0 (R : cR bx sh cr hb nS nC nH C σ) {c : Nat} (hc : c < nC) (eD : ga σ 1 (226 + c) = 0) : cR bx sh cr hb nS nC nH (xk_si C 51 (cr c) 0) σ := by
  have hn := R.n12
  refine ⟨wA51 R.1 _ _, ⟨fun e he => wi1 (R.2.1.1 e he) (by decide), fun e he => ?_, fun e he => wi1 (R.2.1.2.2 e he) (by decide)⟩, R.2.2⟩
  rw [i_si]
  by_cases q : e = c
  · subst q; rw [if_pos ⟨rfl, rfl⟩, eD]; rfl
  · rw [if_neg (fun h => q (R.1.2.2.2.2.1.inj hn he hc h.2))]; exact R.2.1.2.1 e he
theorem waits1 (R : cR bx sh cr hb nS nC nH C σ) {c : Nat} (hc : c < nC) (eD : ga σ 1 (226 + c) = 0) : cR bx sh cr hb nS nC nH (xk_si C 51 (cr c) 1) (gm_sta σ 1 (226 + c) 1) := by
  have hn := R.n12
  have hn2 := R.n20
  have hI := R.2.2
  refine ⟨wAdid (wA51 R.1 _ _) hc 1, ⟨fun e he => ?_, fun e he => ?_, fun e he => ?_⟩, ?_⟩
  · rw [i_si, if_neg (by omega), R.2.1.1 e he]; simp (disch := omega) only [gn, gr]
  · rw [i_si]
    simp (disch := omega) only [gn, gr]
    by_cases q : e = c
    · subst q; simp
    · rw [if_neg (fun h => q (R.1.2.2.2.2.1.inj hn he hc h.2)), R.2.1.2.1 e he]; simp [q]
  · rw [i_si, if_neg (by omega), R.2.1.2.2 e he]
    simp (disch := omega) only [gn, gr]
    by_cases q : e = c
    · subst q; simp [eD]
    · simp [q]
  · refine hI.upd (hI.jr.eq (fun j hj => ⟨?_, ?_⟩) (fun e he => ⟨?_, ?_⟩)) ⟨?_, ?_, ?_, ?_⟩ (fun j hj => ⟨?_, ?_, ?_⟩) (fun e he => ⟨?_, ?_, ?_, ?_⟩)
    all_goals simp (disch := omega) only [gn, gr]
    · exact (hI.2.2.1 e he).1
    · by_cases q : e = c
      · simp [q]
      · simp only [q, if_false]; exact (hI.2.2.1 e he).2.2.1
    · exact (hI.2.2.1 e he).2.2.2.2
/-- the last of an act: whether it waits -/
theorem wait_l {N : Nat} (hN : 200 ≤ N) (R : cR bx sh cr hb nS nC nH C σ) (H : pH bx hb nH cls C σ) {c : Nat} (hc : c < nC) (eD : ga σ 1 (226 + c) = 0) (r y : Int32) (hr : r = -1 ∨ ∃ j, j < nS ∧ r = nI j ∧ y = fs σ j (ga σ 1 (130 + c))) : ∃ C' σ', fX5_act_B111 N (cr c) C (rf sh r) = some (C', ()) ∧ fX3_housedTick_B215 N σ (nI c) r y = some σ' ∧ oK bx sh cr hb nS nC nH c C σ C' σ' := by
  have hn := R.n12
  have hn2 := R.n20
  have k6 := R.1.2.2.2.2.1.1 c hc
  unfold fX5_act_B111 fX3_housedTick_B215 fX5_act_B138 fX5_act_B139
  have z0 : ∀ (C' : xk_C) (σ' : gm_S), oC bx sh cr hb nS nC nH C σ C' σ' → (∀ j, ga σ' 1 j = ga σ 1 j) → oK bx sh cr hb nS nC nH c C σ (xk_si C' 51 (cr c) 0) σ' := fun C' σ' o e => ⟨⟨waits0 o.1 hc (by rw [e]; exact eD), ⟨Fr.si o.2.1.1 _ _ _ (.inl (by decide)), o.2.1.2⟩, o.2.2⟩, fun e' _ _ => by rw [e]⟩
  rcases hr with rfl | ⟨j, hj, rfl, ey⟩
  · rw [rf_n, if_pos rfl, if_pos rfl, p_z k6 rfl (.inl rfl), ev_b]
    exact ⟨_, _, rfl, rfl, z0 C σ (oC.id R) (fun _ => rfl)⟩
  · rw [rf_s sh j (by omega), if_neg (by simp), if_neg (s_m1 j (by omega)), x47 R hc, ev_b, xq5 R hj, ev_b, fs_x R hj, ev_b, xq6 R hc, ev_b, ey]
    obtain ⟨x, C2, σ2, f1, f2, o2⟩ := asks_l hN R H hc 3 (fs σ j (ga σ 1 (130 + c))) 0 0
    rw [f1, f2, ev_b, ev_b]
    have k62 := o2.1.1.2.2.2.2.1.1 c hc
    by_cases x0 : x = 0
    · simp only [if_pos x0]
      rw [p_z k62 rfl (.inl rfl), ev_b]
      exact ⟨_, _, rfl, rfl, z0 C2 σ2 o2.oC o2.row⟩
    · simp only [if_neg x0]
      rw [p_z k62 rfl (.inr rfl), ev_b, m_wr1 _ _ _ _ (by omega), ev_b]
      refine ⟨_, _, rfl, rfl, ⟨waits1 o2.1 hc (by rw [o2.row]; exact eD), ⟨Fr.si o2.oC.2.1.1 _ _ _ (.inl (by decide)), o2.oC.2.1.2⟩, o2.oC.2.2.sta _ _ _ (by decide)⟩, fun e he q => ?_⟩
      rw [gn _ _ _ _ (by omega), o2.row]
/-- the second part of an act: knocking -/
theorem knocks_l {N : Nat} (hN : 200 ≤ N) (R : cR bx sh cr hb nS nC nH C σ) (H : pH bx hb nH cls C σ) {c : Nat} (hc : c < nC) (ec : ga σ 1 (166 + c) = 0) (eD : ga σ 1 (226 + c) = 0) (r y : Int32) (hr : r = -1 ∨ ∃ j, j < nS ∧ r = nI j ∧ y = fs σ j (ga σ 1 (130 + c))) : ∃ C' σ', fX5_act_B57 N (cr c) C (rf sh r) = some (C', ()) ∧ fX3_housedTick_B108 N σ (nI c) r y = some σ' ∧ oK bx sh cr hb nS nC nH c C σ C' σ' := by
  have hn := R.n12
  have hn2 := R.n20
  have hI := R.2.2
  obtain ⟨q, f1, f2, hq⟩ := other_op (N := N) (by omega) R hc
  unfold fX5_act_B57 fX3_housedTick_B108 fX3_housedTick_B149
  rw [xq6 R hc, ev_b, f1, ev_b, f2, ev_b]
  rcases hq with rfl | ⟨d, hd, rfl, hdc, ed⟩
  · rw [rf_n, if_pos rfl, if_pos rfl]
    have e150 : ∀ s', fX3_housedTick_B150 N s' (nI c) r y (-1) 0 = fX3_housedTick_B215 N s' (nI c) r y := fun s' => by
      unfold fX3_housedTick_B150; rw [if_pos rfl]
    rw [e150]
    exact wait_l hN R H hc eD r y hr
  · obtain ⟨b, hb', eb, -, -⟩ := hsd hI hd ed
    have hz := (hI.2.2.1 c hc).1
    rw [rf_s cr d (by omega), if_neg (by simp), if_neg (s_m1 d (by omega))]
    have key : ∀ n : Int32, ∃ C' σ', fX5_act_B99 N (cr c) C (rf sh r) (some (cr d)) n (ga σ 1 (130 + d)) (fs σ b (ga σ 1 (130 + c))) 1 = some (C', ()) ∧ fX3_housedTick_B150 N σ (nI c) r y (nI d) n = some σ' ∧ oK bx sh cr hb nS nC nH c C σ C' σ' := by
      intro n
      unfold fX5_act_B99 fX3_housedTick_B150
      rw [if_neg (s_m1 d (by omega)), m_rd1 _ _ _ (by omega), ev_b, m_rd1 _ _ _ (by omega), ev_b, eb, fs_m hI hb' hz, ev_b, m_rd1 _ _ _ (by omega), ev_b, xq6 R hc, ev_b]
      obtain ⟨x, C2, σ2, g1, g2, o2⟩ := asks_l hN R H hc 1 (fs σ b (ga σ 1 (130 + c))) (ga σ 1 (130 + d)) n
      rw [g1, g2, ev_b, ev_b]
      have H2 := o2.oC.pH H
      have row := o2.row
      have eD2 : ga σ2 1 (226 + c) = 0 := by rw [row]; exact eD
      by_cases x0 : x = 0
      · simp only [if_pos x0]
        obtain ⟨C3, σ3, i1, i2, o3⟩ := wait_l hN o2.1 H2 hc eD2 r y (by
          rcases hr with h | ⟨j, hj, e1, e2⟩
          · exact .inl h
          · refine .inr ⟨j, hj, e1, ?_⟩
            rw [e2]; unfold fs; rw [row, row, row, row])
        exact ⟨C3, σ3, i1, i2, o2.oC.trans o3.1, fun e he q => by rw [o3.2 e he q, row]⟩
      · simp only [if_neg x0]
        obtain ⟨C3, σ3, i1, i2, o3, dd⟩ := knock_l hN o2.1 H2 hc hd (Ne.symm hdc) (by rw [row]; exact ec) (by rw [row]; exact ed) eD2
        rw [xq6 o2.1 hc, ev_b, i1, i2]
        exact ⟨C3, σ3, rfl, rfl, o2.oC.trans o3, fun e he q => by rw [dd e he q, row]⟩
    rw [x53 R hd, ev_b, x47 R hc, ev_b, eb, rf_s sh b (by omega), xq5 R hb', ev_b, fs_x R hb', ev_b, x47 R hd, ev_b, x54 R hc, ev_b, m_rd1 _ _ _ (by omega), ev_b, m_rd1 _ _ _ (by omega), x49 R hc]
    have ee : (rf cr (ga σ 1 (214 + c)) = some (cr d)) = (ga σ 1 (214 + c) = nI d) := by
      apply propext
      rcases (hI.2.2.1 c hc).2.2.2.2 with e | ⟨i, hi, e⟩
      · rw [e, rf_n]
        constructor
        · intro h; cases h
        · intro h; exact absurd h.symm (s_m1 d (by omega))
      · rw [e, rf_s cr i (by omega), s_eq _ _ (by omega) (by omega)]
        constructor
        · intro h; exact R.1.2.2.2.2.1.inj hn hi hd (Option.some.inj h)
        · intro h; rw [h]
    simp only [ee, ev_b]
    by_cases q : ga σ 1 (214 + c) = nI d
    · simp only [if_pos q]; exact key _
    · simp only [if_neg q]; exact key 0
/-- a housed crab's tick -/
theorem act_l {N : Nat} (hN : 200 ≤ N) (R : cR bx sh cr hb nS nC nH C σ) (H : pH bx hb nH cls C σ) {c : Nat} (hc : c < nC) (ec : ga σ 1 (166 + c) = 0) (eD : ga σ 1 (226 + c) = 0) : ∃ C' σ', fX5_act N (cr c) C = some (C', ()) ∧ fX3_housedTick N σ (nI c) = some σ' ∧ oK bx sh cr hb nS nC nH c C σ C' σ' := by
  have hn := R.n12
  have hn2 := R.n20
  have hI := R.2.2
  have hF := R.2.1
  have hz := (hI.2.2.1 c hc).1
  obtain ⟨r, f1, f2, hr⟩ := lying_op (N := N) (by omega) R.1 hI hc
  unfold fX5_act fX3_housedTick fX3_housedTick_B49
  rw [xq6 R hc, ev_b, f1, ev_b, m_rd1 _ _ _ (by omega), ev_b, m_rd1 _ _ _ (by omega), ev_b, f2, ev_b]
  rcases hr with rfl | ⟨j, hj, rfl, ej⟩
  · rw [rf_n, if_pos rfl, if_pos rfl, if_pos rfl]
    have := knocks_l hN R H hc ec eD (-1) 0 (.inl rfl)
    rw [rf_n] at this
    exact this
  · have hr2 : nI j = -1 ∨ ∃ i, i < nS ∧ nI j = nI i ∧ fs σ j (ga σ 1 (130 + c)) = fs σ i (ga σ 1 (130 + c)) := .inr ⟨j, hj, rfl, rfl⟩
    have k57 := knocks_l hN R H hc ec eD (nI j) (fs σ j (ga σ 1 (130 + c))) hr2
    rw [rf_s sh j (by omega)] at k57 ⊢
    simp only [reduceCtorEq, if_false, s_m1 j (by omega : j < 2147483648), x47 R hc, xq5 R hj, fs_x R hj, ow_x R hc, ow_m hI hc, fs_m hI hj hz, ev_b]
    by_cases le : fs σ j (ga σ 1 (130 + c)) ≤ ow σ c
    · simp only [if_pos le]; exact k57
    · simp only [if_neg le]
      obtain ⟨x, C2, σ2, g1, g2, o2⟩ := asks_l hN R H hc 0 (fs σ j (ga σ 1 (130 + c))) 0 0
      rw [g1, g2, ev_b, ev_b]
      have row := o2.row
      have R2 := o2.1
      have H2 := o2.oC.pH H
      have ec2 : ga σ2 1 (166 + c) = 0 := by rw [row]; exact ec
      have eD2 : ga σ2 1 (226 + c) = 0 := by rw [row]; exact eD
      by_cases x0 : x = 0
      · simp only [if_pos x0]
        have k57 := knocks_l hN R2 H2 hc ec2 eD2 (nI j) (fs σ j (ga σ 1 (130 + c))) (.inr ⟨j, hj, rfl, by unfold fs; rw [row, row, row, row]⟩)
        rw [rf_s sh j (by omega)] at k57
        obtain ⟨C3, σ3, i1, i2, o3⟩ := k57
        exact ⟨C3, σ3, i1, i2, o2.oC.trans o3.1, fun e he q => by rw [o3.2 e he q, row]⟩
      · simp only [if_neg x0]
        obtain ⟨a, ha, ea, -, -⟩ := hsd R2.2.2 hc ec2
        have hI2 := R2.2.2
        have hF2 := R2.2.1
        have rd2 : gm_rd σ2 1 (nI 178 + nI c) = some (nI a) := by rw [m_rd1 _ _ _ (by omega), ea]
        have ej2 : ga σ2 1 (90 + j) = 0 := by rw [row]; exact ej
        have hw := free_of hI2 hj ej2
        have haj : j ≠ a := by
          intro e; subst e
          rcases hI2.2.2.2.2 c hc with ⟨q, -⟩ | ⟨i, hi, q, q', -⟩
          · rw [ea] at q; exact absurd q (s_m1 j (by omega))
          · rw [ea, s_eq _ _ (by omega) (by omega)] at q; rw [← q, hw] at q'; exact absurd q'.symm (s_m1 c (by omega))
        obtain ⟨C3, f3, t3, x3, y3, k3⟩ := become R2.1 ha 0 (-1)
        have l3 : fX3_lies σ2 (nI a) = some (gm_sta (gm_sta σ2 1 (90 + a) 0) 1 (110 + a) (-1)) := by
          unfold fX3_lies
          rw [m_wr1 _ _ _ _ (by omega), ev_b, m_wr1 _ _ _ _ (by omega), ev_b]
        have hA4 := wAis t3.1 hc 1
        obtain ⟨C5, σ5, g1, g2, t5, x5, es⟩ := keep hA4 hc hj
        generalize ga (gm_sta (gm_sta (gm_sta σ2 1 (90 + a) 0) 1 (110 + a) (-1)) 1 (166 + c) 1) 1 3 = mv at es
        have t4 : tr bx sh cr hb nS nC C3 (gm_sta (gm_sta σ2 1 (90 + a) 0) 1 (110 + a) (-1)) C3 (gm_sta (gm_sta (gm_sta σ2 1 (90 + a) 0) 1 (110 + a) (-1)) 1 (166 + c) 1) := ⟨hA4, ⟨Fr.refl, rfl, rfl⟩, Mf.sta Mf.refl _ _ _ (by decide)⟩
        have tt := (t3.trans t4).trans t5
        have r53 : rf sh (ga σ2 1 (178 + c)) = some (sh a) := by rw [ea, rf_s sh a (by omega)]
        have f3' : fX4_become (sh a) C2 0 none = some (C3, ()) := f3
        rw [rd2, ev_b, l3, ev_b, m_wr1 _ _ _ _ (by omega), ev_b, g2, ev_b, x53 R2 hc, ev_b, r53, xq5 R2 ha, ev_b, f3', ev_b, aq6 t3.1 hc, ev_b, g1, ev_b]
        refine ⟨C5, σ5, rfl, rfl, o2.oC.trans ⟨⟨t5.1, ?_, ?_⟩, tt.2⟩, fun e he q => ?_⟩
        · have xx : ∀ f e, f = 50 ∨ f = 51 ∨ f = 52 → xk_i C5 f e = xk_i C2 f e := fun f e hf => by
            rw [x5 f e (by omega) (by omega), x3 f e (by omega)]
          rw [es]
          by_cases c3 : mv = 0
          · rw [if_pos c3]
            refine ⟨fun e he => ?_, fun e he => ?_, fun e he => ?_⟩
            · rw [xx _ _ (.inl rfl), hF2.1 e he]
              simp (disch := omega) only [gn, gr]
              by_cases q : e = c
              · subst q; simp [ec2]
              · simp [q]
            · rw [xx _ _ (.inr (.inl rfl)), hF2.2.1 e he]
              simp (disch := omega) only [gn, gr]
            · rw [xx _ _ (.inr (.inr rfl)), hF2.2.2 e he]
              simp (disch := omega) only [gn, gr]
          · rw [if_neg c3]
            refine ⟨fun e he => ?_, fun e he => ?_, fun e he => ?_⟩
            · rw [xx _ _ (.inl rfl), hF2.1 e he]
              simp (disch := omega) only [gn, gr]
              by_cases q : e = c
              · subst q; simp [ec2]
              · simp [q]
            · rw [xx _ _ (.inr (.inl rfl)), hF2.2.1 e he]
              simp (disch := omega) only [gn, gr]
            · rw [xx _ _ (.inr (.inr rfl)), hF2.2.2 e he]
              simp (disch := omega) only [gn, gr]
        · rw [es]
          have J1 := hI2.jr.det hn2 hn hc ha ea (v := 0) (w := 1) (by decide) (by decide)
          by_cases c3 : mv = 0
          · rw [if_pos c3]
            have J2 := J1.att hn2 hn (c := c) (k := j) hc hj (by unfold va_up; rw [if_pos rfl]) (by unfold va_up; rw [if_neg haj]; exact hw) (v := 1) (w := 0) (.inl ⟨rfl, rfl⟩)
            refine hI2.upd (J2.eq (fun i hi => ⟨?_, ?_⟩) (fun e he => ⟨?_, ?_⟩)) ⟨?_, ?_, ?_, ?_⟩ (fun i hi => ⟨?_, ?_, ?_⟩) (fun e he => ⟨?_, ?_, ?_, ?_⟩)
            all_goals simp (disch := omega) only [gn, gr, va_up]
            · by_cases q : e = c
              · simp [q]
              · simp [q]
            · by_cases q : e = c
              · simp [q]
              · simp [q]
            · exact (hI2.2.2.1 e he).1
            · exact (hI2.2.2.1 e he).2.2.1
            · exact (hI2.2.2.1 e he).2.2.2.2
          · rw [if_neg c3]
            have J2 := J1.att hn2 hn (c := c) (k := j) hc hj (by unfold va_up; rw [if_pos rfl]) (by unfold va_up; rw [if_neg haj]; exact hw) (v := 2) (w := 1) (.inr ⟨rfl, rfl⟩)
            refine hI2.upd (J2.eq (fun i hi => ⟨?_, ?_⟩) (fun e he => ⟨?_, ?_⟩)) ⟨?_, ?_, ?_, ?_⟩ (fun i hi => ⟨?_, ?_, ?_⟩) (fun e he => ⟨?_, ?_, ?_, ?_⟩)
            all_goals simp (disch := omega) only [gn, gr, va_up]
            · by_cases q : e = c
              · simp [q]
              · simp [q]
            · by_cases q : e = c
              · simp [q]
              · simp [q]
            · exact (hI2.2.2.1 e he).1
            · exact (hI2.2.2.1 e he).2.2.1
            · exact (hI2.2.2.1 e he).2.2.2.2
        · rw [es, ← row]
          by_cases c3 : mv = 0
          · rw [if_pos c3]; simp (disch := omega) only [gn, gr]
          · rw [if_neg c3]; simp (disch := omega) only [gn, gr]
end
end
