set_option maxRecDepth 16384
section
/-! STAGE 2: crab -/
theorem crab_ini (bx : Nat) (C : xk_C) (n c z : Int32) : ∃ C1, fX5_init (xk_n C) (xk_mk C 6 0 13) (some bx) n c z = some (C1, ()) ∧ Fr [] [] (fun _ _ => false) C C1 ∧ (xk_n C1 = xk_n C + 9 ∧ xk_s C1 ≤ xk_s C + 100) ∧ xk_k C1 (xk_n C) = 6 ∧ (xk_i C1 44 (xk_n C) = n ∧ xk_i C1 46 (xk_n C) = c ∧ xk_i C1 47 (xk_n C) = z ∧ ∀ f, f ≠ 44 → f ≠ 46 → f ≠ 47 → xk_i C1 f (xk_n C) = 0) ∧ (xk_r C1 56 (xk_n C) = some bx ∧ ∀ f, f ≠ 56 → f ≠ 45 → xk_r C1 f (xk_n C) = none) ∧
    (∃ w, xk_r C1 45 (xk_n C) = some w ∧ w < xk_n C1 ∧ xk_k C1 w = 35 ∧ xk_l C1 w = 7 ∧ ∀ t, t < 7 → ∃ b, xk_q C1 w t = some b ∧ (xk_n C < b ∧ b < xk_n C1) ∧ xk_k C1 b = 7 + t ∧ xk_r C1 57 b = some (xk_n C) ∧ ∀ f, 58 ≤ f → f ≤ 64 → xk_has (7 + t) f = true → xk_r C1 f b = some bx) := by
  have W0 : WB bx (xk_n C) (xk_n C + 1) 0 C (xk_mk (xk_sr (xk_mk C 6 0 13) 56 (xk_n C) (some bx)) 35 7 7) := by
    have e1 : xk_n (xk_sr (xk_mk C 6 0 13) 56 (xk_n C) (some bx)) = xk_n C + 1 := rfl
    have ne : ¬ xk_n C = xk_n C + 1 := by omega
    refine ⟨⟨?_, ?_, ?_, ?_, by omega, ?_, Nat.le_refl _⟩, ((Fr.refl.mk 6 0 13 (by decide)).sr _ _ _ (.inr (Nat.le_refl _)) (by decide)).mk 35 7 7 (by decide), ⟨rfl, ?_⟩, fun f => ?_, fun f hf => ?_, fun j hj => by omega⟩
    · simp only [k_mk, e1, ne, if_false, k_sr, if_true]
    · simp only [r_mk, e1, ne, if_false, r_sr, and_self, if_true]
    · simp only [k_mk, e1, if_true]
    · simp only [l_mk, e1, if_true]
    · show xk_n C + 1 < xk_n C + 1 + 1; omega
    · show xk_s C + 13 + 7 ≤ _; omega
    · simp only [i_mk, e1, ne, if_false, i_sr, if_true]
    · simp only [r_mk, e1, ne, if_false, r_sr, hf, false_and, if_true]
  obtain ⟨C1, f1, W1⟩ := wb0 W0
  obtain ⟨C2, f2, W2⟩ := wb1 W1
  obtain ⟨C3, f3, W3⟩ := wb2 W2
  obtain ⟨C4, f4, W4⟩ := wb3 W3
  obtain ⟨C5, f5, W5⟩ := wb4 W4
  obtain ⟨C6, f6, W6⟩ := wb5 W5
  obtain ⟨C7, f7, W7⟩ := wb6 W6
  obtain ⟨⟨ka, ra, kw, lw, haw, hwn, h0⟩, F, ⟨hn, hs⟩, hi, hr, hq⟩ := W7
  refine ⟨xk_si (xk_si (xk_si (xk_sr C7 45 (xk_n C) (some (xk_n C + 1))) 44 (xk_n C) n) 46 (xk_n C) c) 47 (xk_n C) z, ?_, ?_, ⟨hn, ?_⟩, ka, ⟨?_, ?_, ?_, fun f h1 h2 h3 => ?_⟩, ⟨?_, fun f h1 h2 => ?_⟩, ⟨xk_n C + 1, ?_, hwn, kw, lw, fun t ht => ?_⟩⟩
  · unfold fX5_init
    have e0 : xk_pr (xk_mk C 6 0 13) 56 (some (xk_n C)) (some bx) = some (xk_sr (xk_mk C 6 0 13) 56 (xk_n C) (some bx)) := p_r (k := 6) (by rw [k_mk, if_pos rfl]) rfl
    have e1 : xk_n (xk_sr (xk_mk C 6 0 13) 56 (xk_n C) (some bx)) = xk_n C + 1 := rfl
    rw [e0, ev_b, p_na (by omega), ev_b, e1, f1, f2, f3, f4, f5, f6, f7]
    simp only [ev_gi, ev_gr, ev_pi, ev_pr, ev_pz0, ev_pz1, ev_is, ev_ck, ev_ckn, ev_b, ev_10, if_true, if_false, false_and, and_false, true_and, and_true, reduceCtorEq, k_si, k_sr, k_se, k_sq, ka, h_6_44, h_6_45, h_6_46, h_6_47, h_6_48, h_6_49, h_6_50, h_6_51, h_6_52, h_6_53, h_6_54, h_6_55, h_6_56]
  · exact (((F.sr _ _ _ (.inr (Nat.le_refl _)) (by decide)).si _ _ _ (.inr (Nat.le_refl _))).si _ _ _ (.inr (Nat.le_refl _))).si _ _ _ (.inr (Nat.le_refl _))
  · show xk_s C7 ≤ _; omega
  · simp [i_si]
  · simp [i_si]
  · simp [i_si]
  · simp only [i_si, i_sr]; simp only [h1, h2, h3, false_and, if_false]; exact hi f
  · simp only [r_si, r_sr]; simp only [Nat.reduceEqDiff, false_and, if_false]; exact ra
  · simp only [r_si, r_sr, h2, false_and, if_false]; exact hr f h1
  · simp only [r_si, r_sr, and_self, if_true]
  · obtain ⟨b, b1, b2, b3, b4, b5, b6⟩ := hq t ht
    have nb : ¬ b = xk_n C := by omega
    refine ⟨b, b1, ⟨by omega, b3⟩, b4, ?_, fun f f1 f2 f3 => ?_⟩
    · simp only [r_si, r_sr, nb, and_false, if_false]; exact b5
    · simp only [r_si, r_sr, nb, and_false, if_false]; exact b6 f f1 f2 f3
section
variable {bx : Nat} {sh cr hb fm : Nat → Nat} {nS nC nH nF nT m : Nat} {cls : Nat → List (Nat × Nat × List Int32 × List (Nat × Nat))} {C C' : xk_C} {σ σ' : gm_S} {fi fq : List Nat} {E : Nat → Nat → Bool}
theorem cS.frx (h : cS sh cr nS C σ) (F : Fr fi fq E C C') (h1 : ∀ f, f ∈ [37, 38, 39, 40, 41, 42] → f ∉ fi) (h2 : 43 ∉ fq) : cS sh cr nS C' σ := by
  obtain ⟨S5, Sn, S37, S38, S39, S40, S41, S42, S43⟩ := h
  refine ⟨?_, ?_, ?_, ?_, ?_, ?_, ?_, ?_, ?_⟩ <;> intro i hi
  · rw [F.k (Sn i hi)]; exact S5 i hi
  · exact F.lt (Sn i hi)
  · rw [F.i (Sn i hi) (h1 _ (by decide))]; exact S37 i hi
  · rw [F.i (Sn i hi) (h1 _ (by decide))]; exact S38 i hi
  · rw [F.i (Sn i hi) (h1 _ (by decide))]; exact S39 i hi
  · rw [F.i (Sn i hi) (h1 _ (by decide))]; exact S40 i hi
  · rw [F.i (Sn i hi) (h1 _ (by decide))]; exact S41 i hi
  · rw [F.i (Sn i hi) (h1 _ (by decide))]; exact S42 i hi
  · rw [F.r (Sn i hi) h2]; exact S43 i hi
theorem cC.frx (h : cC bx sh cr hb nC C σ) (F : Fr fi fq E C C') (h1 : ∀ f, f ∈ [44, 46, 47, 48, 49] → f ∉ fi) (h2 : ∀ f, f ∈ [53, 54, 55, 56] → f ∉ fq) : cC bx sh cr hb nC C' σ := by
  obtain ⟨C6, Cn, C44, C46, C47, C48, C49, C53, C54, C55, C56⟩ := h
  refine ⟨?_, ?_, ?_, ?_, ?_, ?_, ?_, ?_, ?_, ?_, ?_⟩ <;> intro i hi
  · rw [F.k (Cn i hi)]; exact C6 i hi
  · exact F.lt (Cn i hi)
  · rw [F.i (Cn i hi) (h1 _ (by decide))]; exact C44 i hi
  · rw [F.i (Cn i hi) (h1 _ (by decide))]; exact C46 i hi
  · rw [F.i (Cn i hi) (h1 _ (by decide))]; exact C47 i hi
  · rw [F.i (Cn i hi) (h1 _ (by decide))]; exact C48 i hi
  · rw [F.i (Cn i hi) (h1 _ (by decide))]; exact C49 i hi
  · rw [F.r (Cn i hi) (h2 _ (by decide))]; exact C53 i hi
  · rw [F.r (Cn i hi) (h2 _ (by decide))]; exact C54 i hi
  · rw [F.r (Cn i hi) (h2 _ (by decide))]; exact C55 i hi
  · rw [F.r (Cn i hi) (h2 _ (by decide))]; exact C56 i hi
theorem cS.crx {cr' : Nat → Nat} (h : cS sh cr nS C σ) (hn : nC ≤ 12) (hI : ∀ i, i < nS → ix nC (ga σ 1 (110 + i))) (e : ∀ i, i < nC → cr' i = cr i) : cS sh cr' nS C σ := by
  obtain ⟨S5, Sn, S37, S38, S39, S40, S41, S42, S43⟩ := h
  exact ⟨S5, Sn, S37, S38, S39, S40, S41, S42, fun i hi => by rw [rf_ext (n := nC) (by omega) (hI i hi) e]; exact S43 i hi⟩
theorem cC.crx {cr' : Nat → Nat} (h : cC bx sh cr hb nC C σ) (hn : nC ≤ 12) (hI : ∀ i, i < nC → ix nC (ga σ 1 (214 + i))) (e : ∀ i, i < nC → cr' i = cr i) : cC bx sh cr' hb nC C σ := by
  obtain ⟨C6, Cn, C44, C46, C47, C48, C49, C53, C54, C55, C56⟩ := h
  refine ⟨?_, ?_, ?_, ?_, ?_, ?_, ?_, ?_, ?_, ?_, ?_⟩ <;> intro i hi <;> rw [e i hi]
  · exact C6 i hi
  · exact Cn i hi
  · exact C44 i hi
  · exact C46 i hi
  · exact C47 i hi
  · exact C48 i hi
  · exact C49 i hi
  · exact C53 i hi
  · rw [rf_ext (n := nC) (by omega) (hI i hi) e]; exact C54 i hi
  · exact C55 i hi
  · exact C56 i hi
theorem pL.gx {a n : Nat} {g g' : Nat → Nat} (h : pL C a n g) (e : ∀ i, i < n → g' i = g i) : pL C a n g' := by
  obtain ⟨k, ha, hs, hg, p, he, hen, hek, hnl, hl, hd, hq⟩ := h
  exact ⟨k, ha, hs, fun i hi => by rw [e i hi]; exact hg i hi, p, he, hen, hek, hnl, hl, hd, fun i hi => by rw [e i hi]; exact hq i hi⟩
theorem cA.crx {cr' : Nat → Nat} (h : cA bx sh cr hb nS nC C σ) (hI : Iv nS nC nH (ga σ 1)) (e : ∀ i, i < nC → cr' i = cr i) : cA bx sh cr' hb nS nC C σ := by
  obtain ⟨hB, L1, L3, hS, hC, hBs, n1, n2⟩ := h
  exact ⟨hB, L1, L3.gx e, hS.crx n2 (fun i hi => hI.oix hi) e, hC.crx n2 (fun i hi => (hI.2.2.1 i hi).2.2.2.2) e, hBs, n1, n2⟩
theorem IM.ncx {im : Nat} {s : Nat → Int32} {nC' : Nat} (H : IM bx sh hb nS nC nH im s C) (hn : nC ≤ nC') : IM bx sh hb nS nC' nH im s C := by
  obtain ⟨k, n, iS, iC, E1, E2, E3, E4, ⟨a1, a2, a3⟩, b⟩ := H
  exact ⟨k, n, iS, iC, E1, E2, E3, E4, ⟨a1, by omega, a3⟩, b⟩
theorem cA.fresh (h : cA bx sh cr hb nS nC C σ) (F : Fr [] [] (fun _ _ => false) C C') : cA bx sh cr hb nS nC C' σ := by
  obtain ⟨hB, L1, L3, hS, hC, ⟨B4, B5, B6, B7⟩, n1, n2⟩ := h
  have nb := hB.1.2.1
  exact ⟨hB.fr F (by decide), L1.fr F (by decide) (by decide) (fun _ _ => rfl), L3.fr F (by decide) (by decide) (fun _ _ => rfl), hS.frx F (by decide) (by decide), hC.frx F (by decide) (by decide), ⟨(F.i (by omega) (by decide)).trans B4, (F.i (by omega) (by decide)).trans B5, (F.i (by omega) (by decide)).trans B6, fun j hj => (F.e (by omega) rfl j).trans (B7 j hj)⟩, n1, n2⟩
end
end
section
/-! STAGE 2: crab, the op -/
section
variable {bx : Nat} {sh cr hb fm : Nat → Nat} {nS nC nH nF nT m : Nat} {cls : Nat → List (Nat × Nat × List Int32 × List (Nat × Nat))} {C C' : xk_C} {σ σ' : gm_S}
/-- p is none of the rows of crab n -/
def nrow (n p : Nat) : Prop := p ≠ 1 ∧ p ≠ 130 + n ∧ p ≠ 142 + n ∧ p ≠ 154 + n ∧ p ≠ 166 + n ∧ p ≠ 178 + n ∧ p ≠ 190 + n ∧ p ≠ 202 + n ∧ p ≠ 214 + n ∧ p ≠ 226 + n
/-- the core with one crab more -/
theorem crab_fin {C2 : xk_C} {σx : gm_S} {a : Nat} (hA : cA bx sh cr hb nS nC C σx) (hF : ∀ i, i < nC → xk_i C 50 (cr i) = (if ga σx 1 (166 + i) = 2 then 1 else 0) ∧ xk_i C 51 (cr i) = (if ga σx 1 (226 + i) = 1 then 1 else 0) ∧ xk_i C 52 (cr i) = (if ga σx 1 (226 + i) = 2 then 1 else 0)) (hn : nC < 12) (hca : cr nC = a) (han : a < xk_n C) (ka : xk_k C a = 6) (i44 : xk_i C 44 a = nI nC) (i46 : xk_i C 46 a = ga σ' 1 (142 + nC)) (i47 : xk_i C 47 a = ga σ' 1 (130 + nC)) (i48 : xk_i C 48 a = ga σ' 1 (190 + nC)) (i49 : xk_i C 49 a = ga σ' 1 (202 + nC)) (r53 : xk_r C 53 a = rf sh (ga σ' 1 (178 + nC))) (r54 : xk_r C 54 a = rf cr (ga σ' 1 (214 + nC))) (r55 : xk_r C 55 a = rf hb (ga σ' 1 (154 + nC))) (r56 : xk_r C 56 a = some bx) (i50 : xk_i C 50 a = if ga σ' 1 (166 + nC) = 2 then 1 else 0) (i51 : xk_i C 51 a = if ga σ' 1 (226 + nC) = 1 then 1 else 0) (i52 : xk_i C 52 a = if ga σ' 1 (226 + nC) = 2 then 1 else 0)
    (LF : pLF (bx + 3) C C2) (L3' : pL C2 (bx + 3) (nC + 1) cr) (hI : Iv nS (nC + 1) nH (ga σ' 1)) (e : ∀ p, nrow nC p → ga σ' 1 p = ga σx 1 p) : cR bx sh cr hb nS (nC + 1) nH C2 σ' := by
  have F := LF.1
  obtain ⟨hB, L1, L3, ⟨S5, Sn, S37, S38, S39, S40, S41, S42, S43⟩, ⟨C6, Cn, C44, C46, C47, C48, C49, C53, C54, C55, C56⟩, ⟨B4, B5, B6, B7⟩, n1, n2⟩ := hA
  have nb := hB.1.2.1
  have k4 := hB.2.2.1.2.2.2.1
  have e' : ∀ p, p ≠ 1 → (p < 130 ∨ ∃ b i, b + i = p ∧ i < nC ∧ (b = 130 ∨ b = 142 ∨ b = 154 ∨ b = 166 ∨ b = 178 ∨ b = 190 ∨ b = 202 ∨ b = 214 ∨ b = 226)) → ga σ' 1 p = ga σx 1 p := fun p h1 h2 => e p (by
    rcases h2 with h2 | ⟨b, i, h3, h4, h5⟩
    · unfold nrow; omega
    · unfold nrow; omega)
  have eS : ∀ b i, i < nS → b ≤ 110 → b + i ≠ 1 → ga σ' 1 (b + i) = ga σx 1 (b + i) := fun b i hi hb h1 => e' _ h1 (.inl (by omega))
  have eC : ∀ b i, i < nC → (b = 130 ∨ b = 142 ∨ b = 154 ∨ b = 166 ∨ b = 178 ∨ b = 190 ∨ b = 202 ∨ b = 214 ∨ b = 226) → ga σ' 1 (b + i) = ga σx 1 (b + i) := fun b i hi hb => e' _ (by omega) (.inr ⟨b, i, rfl, hi, hb⟩)
  refine ⟨⟨hB.fr F (by decide), LF.2.2.2.2 _ _ _ (by omega) L1, L3', ⟨?_, ?_, ?_, ?_, ?_, ?_, ?_, ?_, ?_⟩, ⟨?_, ?_, ?_, ?_, ?_, ?_, ?_, ?_, ?_, ?_, ?_⟩, ⟨?_, ?_, ?_, ?_⟩, n1, by omega⟩, ⟨?_, ?_, ?_⟩, hI⟩
  · intro i hi; rw [F.k (Sn i hi)]; exact S5 i hi
  · intro i hi; exact F.lt (Sn i hi)
  · intro i hi; rw [F.i (Sn i hi) (by decide)]; exact S37 i hi
  · intro i hi; rw [F.i (Sn i hi) (by decide), eS _ _ hi (by omega) (by omega)]; exact S38 i hi
  · intro i hi; rw [F.i (Sn i hi) (by decide), eS _ _ hi (by omega) (by omega)]; exact S39 i hi
  · intro i hi; rw [F.i (Sn i hi) (by decide), eS _ _ hi (by omega) (by omega)]; exact S40 i hi
  · intro i hi; rw [F.i (Sn i hi) (by decide), eS _ _ hi (by omega) (by omega)]; exact S41 i hi
  · intro i hi; rw [F.i (Sn i hi) (by decide), eS _ _ hi (by omega) (by omega)]; exact S42 i hi
  · intro i hi; rw [F.r (Sn i hi) (by decide), eS _ _ hi (by omega) (by omega)]; exact S43 i hi
  · intro i hi; by_cases q : i = nC
    · rw [q, hca, F.k han]; exact ka
    · rw [F.k (Cn i (by omega))]; exact C6 i (by omega)
  · intro i hi; by_cases q : i = nC
    · rw [q, hca]; exact F.lt han
    · exact F.lt (Cn i (by omega))
  · intro i hi; by_cases q : i = nC
    · rw [q, hca, F.i han (by decide)]; exact i44
    · rw [F.i (Cn i (by omega)) (by decide)]; exact C44 i (by omega)
  · intro i hi; by_cases q : i = nC
    · rw [q, hca, F.i han (by decide)]; exact i46
    · rw [F.i (Cn i (by omega)) (by decide), eC _ _ (show i < nC by omega) (by omega)]; exact C46 i (by omega)
  · intro i hi; by_cases q : i = nC
    · rw [q, hca, F.i han (by decide)]; exact i47
    · rw [F.i (Cn i (by omega)) (by decide), eC _ _ (show i < nC by omega) (by omega)]; exact C47 i (by omega)
  · intro i hi; by_cases q : i = nC
    · rw [q, hca, F.i han (by decide)]; exact i48
    · rw [F.i (Cn i (by omega)) (by decide), eC _ _ (show i < nC by omega) (by omega)]; exact C48 i (by omega)
  · intro i hi; by_cases q : i = nC
    · rw [q, hca, F.i han (by decide)]; exact i49
    · rw [F.i (Cn i (by omega)) (by decide), eC _ _ (show i < nC by omega) (by omega)]; exact C49 i (by omega)
  · intro i hi; by_cases q : i = nC
    · rw [q, hca, F.r han (by decide)]; exact r53
    · rw [F.r (Cn i (by omega)) (by decide), eC _ _ (show i < nC by omega) (by omega)]; exact C53 i (by omega)
  · intro i hi; by_cases q : i = nC
    · rw [q, hca, F.r han (by decide)]; exact r54
    · rw [F.r (Cn i (by omega)) (by decide), eC _ _ (show i < nC by omega) (by omega)]; exact C54 i (by omega)
  · intro i hi; by_cases q : i = nC
    · rw [q, hca, F.r han (by decide)]; exact r55
    · rw [F.r (Cn i (by omega)) (by decide), eC _ _ (show i < nC by omega) (by omega)]; exact C55 i (by omega)
  · intro i hi; by_cases q : i = nC
    · rw [q, hca, F.r han (by decide)]; exact r56
    · rw [F.r (Cn i (by omega)) (by decide)]; exact C56 i (by omega)
  · rw [F.i (by omega) (by decide), e' _ (by omega) (.inl (by omega))]; exact B4
  · rw [F.i (by omega) (by decide), e' _ (by omega) (.inl (by omega))]; exact B5
  · rw [F.i (by omega) (by decide), e' _ (by omega) (.inl (by omega))]; exact B6
  · intro j hj; rw [F.e (by omega) (by rw [k4]; rfl), e' _ (by omega) (.inl (by omega))]; exact B7 j hj
  · intro i hi; by_cases q : i = nC
    · rw [q, hca, F.i han (by decide)]; exact i50
    · rw [F.i (Cn i (by omega)) (by decide), eC _ _ (show i < nC by omega) (by omega)]; exact (hF i (by omega)).1
  · intro i hi; by_cases q : i = nC
    · rw [q, hca, F.i han (by decide)]; exact i51
    · rw [F.i (Cn i (by omega)) (by decide), eC _ _ (show i < nC by omega) (by omega)]; exact (hF i (by omega)).2.1
  · intro i hi; by_cases q : i = nC
    · rw [q, hca, F.i han (by decide)]; exact i52
    · rw [F.i (Cn i (by omega)) (by decide), eC _ _ (show i < nC by omega) (by omega)]; exact (hF i (by omega)).2.2
/-- the row with one crab more -/
theorem Iv.crab {s s' : Nat → Int32} (hI : Iv nS nC nH s) (hn : nC < 12) (w1 : s' 1 = nI (nC + 1)) (hz : 1 ≤ s' (130 + nC) ∧ s' (130 + nC) ≤ 40) (h154 : s' (154 + nC) = -1) (h214 : s' (214 + nC) = -1) (h226 : s' (226 + nC) = 0)
    (hk : (s' (178 + nC) = -1 ∧ s' (166 + nC) = 1 ∧ ∀ p, nrow nC p → s' p = s p) ∨ ∃ k, k < nS ∧ s (110 + k) = -1 ∧ s' (178 + nC) = nI k ∧ s' (166 + nC) = 0 ∧ s' (110 + k) = nI nC ∧ s' (90 + k) = 1 ∧ ∀ p, nrow nC p → p ≠ 90 + k → p ≠ 110 + k → s' p = s p) : Iv nS (nC + 1) nH s' := by
  obtain ⟨⟨i1, i2, i3, i4, i5, i6, i7⟩, vS, vC, vO, vN⟩ := hI
  have e : ∀ p, nrow nC p → (p < 90 ∨ 130 ≤ p) → s' p = s p := fun p hp hq => by
    rcases hk with ⟨-, -, h⟩ | ⟨k, hk, -, -, -, -, -, h⟩
    · exact h p hp
    · exact h p hp (by omega) (by omega)
  have eC : ∀ b i, i < nC → (b = 130 ∨ b = 154 ∨ b = 166 ∨ b = 178 ∨ b = 214 ∨ b = 226) → s' (b + i) = s (b + i) := fun b i hi hb => e _ (by unfold nrow; omega) (by omega)
  refine ⟨⟨i1, by omega, i3, ?_, w1, ?_, ?_⟩, fun i hi => ?_, fun c hc => ?_, fun i hi => ?_, fun c hc => ?_⟩
  · rw [e _ (by unfold nrow; omega) (by omega)]; exact i4
  · rw [e _ (by unfold nrow; omega) (by omega)]; exact i6
  · rw [e _ (by unfold nrow; omega) (by omega)]; exact i7
  · rw [e _ (by unfold nrow; omega) (by omega), e _ (by unfold nrow; omega) (by omega), e _ (by unfold nrow; omega) (by omega)]; exact vS i hi
  · by_cases q : c = nC
    · subst q
      refine ⟨hz, ?_, .inl h226, .inl h154, .inl h214⟩
      rcases hk with ⟨-, h, -⟩ | ⟨k, -, -, -, h, -⟩
      · exact .inr (.inl h)
      · exact .inl h
    · have hc' : c < nC := by omega
      rw [eC _ _ hc' (by omega), eC _ _ hc' (by omega), eC _ _ hc' (by omega), eC _ _ hc' (by omega), eC _ _ hc' (by omega)]
      obtain ⟨x1, x2, x3, x4, x5⟩ := vC c hc'
      refine ⟨x1, x2, x3, x4, ?_⟩
      rcases x5 with h | ⟨i, hi, h⟩
      · exact .inl h
      · exact .inr ⟨i, by omega, h⟩
  · rcases hk with ⟨-, -, h⟩ | ⟨k, hk, h0, h1, h2, h3, h4, h⟩
    · rw [h _ (by unfold nrow; omega), h _ (by unfold nrow; omega)]
      rcases vO i hi with x | ⟨c, hc, x1, x2, x3⟩
      · exact .inl x
      · exact .inr ⟨c, by omega, x1, by rw [eC _ _ hc (by omega)]; exact x2, x3⟩
    · by_cases q : i = k
      · subst q
        exact .inr ⟨nC, by omega, h3, h1, .inl h4⟩
      · rw [h _ (by unfold nrow; omega) (by omega) (by omega), h _ (by unfold nrow; omega) (by omega) (by omega)]
        rcases vO i hi with x | ⟨c, hc, x1, x2, x3⟩
        · exact .inl x
        · exact .inr ⟨c, by omega, x1, by rw [eC _ _ hc (by omega)]; exact x2, x3⟩
  · by_cases q : c = nC
    · subst q
      rcases hk with ⟨h1, h2, -⟩ | ⟨k, hk, h0, h1, h2, h3, h4, -⟩
      · exact .inl ⟨h1, .inl h2⟩
      · exact .inr ⟨k, hk, h1, h3, .inl ⟨h2, h4⟩⟩
    · have hc' : c < nC := by omega
      rw [eC _ _ hc' (by omega), eC _ _ hc' (by omega)]
      rcases vN c hc' with x | ⟨i, hi, x1, x2, x3⟩
      · exact .inl x
      · refine .inr ⟨i, hi, x1, ?_⟩
        rcases hk with ⟨-, -, h⟩ | ⟨k, hk, h0, -, -, -, -, h⟩
        · rw [h _ (by unfold nrow; omega), h _ (by unfold nrow; omega)]; exact ⟨x2, x3⟩
        · have : i ≠ k := fun q => by rw [q, h0] at x2; exact s_m1 c (by omega) x2.symm
          rw [h _ (by unfold nrow; omega) (by omega) (by omega), h _ (by unfold nrow; omega) (by omega) (by omega)]; exact ⟨x2, x3⟩
end
end
section
/-! STAGE 2: crab, the op -/
section
variable {bx : Nat} {sh cr hb fm : Nat → Nat} {nS nC nH nF nT m : Nat} {cls : Nat → List (Nat × Nat × List Int32 × List (Nat × Nat))} {C : xk_C} {σ : gm_S}
/-- what is left by a new crab -/
def oN (bx : Nat) (sh hb fm : Nat → Nat) (nS nC nH nF nT m : Nat) (cls : Nat → List (Nat × Nat × List Int32 × List (Nat × Nat))) (C C' : xk_C) (σ' : gm_S) : Prop := ∃ cr' nC', cR bx sh cr' hb nS nC' nH C' σ' ∧ Rt bx sh cr' hb fm nS nC' nH nF nT m cls C' σ' ∧ xk_n C ≤ xk_n C' ∧ xk_n C' ≤ xk_n C + 12 ∧ xk_s C' ≤ xk_s C + 2000
/-- the row's writes -/
def crw (σ : gm_S) (n : Nat) (z c : Int32) : gm_S := gm_sta (gm_sta (gm_sta (gm_sta (gm_sta (gm_sta (gm_sta (gm_sta (gm_sta σ 1 (130 + n) z) 1 (142 + n) c) 1 (154 + n) (-1)) 1 (166 + n) 1) 1 (178 + n) (-1)) 1 (190 + n) 0) 1 (202 + n) 0) 1 (214 + n) (-1)) 1 (226 + n) 0
theorem crw_m {n : Nat} (hn : n < 12) (z c : Int32) (h1 : ga σ 1 1 = nI n) (x3 : Int32) : fX3_crab_B68 σ c z x3 = (if x3 = -1 then some (gm_sta (crw σ n z c) 1 1 (nI (n + 1)), nI n) else (fX3_goesIn (crw σ n z c) (nI n) x3).bind fun r => fX3_crab_B210 r (nI n)) := by
  unfold fX3_crab_B68
  have wr : ∀ (s' : gm_S) b v, b + n < 240 → gm_wr s' 1 (nI b + nI n) v = some (gm_sta s' 1 (b + n) v) := fun s' b v hb => m_wr1 s' b n v hb
  have nn : ¬ nI n = nI 12 := fun e => by rw [s_eq _ _ (by omega) (by omega)] at e; omega
  simp only [ev_r1, h1, ev_b, if_neg nn, wr _ 130 _ (by omega), wr _ 142 _ (by omega), wr _ 154 _ (by omega), wr _ 166 _ (by omega), wr _ 178 _ (by omega), wr _ 190 _ (by omega), wr _ 202 _ (by omega), wr _ 214 _ (by omega), wr _ 226 _ (by omega)]
  by_cases e : x3 = -1
  · rw [if_pos e, if_pos e]
    unfold fX3_crab_B210
    have : ga (crw σ n z c) 1 1 = nI n := by unfold crw; simp (disch := omega) only [gn]; exact h1
    unfold crw at this
    rw [ev_r1, ev_b, this, ev_w1, ev_b, s_a1]; rfl
  · rw [if_neg e, if_neg e]; rfl
theorem crab_end (h : cR bx sh cr hb nS nC nH C σ) (H : Rt bx sh cr hb fm nS nC nH nF nT m cls C σ) {c z : Int32} {cr' : Nat → Nat} {C1 Cx : xk_C} {σx σ' : gm_S} {w : Nat} (hn12 : nC < 12) (cre : ∀ i, i < nC → cr' i = cr i) (crn : cr' nC = xk_n C) (F1 : Fr [] [] (fun _ _ => false) C C1) (n1 : xk_n C1 = xk_n C + 9) (ka : xk_k C1 (xk_n C) = 6) (i44 : xk_i C1 44 (xk_n C) = nI nC) (i46 : xk_i C1 46 (xk_n C) = c) (i47 : xk_i C1 47 (xk_n C) = z) (iz : ∀ f, f ≠ 44 → f ≠ 46 → f ≠ 47 → xk_i C1 f (xk_n C) = 0) (r56 : xk_r C1 56 (xk_n C) = some bx) (rz : ∀ f, f ≠ 56 → f ≠ 45 → xk_r C1 f (xk_n C) = none) (w45 : xk_r C1 45 (xk_n C) = some w) (wn : w < xk_n C1) (wk : xk_k C1 w = 35) (wl : xk_l C1 w = 7) (wq : ∀ t, t < 7 → ∃ b, xk_q C1 w t = some b ∧ (xk_n C < b ∧ b < xk_n C1) ∧ xk_k C1 b = 7 + t ∧ xk_r C1 57 b = some (xk_n C) ∧ ∀ f, 58 ≤ f → f ≤ 64 → xk_has (7 + t) f = true → xk_r C1 f b = some bx)
    (hAx : cA bx sh cr' hb nS nC Cx σx) (Fx : Fr [42] [43] (fun _ _ => false) C Cx) (nx : xk_n Cx = xk_n C + 9) (sx : xk_s Cx ≤ xk_s C + 100) (ix : ∀ f, f ≠ 48 → xk_i Cx f (xk_n C) = xk_i C1 f (xk_n C)) (i48 : xk_i Cx 48 (xk_n C) = 0) (rx : ∀ f, f ≠ 53 → xk_r Cx f (xk_n C) = xk_r C1 f (xk_n C)) (rxx : ∀ f a, xk_n C < a → xk_r Cx f a = xk_r C1 f a) (kx : ∀ a, xk_k Cx a = xk_k C1 a) (lx : ∀ a, xk_l Cx a = xk_l C1 a) (qx : ∀ a j, xk_q Cx a j = xk_q C1 a j) (r53 : xk_r Cx 53 (xk_n C) = rf sh (ga σ' 1 (178 + nC))) (hI' : Iv nS (nC + 1) nH (ga σ' 1)) (e : ∀ p, nrow nC p → ga σ' 1 p = ga σx 1 p) (eo : ∀ i, i < nC → ga σx 1 (166 + i) = ga σ 1 (166 + i) ∧ ga σx 1 (226 + i) = ga σ 1 (226 + i)) (w130 : ga σ' 1 (130 + nC) = z) (w142 : ga σ' 1 (142 + nC) = c) (w154 : ga σ' 1 (154 + nC) = -1) (w166 : ga σ' 1 (166 + nC) ≠ 2) (w190 : ga σ' 1 (190 + nC) = 0) (w202 : ga σ' 1 (202 + nC) = 0) (w214 : ga σ' 1 (214 + nC) = -1) (w226 : ga σ' 1 (226 + nC) = 0) (M : Mf [] [1] σ σ') : ∃ C', fX0_crab_B116 bx Cx (some (xk_n C)) = some (C', nI nC) ∧ oN bx sh hb fm nS nC nH nF nT m cls C C' σ' := by
  have nb := h.1.1.1.2.1
  have lt0 : xk_n C < xk_n Cx := by omega
  obtain ⟨C2, f2, L2, LF⟩ := L_add hAx.2.2.1 hAx.1.1.2.2 (by omega) (b := xk_n C) ⟨lt0, by rw [kx, ka]; rfl⟩
  have lt1 := LF.2.1
  have lt2 := LF.2.2.1
  have F := LF.1
  have lt3 := F.n
  have L2' : pL C2 (bx + 3) (nC + 1) cr' := L2.gx (fun i hi => by
    by_cases q : i = nC
    · simp only [if_pos q]; rw [q]; exact crn
    · simp only [if_neg q])
  unfold fX0_crab_B116
  refine ⟨C2, ?_, cr', nC + 1, ?_, ?_, by omega, by omega, by omega⟩
  · rw [g_r hAx.1.1.1 rfl, hAx.1.2.1.2.2.1, ev_b, g_is hAx.2.2.1.1, ev_b, f2, ev_b, g_i (C := C2) (k := 6) (by rw [F.k lt0, kx]; exact ka) rfl, F.i lt0 (by decide), ix 44 (by omega), i44, ev_b]
  · refine crab_fin hAx (fun i hi => ?_) (by omega) crn lt0 (by rw [kx]; exact ka) (by rw [ix 44 (by omega)]; exact i44) (by rw [ix 46 (by omega), w142]; exact i46) (by rw [ix 47 (by omega), w130]; exact i47) (by rw [w190]; exact i48) (by rw [ix 49 (by omega), w202]; exact iz 49 (by omega) (by omega) (by omega)) r53 (by rw [rx 54 (by omega), w214, rf_n]; exact rz 54 (by omega) (by omega)) (by rw [rx 55 (by omega), w154, rf_n]; exact rz 55 (by omega) (by omega)) (by rw [rx 56 (by omega)]; exact r56) (by rw [ix 50 (by omega), if_neg w166]; exact iz 50 (by omega) (by omega) (by omega)) (by rw [ix 51 (by omega), w226, if_neg (by decide)]; exact iz 51 (by omega) (by omega) (by omega)) (by rw [ix 52 (by omega), w226, if_neg (by decide)]; exact iz 52 (by omega) (by omega) (by omega)) LF L2' hI' e
    have hcn := h.1.2.2.2.2.1.2.1 i hi
    rw [cre i hi, (eo i hi).1, (eo i hi).2, Fx.i hcn (by decide), Fx.i hcn (by decide), Fx.i hcn (by decide)]
    exact ⟨h.2.1.1 i hi, h.2.1.2.1 i hi, h.2.1.2.2 i hi⟩
  · have Hx : Rt bx sh cr hb fm nS nC nH nF nT m cls Cx σ := H.fr h.1 Fx (Mf.refl (ks := []) (as := [])) (by decide) (by decide) (fun _ _ _ => rfl) (fun _ _ => rfl) ⟨rfl, rfl⟩ (by decide) (by decide)
    have hAx' : pB bx Cx := hAx.1
    obtain ⟨p, b, f, d, ⟨q, q'⟩, im, g, t⟩ := Hx
    have nb' : bx + 19 ≤ xk_n Cx := hAx.1.1.2.1
    have k5 := hAx.1.2.2.1.2.2.2.2.1
    have k2 := hAx.1.2.2.1.2.1
    refine ⟨fun i hi => ?_, b.add LF (by omega) (by omega) M (by decide) (by decide), f.add LF (by omega) M (by decide) (by decide), ?_, ⟨?_, q'⟩, ?_, g.fr nb' F (by decide) (by decide) (fun _ _ => rfl) (fun _ _ => rfl), (M.1 22 (by decide)).trans t⟩
    · have tw : ∀ (x : Nat) (w' : Nat), x < xk_n Cx → (xk_r Cx 45 x = some w' ∧ w' < xk_n Cx ∧ xk_k Cx w' = 35 ∧ xk_l Cx w' = 7 ∧ ∀ t, t < 7 → ∃ b, xk_q Cx w' t = some b ∧ b < xk_n Cx ∧ xk_k Cx b = 7 + t ∧ xk_r Cx 57 b = some x ∧ ∀ f, 58 ≤ f → f ≤ 64 → xk_has (7 + t) f = true → xk_r Cx f b = some bx) → ∃ w, xk_r C2 45 x = some w ∧ w < xk_n C2 ∧ xk_k C2 w = 35 ∧ xk_l C2 w = 7 ∧ ∀ t, t < 7 → ∃ b, xk_q C2 w t = some b ∧ b < xk_n C2 ∧ xk_k C2 b = 7 + t ∧ xk_r C2 57 b = some x ∧ ∀ f, 58 ≤ f → f ≤ 64 → xk_has (7 + t) f = true → xk_r C2 f b = some bx := by
        intro x w' hx ⟨y1, y2, y3, y4, y5⟩
        refine ⟨w', (F.r hx (by decide)).trans y1, F.lt y2, (F.k y2).trans y3, (F.l y2).trans y4, fun t ht => ?_⟩
        obtain ⟨b, b1, b2, b3, b4, b5⟩ := y5 t ht
        exact ⟨b, (F.q y2 (by rw [y3]; rfl) t).trans b1, F.lt b2, (F.k b2).trans b3, (F.r b2 (by decide)).trans b4, fun f f1 f2 f3 => (F.r b2 (by simp only [List.mem_cons, List.not_mem_nil, or_false]; omega)).trans (b5 f f1 f2 f3)⟩
      by_cases q : i = nC
      · subst q
        rw [crn]
        refine tw _ w lt0 ⟨by rw [rx 45 (by omega)]; exact w45, by omega, by rw [kx]; exact wk, by rw [lx]; exact wl, fun t ht => ?_⟩
        obtain ⟨b, b1, ⟨hbn, b2⟩, b3, b4, b5⟩ := wq t ht
        exact ⟨b, by rw [qx]; exact b1, by omega, by rw [kx]; exact b3, by rw [rxx 57 b hbn]; exact b4, fun f f1 f2 f3 => by rw [rxx f b hbn]; exact b5 f f1 f2 f3⟩
      · rw [cre i (by omega)]
        obtain ⟨w', hw'⟩ := p i (by omega)
        exact tw _ w' (Fx.lt (h.1.2.2.2.2.1.2.1 i (by omega))) hw'
    · obtain ⟨d1, d2, d3, d4⟩ := d
      refine ⟨(F.i (by omega) (by decide)).trans d1, (M.1 7 (by decide)).trans d2, d3, fun j hj => ?_⟩
      rw [F.e (by omega) (by rw [k5]; rfl), M.2 8 (by decide)]; exact d4 j hj
    · obtain ⟨d1, d2, d3⟩ := q
      refine ⟨(F.i (by omega) (by decide)).trans d1, (M.1 35 (by decide)).trans d2, fun j hj => ?_⟩
      rw [F.e (by omega) (by rw [k2]; rfl), M.2 34 (by decide)]; exact d3 j hj
    · have := im.fr (fun i hi => Fx.lt (h.1.2.2.2.1.2.1 i hi)) (by omega) F M (by decide) (by decide) (fun _ _ => rfl) (fun _ _ => rfl) (by decide) (by decide)
      rcases this with y | ⟨y1, im', y2, y3⟩
      · exact .inl y
      · exact .inr ⟨y1, im', y2, y3.ncx (by omega)⟩
end
end
section
/-! STAGE 2: crab, the op -/
section
variable {bx : Nat} {sh cr hb fm : Nat → Nat} {nS nC nH nF nT m : Nat} {cls : Nat → List (Nat × Nat × List Int32 × List (Nat × Nat))} {C : xk_C} {σ : gm_S}
theorem crab_hd (h : cR bx sh cr hb nS nC nH C σ) (hn : nC < 12) {c z x3 : Int32} {C1 : xk_C} (f1 : fX5_init (xk_n C) (xk_mk C 6 0 13) (some bx) (nI nC) c z = some (C1, ())) : fX0_crab_B61 bx C c z x3 = if x3 = -1 then fX0_crab_B116 bx C1 (some (xk_n C)) else (xk_gr C1 0 (some bx)).bind fun v15 => (xk_is C1 21 v15).bind fun b17 => (fJ2_get b17 C1 x3).bind fun r16 => (xk_ck C1 5 r16).bind fun u18 => (xk_is C1 6 (some (xk_n C))).bind fun b20 => (fX5_houseIn b20 C1 r16).bind fun r19 => fX0_crab_B116 bx r19.1 (some (xk_n C)) := by
  have nb := h.1.1.1.2.1
  have nbx : ¬ bx = xk_n C := by omega
  have kB := h.kB
  have c12' : ¬ nI nC = nI 12 := fun e => by rw [s_eq _ _ (by omega) (by omega)] at e; omega
  have q3 : xk_gr (xk_mk C 6 0 13) 3 (some bx) = some (some (bx + 3)) := by rw [g_r (k := 1) (by rw [k_mk, if_neg nbx]; exact kB) rfl, r_mk, if_neg nbx, h.1.1.2.1.2.2.1]
  have L3m : pL (xk_mk C 6 0 13) (bx + 3) nC cr := h.1.2.2.1.fr (Fr.mk (fi := []) (fr := []) (E := fun _ _ => false) Fr.refl 6 0 13 (by decide)) (by decide) (by decide) (fun _ _ => rfl)
  unfold fX0_crab_B61
  rw [xr3 h, ev_b, xi3 h, ev_b, xs3 h, ev_b, if_neg c12', show xk_nw C 5 = some (xk_mk C 6 0 13) from rfl, ev_b, q3, ev_b, g_is L3m.1, ev_b, L3m.size, ev_b, f1, ev_b]
theorem crw_M (σ : gm_S) (n : Nat) (z c : Int32) : Mf [] [1] σ (crw σ n z c) := by
  unfold crw
  refine Mf.sta (Mf.sta (Mf.sta (Mf.sta (Mf.sta (Mf.sta (Mf.sta (Mf.sta (Mf.sta Mf.refl _ _ _ ?_) _ _ _ ?_) _ _ _ ?_) _ _ _ ?_) _ _ _ ?_) _ _ _ ?_) _ _ _ ?_) _ _ _ ?_) _ _ _ ?_ <;> decide
theorem crw_n (σ : gm_S) (n : Nat) (z c : Int32) {p : Nat} (hp : nrow n p) : ga (crw σ n z c) 1 p = ga σ 1 p := by
  obtain ⟨h0, h1, h2, h3, h4, h5, h6, h7, h8, h9⟩ := hp
  unfold crw
  rw [gn _ _ _ _ h9, gn _ _ _ _ h8, gn _ _ _ _ h7, gn _ _ _ _ h6, gn _ _ _ _ h5, gn _ _ _ _ h4, gn _ _ _ _ h3, gn _ _ _ _ h2, gn _ _ _ _ h1]
theorem crw_v (σ : gm_S) {n : Nat} (hn : n < 12) (z c : Int32) : ga (crw σ n z c) 1 (130 + n) = z ∧ ga (crw σ n z c) 1 (142 + n) = c ∧ ga (crw σ n z c) 1 (154 + n) = -1 ∧ ga (crw σ n z c) 1 (166 + n) = 1 ∧ ga (crw σ n z c) 1 (178 + n) = -1 ∧ ga (crw σ n z c) 1 (190 + n) = 0 ∧ ga (crw σ n z c) 1 (202 + n) = 0 ∧ ga (crw σ n z c) 1 (214 + n) = -1 ∧ ga (crw σ n z c) 1 (226 + n) = 0 := by
  unfold crw
  refine ⟨?_, ?_, ?_, ?_, ?_, ?_, ?_, ?_, ?_⟩ <;> simp (disch := omega) only [gn, ge]
/-- with no shell -/
theorem crab_mk0 (h : cR bx sh cr hb nS nC nH C σ) (H : Rt bx sh cr hb fm nS nC nH nF nT m cls C σ) (hn : nC < 12) (c z : Int32) (hz : 1 ≤ z ∧ z ≤ 40) : ∃ C' σ' r, fX0_crab_B61 bx C c z (-1) = some (C', r) ∧ fX3_crab_B68 σ c z (-1) = some (σ', r) ∧ oN bx sh hb fm nS nC nH nF nT m cls C C' σ' := by
  have hI := h.2.2
  obtain ⟨C1, f1, F1, ⟨n1, s1⟩, ka, ⟨i44, i46, i47, iz⟩, ⟨r56, rz⟩, w, w45, wn, wk, wl, wq⟩ := crab_ini bx C (nI nC) c z
  have cre : ∀ i, i < nC → (fun i => if i = nC then xk_n C else cr i) i = cr i := fun i hi => by simp only [show ¬ i = nC by omega, if_false]
  have crn : (fun i => if i = nC then xk_n C else cr i) nC = xk_n C := by simp
  generalize (fun i => if i = nC then xk_n C else cr i) = cr' at *
  obtain ⟨v130, v142, v154, v166, v178, v190, v202, v214, v226⟩ := crw_v σ hn z c
  have o1 : ∀ p, p ≠ 1 → ga (gm_sta (crw σ nC z c) 1 1 (nI (nC + 1))) 1 p = ga (crw σ nC z c) 1 p := fun p hp => gn _ _ _ _ hp
  have e : ∀ p, nrow nC p → ga (gm_sta (crw σ nC z c) 1 1 (nI (nC + 1))) 1 p = ga σ 1 p := fun p hp => by rw [o1 p hp.1, crw_n _ _ _ _ hp]
  have hI' : Iv nS (nC + 1) nH (ga (gm_sta (crw σ nC z c) 1 1 (nI (nC + 1))) 1) := hI.crab hn (ge _ _ _) (by rw [o1 _ (by omega), v130]; exact hz) (by rw [o1 _ (by omega), v154]) (by rw [o1 _ (by omega), v214]) (by rw [o1 _ (by omega), v226]) (.inl ⟨by rw [o1 _ (by omega), v178], by rw [o1 _ (by omega), v166], e⟩)
  obtain ⟨C', g1, o⟩ := crab_end (Cx := C1) (σx := σ) (cr' := cr') h H hn cre crn F1 n1 ka i44 i46 i47 iz r56 rz w45 wn wk wl wq ((h.1.crx hI cre).fresh F1) (F1.mono (by decide) (by decide) (fun _ _ h => h)) n1 (by omega) (fun f _ => rfl) (iz 48 (by omega) (by omega) (by omega)) (fun f _ => rfl) (fun f a _ => rfl) (fun a => rfl) (fun a => rfl) (fun a j => rfl) (by rw [o1 _ (by omega), v178, rf_n]; exact rz 53 (by omega) (by omega)) hI' e (fun i hi => ⟨rfl, rfl⟩) (by rw [o1 _ (by omega), v130]) (by rw [o1 _ (by omega), v142]) (by rw [o1 _ (by omega), v154]) (by rw [o1 _ (by omega), v166]; decide) (by rw [o1 _ (by omega), v190]) (by rw [o1 _ (by omega), v202]) (by rw [o1 _ (by omega), v214]) (by rw [o1 _ (by omega), v226]) ((crw_M σ nC z c).sta _ _ _ (by decide))
  refine ⟨C', _, nI nC, ?_, ?_, o⟩
  · rw [crab_hd h hn f1, if_pos rfl]; exact g1
  · rw [crw_m hn z c h.v1, if_pos rfl]
/-- the row behind going in -/
def crg (σ : gm_S) (n k : Nat) (z c : Int32) : gm_S := gm_sta (gm_sta (gm_sta (gm_sta (gm_sta (crw σ n z c) 1 (166 + n) 0) 1 (178 + n) (nI k)) 1 (190 + n) 0) 1 (90 + k) 1) 1 (110 + k) (nI n)
theorem crg_M (σ : gm_S) (n k : Nat) (z c : Int32) : Mf [] [1] σ (crg σ n k z c) := (((((crw_M σ n z c).sta _ _ _ (by decide)).sta _ _ _ (by decide)).sta _ _ _ (by decide)).sta _ _ _ (by decide)).sta _ _ _ (by decide)
theorem crg_m (σ : gm_S) {n k : Nat} (hn : n < 12) (hk : k < 20) (z c : Int32) : fX3_goesIn (crw σ n z c) (nI n) (nI k) = some (crg σ n k z c) := by
  unfold fX3_goesIn
  rw [m_wr1 _ _ _ _ (by omega), ev_b, m_wr1 _ _ _ _ (by omega), ev_b, m_wr1 _ _ _ _ (by omega), ev_b, m_wr1 _ _ _ _ (by omega), ev_b, m_wr1 _ _ _ _ (by omega), ev_b]
  rfl
theorem crg_v (σ : gm_S) {n k : Nat} (hn : n < 12) (hk : k < 20) (z c : Int32) : ga (crg σ n k z c) 1 (130 + n) = z ∧ ga (crg σ n k z c) 1 (142 + n) = c ∧ ga (crg σ n k z c) 1 (154 + n) = -1 ∧ ga (crg σ n k z c) 1 (166 + n) = 0 ∧ ga (crg σ n k z c) 1 (178 + n) = nI k ∧ ga (crg σ n k z c) 1 (190 + n) = 0 ∧ ga (crg σ n k z c) 1 (202 + n) = 0 ∧ ga (crg σ n k z c) 1 (214 + n) = -1 ∧ ga (crg σ n k z c) 1 (226 + n) = 0 ∧ ga (crg σ n k z c) 1 (90 + k) = 1 ∧ ga (crg σ n k z c) 1 (110 + k) = nI n := by
  obtain ⟨v130, v142, v154, v166, v178, v190, v202, v214, v226⟩ := crw_v σ hn z c
  unfold crg
  refine ⟨?_, ?_, ?_, ?_, ?_, ?_, ?_, ?_, ?_, ?_, ?_⟩
  · simp (disch := omega) only [gn]; exact v130
  · simp (disch := omega) only [gn]; exact v142
  · simp (disch := omega) only [gn]; exact v154
  · simp (disch := omega) only [gn, ge]
  · simp (disch := omega) only [gn, ge]
  · simp (disch := omega) only [gn, ge]
  · simp (disch := omega) only [gn]; exact v202
  · simp (disch := omega) only [gn]; exact v214
  · simp (disch := omega) only [gn]; exact v226
  · simp (disch := omega) only [gn, ge]
  · exact ge _ _ _
theorem crg_n (σ : gm_S) (n k : Nat) (z c : Int32) {p : Nat} (hp : nrow n p) (p1 : p ≠ 90 + k) (p2 : p ≠ 110 + k) : ga (crg σ n k z c) 1 p = ga σ 1 p := by
  have hp' := hp
  obtain ⟨h0, h1, h2, h3, h4, h5, h6, h7, h8, h9⟩ := hp'
  unfold crg
  rw [gn _ _ _ _ p2, gn _ _ _ _ p1, gn _ _ _ _ h6, gn _ _ _ _ h5, gn _ _ _ _ h4, crw_n _ _ _ _ hp]
theorem crg_1 (σ : gm_S) {n k : Nat} (hn : n < 12) (hk : k < 20) (z c : Int32) : ga (crg σ n k z c) 1 1 = ga σ 1 1 := by
  unfold crg crw; simp (disch := omega) only [gn]
/-- the heap behind going in -/
def crx (C1 : xk_C) (a s : Nat) : xk_C := xk_sr (xk_si (xk_si (xk_sr C1 53 a (some s)) 48 a 0) 42 s 1) 43 s (some a)
/-- into a shell -/
theorem crab_mk1 (h : cR bx sh cr hb nS nC nH C σ) (H : Rt bx sh cr hb fm nS nC nH nF nT m cls C σ) (hn : nC < 12) (c z : Int32) (hz : 1 ≤ z ∧ z ≤ 40) {k : Nat} (hk : k < nS) (ek : ga σ 1 (90 + k) = 0) : ∃ C' σ' r, fX0_crab_B61 bx C c z (nI k) = some (C', r) ∧ fX3_crab_B68 σ c z (nI k) = some (σ', r) ∧ oN bx sh hb fm nS nC nH nF nT m cls C C' σ' := by
  have hI := h.2.2
  have hn2 := h.n20
  have hw := free_of hI hk ek
  obtain ⟨C1, f1, F1, ⟨n1, s1⟩, ka, ⟨i44, i46, i47, iz⟩, ⟨r56, rz⟩, w, w45, wn, wk, wl, wq⟩ := crab_ini bx C (nI nC) c z
  have cre : ∀ i, i < nC → (fun i => if i = nC then xk_n C else cr i) i = cr i := fun i hi => by simp only [show ¬ i = nC by omega, if_false]
  have crn : (fun i => if i = nC then xk_n C else cr i) nC = xk_n C := by simp
  generalize (fun i => if i = nC then xk_n C else cr i) = cr' at cre crn
  obtain ⟨v130, v142, v154, v166, v178, v190, v202, v214, v226, v90, v110⟩ := crg_v σ hn (show k < 20 by omega) z c
  have F2 : Fr [] [] (fun _ _ => false) C (xk_si (xk_sr C1 53 (xk_n C) (some (sh k))) 48 (xk_n C) 0) := (F1.sr _ _ _ (.inr (Nat.le_refl _)) (by decide)).si _ _ _ (.inr (Nat.le_refl _))
  have hA2 : cA bx sh cr' hb nS nC (xk_si (xk_sr C1 53 (xk_n C) (some (sh k))) 48 (xk_n C) 0) σ := (h.1.crx hI cre).fresh F2
  have hAx : cA bx sh cr' hb nS nC (crx C1 (xk_n C) (sh k)) (gm_sta (gm_sta σ 1 (90 + k) 1) 1 (110 + k) (nI nC)) := by
    have := wA43 (wA42 hA2 hk 1) hk (nI nC)
    rw [rf_s cr' nC (by omega), crn] at this
    exact this
  have Fx : Fr [42] [43] (fun _ _ => false) C (crx C1 (xk_n C) (sh k)) := ((F2.mono (fi' := [42]) (fr' := [43]) (by decide) (by decide) (fun _ _ h => h)).si _ _ _ (.inl (by decide))).sr _ _ _ (.inl (by decide)) (by decide)
  have skn := h.1.2.2.2.1.2.1 k hk
  have hskn : ¬ xk_n C = sh k := by omega
  have o1 : ∀ p, p ≠ 1 → ga (gm_sta (crg σ nC k z c) 1 1 (nI (nC + 1))) 1 p = ga (crg σ nC k z c) 1 p := fun p hp => gn _ _ _ _ hp
  have e : ∀ p, nrow nC p → ga (gm_sta (crg σ nC k z c) 1 1 (nI (nC + 1))) 1 p = ga (gm_sta (gm_sta σ 1 (90 + k) 1) 1 (110 + k) (nI nC)) 1 p := fun p hp => by
    rw [o1 p hp.1]
    by_cases q1 : p = 110 + k
    · rw [q1, ge, v110]
    · rw [gn _ _ _ _ q1]
      by_cases q2 : p = 90 + k
      · rw [q2, ge, v90]
      · rw [gn _ _ _ _ q2, crg_n _ _ _ _ _ hp q2 q1]
  have hI' : Iv nS (nC + 1) nH (ga (gm_sta (crg σ nC k z c) 1 1 (nI (nC + 1))) 1) := hI.crab hn (ge _ _ _) (by rw [o1 _ (by omega), v130]; exact hz) (by rw [o1 _ (by omega), v154]) (by rw [o1 _ (by omega), v214]) (by rw [o1 _ (by omega), v226]) (.inr ⟨k, hk, hw, by rw [o1 _ (by omega), v178], by rw [o1 _ (by omega), v166], by rw [o1 _ (by omega), v110], by rw [o1 _ (by omega), v90], fun p hp p1 p2 => by rw [o1 p hp.1, crg_n _ _ _ _ _ hp p1 p2]⟩)
  obtain ⟨C', q1, o⟩ := crab_end (Cx := crx C1 (xk_n C) (sh k)) (σx := gm_sta (gm_sta σ 1 (90 + k) 1) 1 (110 + k) (nI nC)) (cr' := cr') (σ' := gm_sta (crg σ nC k z c) 1 1 (nI (nC + 1))) h H hn cre crn F1 n1 ka i44 i46 i47 iz r56 rz w45 wn wk wl wq hAx Fx n1 (by show xk_s C1 ≤ _; omega) (fun f hf => by unfold crx; rw [i_sr, i_si, if_neg (fun e => hskn e.2), i_si, if_neg (fun e => hf e.1), i_sr]) (by unfold crx; rw [i_sr, i_si, if_neg (fun e => hskn e.2), i_si, if_pos ⟨rfl, rfl⟩]) (fun f hf => by unfold crx; rw [r_sr, if_neg (fun e => hskn e.2), r_si, r_si, r_sr, if_neg (fun e => hf e.1)]) (fun f a ha => by unfold crx; rw [r_sr, if_neg (by omega), r_si, r_si, r_sr, if_neg (by omega)]) (fun a => rfl) (fun a => rfl) (fun a j => rfl) (by rw [o1 _ (by omega), v178, rf_s sh k (by omega)]; unfold crx; rw [r_sr, if_neg (fun e => hskn e.2), r_si, r_si, r_sr, if_pos ⟨rfl, rfl⟩]) hI' e (fun i hi => ⟨by rw [gn _ _ _ _ (by omega), gn _ _ _ _ (by omega)], by rw [gn _ _ _ _ (by omega), gn _ _ _ _ (by omega)]⟩) (by rw [o1 _ (by omega), v130]) (by rw [o1 _ (by omega), v142]) (by rw [o1 _ (by omega), v154]) (by rw [o1 _ (by omega), v166]; decide) (by rw [o1 _ (by omega), v190]) (by rw [o1 _ (by omega), v202]) (by rw [o1 _ (by omega), v214]) (by rw [o1 _ (by omega), v226]) ((crg_M σ nC k z c).sta _ _ _ (by decide))
  refine ⟨C', _, nI nC, ?_, ?_, o⟩
  · have h1 := h.fresh F1
    have g0 : fJ2_get (bx + 1) C1 (nI k) = some (some (sh k)) := xg0 h1 hk
    have k5 : xk_k C1 (sh k) = 5 := h1.1.2.2.2.1.1 k hk
    rw [crab_hd h hn f1, if_neg (s_m1 k (by omega)), xr0 h1, ev_b, xi0 h1, ev_b, g0, ev_b, xc5 h1 hk, ev_b, g_is ka, ev_b]
    have hh : fX5_houseIn (xk_n C) C1 (some (sh k)) = some (crx C1 (xk_n C) (sh k), ()) := by
      unfold fX5_houseIn fX4_become
      simp only [ev_gi, ev_gr, ev_pi, ev_pr, ev_pz0, ev_pz1, ev_is, ev_ck, ev_ckn, ev_b, ev_10, if_true, if_false, false_and, and_false, true_and, and_true, reduceCtorEq, k_si, k_sr, k_se, k_sq, ka, k5, h_6_44, h_6_45, h_6_46, h_6_47, h_6_48, h_6_49, h_6_50, h_6_51, h_6_52, h_6_53, h_6_54, h_6_55, h_6_56, h_5_37, h_5_38, h_5_39, h_5_40, h_5_41, h_5_42, h_5_43]
      rfl
    rw [hh, ev_b]; exact q1
  · rw [crw_m hn z c h.v1, if_neg (s_m1 k (by omega)), crg_m σ hn (by omega) z c, ev_b]
    unfold fX3_crab_B210
    rw [ev_r1, ev_b, crg_1 σ hn (by omega), h.v1, ev_w1, ev_b, s_a1]
theorem op_crab (h : cR bx sh cr hb nS nC nH C σ) (H : Rt bx sh cr hb fm nS nC nH nF nT m cls C σ) (a1 a2 a3 : Int32) : ∃ C' σ' r, fX0_crab bx C a1 a2 a3 = some (C', r) ∧ fX3_crab σ a1 a2 a3 = some (σ', r) ∧ oN bx sh hb fm nS nC nH nF nT m cls C C' σ' := by
  have hn := h.n12
  have hn2 := h.n20
  have idr : ∀ r : Int32, ∃ C' σ' r', some (C, r) = some (C', r') ∧ some (σ, r) = some (σ', r') ∧ oN bx sh hb fm nS nC nH nF nT m cls C C' σ' := fun r => ⟨C, σ, r, rfl, rfl, cr, nC, h, H, Nat.le_refl _, by omega, by omega⟩
  have full : nC = 12 → ∀ x3, ∃ C' σ' r, fX0_crab_B61 bx C a1 a2 x3 = some (C', r) ∧ fX3_crab_B68 σ a1 a2 x3 = some (σ', r) ∧ oN bx sh hb fm nS nC nH nF nT m cls C C' σ' := fun e x3 => by
    have e1 : nI nC = nI 12 := by rw [e]
    unfold fX0_crab_B61 fX3_crab_B68
    rw [xr3 h, ev_b, xi3 h, ev_b, xs3 h, ev_b, if_pos e1, ev_r1, ev_b, h.v1, if_pos e1]
    exact idr _
  unfold fX0_crab fX3_crab
  rw [cell_eq]
  rcases cell_ok a1 with e | e
  · simp only [e, ev_b, if_true]; exact idr _
  simp only [e, ev_b, ev_10, if_false]
  by_cases e3 : a3 = -1
  · subst e3
    simp only [if_true]
    unfold fX0_crab_B22 fX3_crab_B22
    rw [in_eq]
    rcases in_ok a2 1 (nI 40) with e | ⟨e, g1, g2⟩
    · simp only [e, ev_b, if_true]; exact idr _
    simp only [e, ev_b, ev_10, if_false, if_true]
    by_cases c12 : nC = 12
    · exact full c12 _
    · exact crab_mk0 h H (by omega) a1 a2 ⟨g1, g2⟩
  · simp only [if_neg e3, g_is h.kB, ev_b]
    rcases s_rng nS (by omega) a3 with ⟨k, hk, rfl⟩ | hv
    · simp only [isShell_in h.v0 hn2 hk, shellAt_in h hk, ev_b, ev_10, if_false, reduceCtorEq]
      unfold fX0_crab_B22 fX3_crab_B22
      rw [in_eq]
      rcases in_ok a2 1 (nI 40) with e | ⟨e, g1, g2⟩
      · simp only [e, ev_b, if_true]; exact idr _
      simp only [e, ev_b, ev_10, if_false, if_neg e3, xr0 h, xi0 h, xg0 h hk, xc5 h hk, xq5 h hk, alies h.1 hk, m_rd1 σ _ k (by omega : 90 + k < 240), m_rd1 σ _ k (by omega : 70 + k < 240)]
      by_cases c0 : ga σ 1 (90 + k) = 0
      · simp only [if_pos c0]
        by_cases c1 : ga σ 1 (70 + k) = a1
        · simp only [if_pos c1, ev_10, if_false]
          by_cases c12 : nC = 12
          · exact full c12 _
          · exact crab_mk1 h H (by omega) a1 a2 ⟨g1, g2⟩ hk c0
        · simp only [if_neg c1, if_true]; exact idr _
      · simp only [if_neg c0, if_true]; exact idr _
    · simp only [isShell_out h.v0 hn2 hv, shellAt_out h hv, ev_b, if_true]; exact idr _
end
end
section
/-! STAGE 2: an image is made -/
/-- an image that is being made: i shells, j crabs are in it -/
def IB (bx a nS nC : Nat) (hb : Nat → Nat) (s : Nat → Int32) (i j : Nat) (C0 C : xk_C) : Prop :=
  (xk_k C a = 20 ∧ xk_n C0 = a ∧ xk_n C = a + 5 ∧ xk_s C ≤ xk_s C0 + 400 ∧ Fr [] [] (fun _ _ => false) C0 C) ∧
  (xk_i C 91 a = nI nS ∧ xk_i C 92 a = nI nC ∧ xk_i C 93 a = s 2 ∧ xk_i C 94 a = s 3 ∧ xk_i C 95 a = s 4) ∧
  (xk_r C 96 a = some (a + 1) ∧ xk_r C 97 a = some (a + 2) ∧ xk_r C 98 a = some (a + 3) ∧ xk_r C 99 a = some (a + 4) ∧ xk_r C 100 a = some bx) ∧
  ((xk_k C (a + 1) = 30 ∧ xk_l C (a + 1) = 3) ∧ (xk_k C (a + 2) = 30 ∧ xk_l C (a + 2) = 3 * nS) ∧ (xk_k C (a + 3) = 30 ∧ xk_l C (a + 3) = 7 * nC) ∧ (xk_k C (a + 4) = 38 ∧ xk_l C (a + 4) = nC)) ∧
  (∀ q, q < 3 → xk_e C (a + 1) q = s (5 + q)) ∧
  (∀ k, k < i → xk_e C (a + 2) (3 * k) = s (70 + k) ∧ xk_e C (a + 2) (3 * k + 1) = s (90 + k) ∧ xk_e C (a + 2) (3 * k + 2) = s (110 + k)) ∧
  (∀ k, k < j → xk_e C (a + 3) (7 * k) = s (142 + k) ∧ xk_e C (a + 3) (7 * k + 1) = s (130 + k) ∧ xk_e C (a + 3) (7 * k + 2) = s (190 + k) ∧ xk_e C (a + 3) (7 * k + 3) = s (202 + k) ∧ xk_e C (a + 3) (7 * k + 4) = s (214 + k) ∧ xk_e C (a + 3) (7 * k + 5) = s (178 + k) ∧ xk_e C (a + 3) (7 * k + 6) = (if s (166 + k) = 2 then 1 else 0) + (if s (226 + k) = 1 then 2 else 0) + (if s (226 + k) = 2 then 4 else 0)) ∧
  (∀ k, k < j → xk_q C (a + 4) k = rf hb (s (154 + k)))
section
variable {bx : Nat} {sh cr hb : Nat → Nat} {nS nC nH : Nat} {C : xk_C} {σ : gm_S}
theorem img_a (h : cR bx sh cr hb nS nC nH C σ) : ∃ C1, (∀ N, fX19_init N (xk_n C) (xk_mk C 20 0 10) (some bx) = fX19_init_L143 N (xk_n C) N C1 (some bx) 0) ∧ IB bx (xk_n C) nS nC hb (ga σ 1) 0 0 C C1 := by
  have hn := h.n12
  have hn2 := h.n20
  have nb := h.1.1.1.2.1
  have kM : xk_k (xk_mk C 20 0 10) (xk_n C) = 20 := by rw [k_mk, if_pos rfl]
  have F1 : Fr [] [] (fun _ _ => false) C (xk_sr (xk_mk C 20 0 10) 100 (xk_n C) (some bx)) := (Fr.refl.mk 20 0 10 (by decide)).sr _ _ _ (.inr (Nat.le_refl _)) (by decide)
  have F2 := F1.si 91 (xk_n C) (nI nS) (.inr (Nat.le_refl _))
  have F3 := F2.si 92 (xk_n C) (nI nC) (.inr (Nat.le_refl _))
  have F4 := F3.si 93 (xk_n C) (ga σ 1 2) (.inr (Nat.le_refl _))
  have F5 := F4.si 94 (xk_n C) (ga σ 1 3) (.inr (Nat.le_refl _))
  have F6 := F5.si 95 (xk_n C) (ga σ 1 4) (.inr (Nat.le_refl _))
  have d6 : ∃ c6, c6 = xk_si (xk_si (xk_si (xk_si (xk_si (xk_sr (xk_mk C 20 0 10) 100 (xk_n C) (some bx)) 91 (xk_n C) (nI nS)) 92 (xk_n C) (nI nC)) 93 (xk_n C) (ga σ 1 2)) 94 (xk_n C) (ga σ 1 3)) 95 (xk_n C) (ga σ 1 4) := ⟨_, rfl⟩
  obtain ⟨c6, e6⟩ := d6
  have n6 : xk_n c6 = xk_n C + 1 := by rw [e6]; rfl
  have s6 : xk_s c6 = xk_s C + 10 := by rw [e6]; rfl
  have k6 : xk_k c6 (xk_n C) = 20 := by rw [e6]; exact kM
  have r100 : xk_r c6 100 (xk_n C) = some bx := by rw [e6]; simp [r_si, r_sr]
  have i6 : xk_i c6 91 (xk_n C) = nI nS ∧ xk_i c6 92 (xk_n C) = nI nC ∧ xk_i c6 93 (xk_n C) = ga σ 1 2 ∧ xk_i c6 94 (xk_n C) = ga σ 1 3 ∧ xk_i c6 95 (xk_n C) = ga σ 1 4 := by rw [e6]; simp [i_si]
  have start : ∀ N, fX19_init N (xk_n C) (xk_mk C 20 0 10) (some bx) = (xk_gr c6 100 (some (xk_n C))).bind fun v21 => (xk_gr c6 7 v21).bind fun v22 => (xk_cln c6 v22).bind fun σ23 => (xk_ck σ23 30 (some (xk_n c6))).bind fun u24 => (xk_pr σ23 96 (some (xk_n C)) (some (xk_n c6))).bind fun σ25 => (xk_gr σ25 100 (some (xk_n C))).bind fun v26 => (xk_gr σ25 0 v26).bind fun v27 => (xk_is σ25 21 v27).bind fun b29 => (fJ2_size b29 σ25).bind fun r28 => (xk_na σ25 0 (3 * r28)).bind fun σ30 => (xk_pr σ30 97 (some (xk_n C)) (some (xk_n σ25))).bind fun σ31 => (xk_gr σ31 100 (some (xk_n C))).bind fun v32 => (xk_gr σ31 3 v32).bind fun v33 => (xk_is σ31 21 v33).bind fun b35 => (fJ2_size b35 σ31).bind fun r34 => (xk_na σ31 0 (nI 7 * r34)).bind fun σ36 => (xk_pr σ36 98 (some (xk_n C)) (some (xk_n σ31))).bind fun σ37 => (xk_gr σ37 100 (some (xk_n C))).bind fun v38 => (xk_gr σ37 3 v38).bind fun v39 => (xk_is σ37 21 v39).bind fun b41 => (fJ2_size b41 σ37).bind fun r40 => (xk_na σ37 8 r40).bind fun σ42 => (xk_pr σ42 99 (some (xk_n C)) (some (xk_n σ37))).bind fun σ43 => fX19_init_L143 N (xk_n C) N σ43 (some bx) 0 := by
    intro N
    have q100 : ∀ c : xk_C, xk_k c (xk_n C) = 20 → xk_r c 100 (xk_n C) = some bx → xk_gr c 100 (some (xk_n C)) = some (some bx) := fun c hc1 hc2 => by rw [g_r hc1 rfl, hc2]
    have h1 := h.fresh F1
    have h2 := h.fresh F2
    have h3 := h.fresh F3
    have h4 := h.fresh F4
    have h5 := h.fresh F5
    have rr : xk_r (xk_sr (xk_mk C 20 0 10) 100 (xk_n C) (some bx)) 100 (xk_n C) = some bx := by simp [r_sr]
    unfold fX19_init
    rw [p_r kM rfl, ev_b]
    rw [q100 (xk_sr (xk_mk C 20 0 10) 100 (xk_n C) (some bx)) kM rr, ev_b, xr0 h1, ev_b, xi0 h1, ev_b, xs0 h1, ev_b, p_i (C := xk_sr (xk_mk C 20 0 10) 100 (xk_n C) (some bx)) (k := 20) kM rfl, ev_b]
    rw [q100 (xk_si (xk_sr (xk_mk C 20 0 10) 100 (xk_n C) (some bx)) 91 (xk_n C) (nI nS)) kM rr, ev_b, xr3 h2, ev_b, xi3 h2, ev_b, xs3 h2, ev_b, p_i (C := xk_si (xk_sr (xk_mk C 20 0 10) 100 (xk_n C) (some bx)) 91 (xk_n C) (nI nS)) (k := 20) kM rfl, ev_b]
    rw [q100 (xk_si (xk_si (xk_sr (xk_mk C 20 0 10) 100 (xk_n C) (some bx)) 91 (xk_n C) (nI nS)) 92 (xk_n C) (nI nC)) kM rr, ev_b, g_i h3.kB rfl, h3.1.2.2.2.2.2.1.1, ev_b, p_i (C := xk_si (xk_si (xk_sr (xk_mk C 20 0 10) 100 (xk_n C) (some bx)) 91 (xk_n C) (nI nS)) 92 (xk_n C) (nI nC)) (k := 20) kM rfl, ev_b]
    rw [q100 (xk_si (xk_si (xk_si (xk_sr (xk_mk C 20 0 10) 100 (xk_n C) (some bx)) 91 (xk_n C) (nI nS)) 92 (xk_n C) (nI nC)) 93 (xk_n C) (ga σ 1 2)) kM rr, ev_b, g_i h4.kB rfl, h4.1.2.2.2.2.2.1.2.1, ev_b, p_i (C := xk_si (xk_si (xk_si (xk_sr (xk_mk C 20 0 10) 100 (xk_n C) (some bx)) 91 (xk_n C) (nI nS)) 92 (xk_n C) (nI nC)) 93 (xk_n C) (ga σ 1 2)) (k := 20) kM rfl, ev_b]
    rw [q100 (xk_si (xk_si (xk_si (xk_si (xk_sr (xk_mk C 20 0 10) 100 (xk_n C) (some bx)) 91 (xk_n C) (nI nS)) 92 (xk_n C) (nI nC)) 93 (xk_n C) (ga σ 1 2)) 94 (xk_n C) (ga σ 1 3)) kM rr, ev_b, g_i h5.kB rfl, h5.1.2.2.2.2.2.1.2.2.1, ev_b, p_i (C := xk_si (xk_si (xk_si (xk_si (xk_sr (xk_mk C 20 0 10) 100 (xk_n C) (some bx)) 91 (xk_n C) (nI nS)) 92 (xk_n C) (nI nC)) 93 (xk_n C) (ga σ 1 2)) 94 (xk_n C) (ga σ 1 3)) (k := 20) kM rfl, ev_b]
    rw [← e6]
  rw [← e6] at F6
  clear e6 F1 F2 F3 F4 F5
  have h6 := h.fresh F6
  have l4 := h6.1.1.2.2.2.2.1
  have k4 := h6.1.1.2.2.1.2.2.2.1
  have ne1 : ¬ xk_n C = xk_n C + 1 := by omega
  have ne2 : ¬ xk_n C = xk_n C + 2 := by omega
  have ne3 : ¬ xk_n C = xk_n C + 3 := by omega
  have ne4 : ¬ xk_n C = xk_n C + 4 := by omega
  -- the copy of the exchanges
  have cl : xk_cln c6 (some (bx + 4)) = some (xk_sE (xk_mk c6 30 3 3) (xk_n C + 1) (xk_e c6 (bx + 4))) := by
    show (if xk_k c6 (bx + 4) = 30 then some (xk_sE (xk_mk c6 30 (xk_l c6 (bx + 4)) (xk_l c6 (bx + 4))) (xk_n c6) (xk_e c6 (bx + 4))) else none) = _
    rw [if_pos k4, l4, n6]
  have d7 : ∃ c7, c7 = xk_sr (xk_sE (xk_mk c6 30 3 3) (xk_n C + 1) (xk_e c6 (bx + 4))) 96 (xk_n C) (some (xk_n C + 1)) := ⟨_, rfl⟩
  obtain ⟨c7, e7⟩ := d7
  have F7 : Fr [] [] (fun _ _ => false) C c7 := by rw [e7]; exact ((F6.mk 30 3 3 (by decide)).sE _ _ (.inr (by omega))).sr _ _ _ (.inr (Nat.le_refl _)) (by decide)
  have n7 : xk_n c7 = xk_n C + 2 := by rw [e7]; show xk_n c6 + 1 = _; omega
  have s7 : xk_s c7 = xk_s C + 13 := by rw [e7]; show xk_s c6 + 3 = _; omega
  have k7 : xk_k c7 (xk_n C) = 20 ∧ xk_k c7 (xk_n C + 1) = 30 ∧ xk_l c7 (xk_n C + 1) = 3 := by
    rw [e7]
    refine ⟨?_, ?_, ?_⟩
    · show (if xk_n C = xk_n c6 then 30 else xk_k c6 (xk_n C)) = 20; rw [n6, if_neg ne1]; exact k6
    · show (if xk_n C + 1 = xk_n c6 then 30 else xk_k c6 (xk_n C + 1)) = 30; rw [n6, if_pos rfl]
    · show (if xk_n C + 1 = xk_n c6 then 3 else xk_l c6 (xk_n C + 1)) = 3; rw [n6, if_pos rfl]
  have i7 : ∀ f, xk_i c7 f (xk_n C) = xk_i c6 f (xk_n C) := fun f => by
    rw [e7]; show (if xk_n C = xk_n c6 then 0 else xk_i c6 f (xk_n C)) = _; rw [n6, if_neg ne1]
  have r7 : xk_r c7 96 (xk_n C) = some (xk_n C + 1) ∧ xk_r c7 100 (xk_n C) = some bx := by
    rw [e7]
    refine ⟨by rw [r_sr, if_pos ⟨rfl, rfl⟩], ?_⟩
    rw [r_sr, if_neg (by omega)]; show (if xk_n C = xk_n c6 then none else xk_r c6 100 (xk_n C)) = _; rw [n6, if_neg ne1]; exact r100
  have e1q : ∀ q, q < 3 → xk_e c7 (xk_n C + 1) q = ga σ 1 (5 + q) := fun q hq => by
    rw [e7]; show (if xk_n C + 1 = xk_n C + 1 then xk_e c6 (bx + 4) q else _) = _; rw [if_pos rfl]; exact h6.1.2.2.2.2.2.1.2.2.2 q hq
  have h7 := h.fresh F7
  have d8 : ∃ c8, c8 = xk_sr (xk_mk c7 30 (3 * nS) (3 * nS)) 97 (xk_n C) (some (xk_n C + 2)) := ⟨_, rfl⟩
  obtain ⟨c8, e8⟩ := d8
  have F8 : Fr [] [] (fun _ _ => false) C c8 := by rw [e8]; exact (F7.mk 30 _ _ (by decide)).sr _ _ _ (.inr (Nat.le_refl _)) (by decide)
  have n8 : xk_n c8 = xk_n C + 3 := by rw [e8]; show xk_n c7 + 1 = _; omega
  have s8 : xk_s c8 = xk_s C + 13 + 3 * nS := by rw [e8]; show xk_s c7 + 3 * nS = _; omega
  have o8 : ∀ x, x < xk_n C + 2 → xk_k c8 x = xk_k c7 x ∧ xk_l c8 x = xk_l c7 x ∧ (∀ f, xk_i c8 f x = xk_i c7 f x) ∧ (∀ f, f ≠ 97 → xk_r c8 f x = xk_r c7 f x) ∧ (∀ q, xk_e c8 x q = xk_e c7 x q) := fun x hx => by
    have nx : ¬ x = xk_n c7 := by omega
    rw [e8]; exact ⟨by rw [k_sr, k_mk, if_neg nx], by rw [l_sr, l_mk, if_neg nx], fun f => by rw [i_sr, i_mk, if_neg nx], fun f hf => by rw [r_sr, if_neg (fun e => hf e.1), r_mk, if_neg nx], fun q => by rw [e_sr, e_mk, if_neg nx]⟩
  have k8 : xk_k c8 (xk_n C + 2) = 30 ∧ xk_l c8 (xk_n C + 2) = 3 * nS ∧ xk_r c8 97 (xk_n C) = some (xk_n C + 2) := by
    rw [e8]; exact ⟨by rw [k_sr, k_mk, if_pos n7.symm], by rw [l_sr, l_mk, if_pos n7.symm], by rw [r_sr, if_pos ⟨rfl, rfl⟩]⟩
  have h8 := h.fresh F8
  have d9 : ∃ c9, c9 = xk_sr (xk_mk c8 30 (7 * nC) (7 * nC)) 98 (xk_n C) (some (xk_n C + 3)) := ⟨_, rfl⟩
  obtain ⟨c9, e9⟩ := d9
  have F9 : Fr [] [] (fun _ _ => false) C c9 := by rw [e9]; exact (F8.mk 30 _ _ (by decide)).sr _ _ _ (.inr (Nat.le_refl _)) (by decide)
  have n9 : xk_n c9 = xk_n C + 4 := by rw [e9]; show xk_n c8 + 1 = _; omega
  have s9 : xk_s c9 = xk_s C + 13 + 3 * nS + 7 * nC := by rw [e9]; show xk_s c8 + 7 * nC = _; omega
  have o9 : ∀ x, x < xk_n C + 3 → xk_k c9 x = xk_k c8 x ∧ xk_l c9 x = xk_l c8 x ∧ (∀ f, xk_i c9 f x = xk_i c8 f x) ∧ (∀ f, f ≠ 98 → xk_r c9 f x = xk_r c8 f x) ∧ (∀ q, xk_e c9 x q = xk_e c8 x q) := fun x hx => by
    have nx : ¬ x = xk_n c8 := by omega
    rw [e9]; exact ⟨by rw [k_sr, k_mk, if_neg nx], by rw [l_sr, l_mk, if_neg nx], fun f => by rw [i_sr, i_mk, if_neg nx], fun f hf => by rw [r_sr, if_neg (fun e => hf e.1), r_mk, if_neg nx], fun q => by rw [e_sr, e_mk, if_neg nx]⟩
  have k9 : xk_k c9 (xk_n C + 3) = 30 ∧ xk_l c9 (xk_n C + 3) = 7 * nC ∧ xk_r c9 98 (xk_n C) = some (xk_n C + 3) := by
    rw [e9]; exact ⟨by rw [k_sr, k_mk, if_pos n8.symm], by rw [l_sr, l_mk, if_pos n8.symm], by rw [r_sr, if_pos ⟨rfl, rfl⟩]⟩
  have h9 := h.fresh F9
  have d10 : ∃ c10, c10 = xk_sr (xk_mk c9 38 nC nC) 99 (xk_n C) (some (xk_n C + 4)) := ⟨_, rfl⟩
  obtain ⟨c10, e10⟩ := d10
  have F10 : Fr [] [] (fun _ _ => false) C c10 := by rw [e10]; exact (F9.mk 38 _ _ (by decide)).sr _ _ _ (.inr (Nat.le_refl _)) (by decide)
  have n10 : xk_n c10 = xk_n C + 5 := by rw [e10]; show xk_n c9 + 1 = _; omega
  have s10 : xk_s c10 = xk_s C + 13 + 3 * nS + 7 * nC + nC := by rw [e10]; show xk_s c9 + nC = _; omega
  have o10 : ∀ x, x < xk_n C + 4 → xk_k c10 x = xk_k c9 x ∧ xk_l c10 x = xk_l c9 x ∧ (∀ f, xk_i c10 f x = xk_i c9 f x) ∧ (∀ f, f ≠ 99 → xk_r c10 f x = xk_r c9 f x) ∧ (∀ q, xk_e c10 x q = xk_e c9 x q) := fun x hx => by
    have nx : ¬ x = xk_n c9 := by omega
    rw [e10]; exact ⟨by rw [k_sr, k_mk, if_neg nx], by rw [l_sr, l_mk, if_neg nx], fun f => by rw [i_sr, i_mk, if_neg nx], fun f hf => by rw [r_sr, if_neg (fun e => hf e.1), r_mk, if_neg nx], fun q => by rw [e_sr, e_mk, if_neg nx]⟩
  have k10 : xk_k c10 (xk_n C + 4) = 38 ∧ xk_l c10 (xk_n C + 4) = nC ∧ xk_r c10 99 (xk_n C) = some (xk_n C + 4) := by
    rw [e10]; exact ⟨by rw [k_sr, k_mk, if_pos n9.symm], by rw [l_sr, l_mk, if_pos n9.symm], by rw [r_sr, if_pos ⟨rfl, rfl⟩]⟩
  have a7 := o8 (xk_n C) (by omega)
  have a8 := o9 (xk_n C) (by omega)
  have a9 := o10 (xk_n C) (by omega)
  have b7 := o8 (xk_n C + 1) (by omega)
  have b8 := o9 (xk_n C + 1) (by omega)
  have b9 := o10 (xk_n C + 1) (by omega)
  have g8 := o9 (xk_n C + 2) (by omega)
  have g9 := o10 (xk_n C + 2) (by omega)
  have j9 := o10 (xk_n C + 3) (by omega)
  have ii : ∀ f, xk_i c10 f (xk_n C) = xk_i c6 f (xk_n C) := fun f => by rw [a9.2.2.1, a8.2.2.1, a7.2.2.1, i7]
  refine ⟨c10, fun N => ?_, ⟨by rw [a9.1, a8.1, a7.1]; exact k7.1, rfl, n10, by omega, F10⟩, ⟨by rw [ii]; exact i6.1, by rw [ii]; exact i6.2.1, by rw [ii]; exact i6.2.2.1, by rw [ii]; exact i6.2.2.2.1, by rw [ii]; exact i6.2.2.2.2⟩, ⟨?_, ?_, ?_, k10.2.2, ?_⟩, ⟨⟨by rw [b9.1, b8.1, b7.1]; exact k7.2.1, by rw [b9.2.1, b8.2.1, b7.2.1]; exact k7.2.2⟩, ⟨by rw [g9.1, g8.1]; exact k8.1, by rw [g9.2.1, g8.2.1]; exact k8.2.1⟩, ⟨by rw [j9.1]; exact k9.1, by rw [j9.2.1]; exact k9.2.1⟩, ⟨k10.1, k10.2.1⟩⟩, fun q hq => by rw [b9.2.2.2.2, b8.2.2.2.2, b7.2.2.2.2]; exact e1q q hq, fun k hk => by omega, fun k hk => by omega, fun k hk => by omega⟩
  · rw [start N, g_r k6 rfl, r100, ev_b, g_r h6.kB rfl, h6.1.1.2.1.2.2.2.1, ev_b, cl, ev_b, n6]
    rw [g_ck (C := xk_sE (xk_mk c6 30 3 3) (xk_n C + 1) (xk_e c6 (bx + 4))) (show xk_k (xk_mk c6 30 3 3) (xk_n C + 1) = 30 by rw [k_mk, n6, if_pos rfl]), ev_b]
    rw [p_r (C := xk_sE (xk_mk c6 30 3 3) (xk_n C + 1) (xk_e c6 (bx + 4))) (k := 20) (show xk_k (xk_mk c6 30 3 3) (xk_n C) = 20 by rw [k_mk, n6, if_neg ne1]; exact k6) rfl, ev_b, ← e7]
    rw [g_r k7.1 rfl, r7.2, ev_b, xr0 h7, ev_b, xi0 h7, ev_b, xs0 h7, ev_b, show (3 : Int32) = nI 3 from rfl, s_mul, p_na (by omega), ev_b, n7]
    rw [p_r (C := xk_mk c7 (30 + 0) (3 * nS) (3 * nS)) (k := 20) (by rw [k_mk, n7, if_neg ne2]; exact k7.1) rfl, ev_b, ← e8]
    have k8a : xk_k c8 (xk_n C) = 20 := a7.1.trans k7.1
    have r8a : xk_r c8 100 (xk_n C) = some bx := (a7.2.2.2.1 100 (by omega)).trans r7.2
    rw [g_r k8a rfl, r8a, ev_b, xr3 h8, ev_b, xi3 h8, ev_b, xs3 h8, ev_b, s_mul, p_na (by omega), ev_b, n8]
    rw [p_r (C := xk_mk c8 (30 + 0) (7 * nC) (7 * nC)) (k := 20) (by rw [k_mk, n8, if_neg ne3]; exact k8a) rfl, ev_b, ← e9]
    have k9a : xk_k c9 (xk_n C) = 20 := a8.1.trans k8a
    have r9a : xk_r c9 100 (xk_n C) = some bx := (a8.2.2.2.1 100 (by omega)).trans r8a
    rw [g_r k9a rfl, r9a, ev_b, xr3 h9, ev_b, xi3 h9, ev_b, xs3 h9, ev_b, p_na (by omega), ev_b, n9]
    rw [p_r (C := xk_mk c9 (30 + 8) nC nC) (k := 20) (by rw [k_mk, n9, if_neg ne4]; exact k9a) rfl, ev_b, ← e10]
  · rw [a9.2.2.2.1 _ (by omega), a8.2.2.2.1 _ (by omega), a7.2.2.2.1 _ (by omega)]; exact r7.1
  · rw [a9.2.2.2.1 _ (by omega), a8.2.2.2.1 _ (by omega)]; exact k8.2.2
  · rw [a9.2.2.2.1 _ (by omega)]; exact k9.2.2
  · rw [a9.2.2.2.1 _ (by omega), a8.2.2.2.1 _ (by omega), a7.2.2.2.1 _ (by omega)]; exact r7.2
end
end
