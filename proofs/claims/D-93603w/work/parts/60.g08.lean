set_option maxRecDepth 16384
section
/-! STAGE 2: film; the core and the rest behind an add -/
section
variable {bx : Nat} {sh cr hb fm : Nat → Nat} {nS nC nH nF nT m : Nat} {cls : Nat → List (Nat × Nat × List Int32 × List (Nat × Nat))} {C C' : xk_C} {σ σ' : gm_S} {ks as : List Nat}
theorem cR.add {a : Nat} (h : cR bx sh cr hb nS nC nH C σ) (L : pLF a C C') (a1 : a ≠ bx + 1) (a3 : a ≠ bx + 3) (hs : ∀ j, ga σ' 1 j = ga σ 1 j) : cR bx sh cr hb nS nC nH C' σ' := by
  obtain ⟨F, -, -, -, hL⟩ := L
  have es : ga σ' 1 = ga σ 1 := funext hs
  obtain ⟨⟨hB, L1, L3, ⟨S5, Sn, S37, S38, S39, S40, S41, S42, S43⟩, ⟨C6, Cn, C44, C46, C47, C48, C49, C53, C54, C55, C56⟩, ⟨B4, B5, B6, B7⟩, nS20, nC12⟩, ⟨F50, F51, F52⟩, hI⟩ := h
  have nb := hB.1.2.1
  have k4 := hB.2.2.1.2.2.2.1
  refine ⟨⟨hB.fr F (by decide), hL _ _ _ (Ne.symm a1) L1, hL _ _ _ (Ne.symm a3) L3, ⟨?_, ?_, ?_, ?_, ?_, ?_, ?_, ?_, ?_⟩, ⟨?_, ?_, ?_, ?_, ?_, ?_, ?_, ?_, ?_, ?_, ?_⟩, ⟨?_, ?_, ?_, ?_⟩, nS20, nC12⟩, ⟨?_, ?_, ?_⟩, by rw [es]; exact hI⟩
  · intro i hi; rw [F.k (Sn i hi)]; exact S5 i hi
  · intro i hi; exact F.lt (Sn i hi)
  · intro i hi; rw [F.i (Sn i hi) (by decide)]; exact S37 i hi
  · intro i hi; rw [F.i (Sn i hi) (by decide), hs]; exact S38 i hi
  · intro i hi; rw [F.i (Sn i hi) (by decide), hs]; exact S39 i hi
  · intro i hi; rw [F.i (Sn i hi) (by decide), hs]; exact S40 i hi
  · intro i hi; rw [F.i (Sn i hi) (by decide), hs]; exact S41 i hi
  · intro i hi; rw [F.i (Sn i hi) (by decide), hs]; exact S42 i hi
  · intro i hi; rw [F.r (Sn i hi) (by decide), hs]; exact S43 i hi
  · intro i hi; rw [F.k (Cn i hi)]; exact C6 i hi
  · intro i hi; exact F.lt (Cn i hi)
  · intro i hi; rw [F.i (Cn i hi) (by decide)]; exact C44 i hi
  · intro i hi; rw [F.i (Cn i hi) (by decide), hs]; exact C46 i hi
  · intro i hi; rw [F.i (Cn i hi) (by decide), hs]; exact C47 i hi
  · intro i hi; rw [F.i (Cn i hi) (by decide), hs]; exact C48 i hi
  · intro i hi; rw [F.i (Cn i hi) (by decide), hs]; exact C49 i hi
  · intro i hi; rw [F.r (Cn i hi) (by decide), hs]; exact C53 i hi
  · intro i hi; rw [F.r (Cn i hi) (by decide), hs]; exact C54 i hi
  · intro i hi; rw [F.r (Cn i hi) (by decide), hs]; exact C55 i hi
  · intro i hi; rw [F.r (Cn i hi) (by decide)]; exact C56 i hi
  · rw [F.i (by omega) (by decide), hs]; exact B4
  · rw [F.i (by omega) (by decide), hs]; exact B5
  · rw [F.i (by omega) (by decide), hs]; exact B6
  · intro j hj; rw [F.e (by omega) (by rw [k4]; rfl), hs]; exact B7 j hj
  · intro i hi; rw [F.i (Cn i hi) (by decide), hs]; exact F50 i hi
  · intro i hi; rw [F.i (Cn i hi) (by decide), hs]; exact F51 i hi
  · intro i hi; rw [F.i (Cn i hi) (by decide), hs]; exact F52 i hi
/-- what an add leaves of the rest -/
theorem Rt.add0 {a : Nat} (H : Rt bx sh cr hb fm nS nC nH nF nT m cls C σ) (hA : cA bx sh cr hb nS nC C σ) (L : pLF a C C') (M : Mf ks as σ σ') (m1 : ∀ k, k ∈ [4, 7, 22, 35] → k ∉ ks) (m2 : ∀ k, k ∈ [2, 8, 34] → k ∉ as) : cW bx cr nC C' ∧ pT bx nT C' σ' ∧ rB bx m C' σ' ∧ pI bx sh hb nS nC nH C' σ' ∧ pR bx C' ∧ pN σ' := by
  obtain ⟨p, -, -, d, ⟨e, -⟩, f, g, h⟩ := H
  have F := L.1
  have nb := hA.1.1.2.1
  have k5 := hA.1.2.2.1.2.2.2.2.1
  have k2 := hA.1.2.2.1.2.1
  refine ⟨p.fr hA.2.2.2.2.1.2.1 F (by decide) (fun q q1 q2 => by simp only [List.mem_cons, List.not_mem_nil, or_false]; omega) (fun x _ => rfl), ?_, ?_, f.fr hA.2.2.2.1.2.1 (by omega) F M (by decide) (by decide) (fun x _ => rfl) (fun w _ => rfl) (m1 _ (by decide)) (m2 _ (by decide)), g.fr nb F (by decide) (by decide) (fun x _ => rfl) (fun x _ => rfl), (M.1 22 (m1 _ (by decide))).trans h⟩
  · obtain ⟨d1, d2, d3, d4⟩ := d
    refine ⟨(F.i (by omega) (by decide)).trans d1, (M.1 7 (m1 _ (by decide))).trans d2, d3, fun j hj => ?_⟩
    rw [F.e (by omega) (by rw [k5]; rfl), M.2 8 (m2 _ (by decide))]; exact d4 j hj
  · obtain ⟨d1, d2, d3⟩ := e
    refine ⟨(F.i (by omega) (by decide)).trans d1, (M.1 35 (m1 _ (by decide))).trans d2, fun j hj => ?_⟩
    rw [F.e (by omega) (by rw [k2]; rfl), M.2 34 (m2 _ (by decide))]; exact d3 j hj
theorem Rt.fresh (H : Rt bx sh cr hb fm nS nC nH nF nT m cls C σ) (hA : cA bx sh cr hb nS nC C σ) (F : Fr [] [] (fun _ _ => false) C C') : Rt bx sh cr hb fm nS nC nH nF nT m cls C' σ :=
  H.fr hA F (Mf.refl (ks := []) (as := [])) (by decide) (by decide) (fun _ _ _ => rfl) (fun _ _ => rfl) ⟨rfl, rfl⟩ (by decide) (by decide)
theorem cR.fresh (h : cR bx sh cr hb nS nC nH C σ) (F : Fr [] [] (fun _ _ => false) C C') : cR bx sh cr hb nS nC nH C' σ := h.fr F (fun _ => rfl) (by decide) (by decide) (fun _ _ => rfl) rfl
theorem op_film (h : cR bx sh cr hb nS nC nH C σ) (H : Rt bx sh cr hb fm nS nC nH nF nT m cls C σ) (a1 a2 a3 a4 a5 a6 a7 : Int32) : ∃ C' σ' r fm' nF', fX0_film bx C a1 a2 a3 a4 a5 a6 a7 = some (C', r) ∧ fX3_film σ a1 a2 a3 a4 a5 a6 a7 = some (σ', r) ∧ cR bx sh cr hb nS nC nH C' σ' ∧ Rt bx sh cr hb fm' nS nC nH nF' nT m cls C' σ' ∧ xk_n C ≤ xk_n C' ∧ xk_n C' ≤ xk_n C + 2 ∧ xk_s C' ≤ xk_s C + 2000 := by
  unfold fX0_film fX3_film
  rw [in_eq]
  have idr : ∀ r : Int32, ∃ C' σ' r' fm' nF', some (C, r) = some (C', r') ∧ some (σ, r) = some (σ', r') ∧ cR bx sh cr hb nS nC nH C' σ' ∧ Rt bx sh cr hb fm' nS nC nH nF' nT m cls C' σ' ∧ xk_n C ≤ xk_n C' ∧ xk_n C' ≤ xk_n C + 2 ∧ xk_s C' ≤ xk_s C + 2000 := fun r => ⟨C, σ, r, fm, nF, rfl, rfl, h, H, Nat.le_refl _, by omega, by omega⟩
  rcases in_ok a1 0 3 with e | ⟨e, -, -⟩
  · rw [e, ev_b, ev_b, if_pos rfl, if_pos rfl]; exact idr _
  rw [e, ev_b, ev_b, if_neg (by decide), if_neg (by decide)]
  rcases nums_l a2 a3 a4 a5 a6 (some (C, (-2 : Int32))) (some (σ, (-2 : Int32))) ((fX0_in a7 (-1) 1).bind fun r3 => if r3 = 0 then some (C, -2) else (xk_gr C 23 (some bx)).bind fun v4 => (xk_is C 21 v4).bind fun b6 => (fJ2_size b6 C).bind fun r5 => if r5 = nI 40 then some (C, -4) else (xk_gr C 23 (some bx)).bind fun v7 => (xk_nw C 18).bind fun σ8 => (fX18_init (xk_n C) σ8 a1 a2 a3 a4 a5 a6 a7).bind fun r9 => (xk_is r9.1 21 v7).bind fun b11 => (fJ2_add b11 r9.1 (some (xk_n C))).bind fun r10 => (xk_gr r10.1 23 (some bx)).bind fun v12 => (xk_is r10.1 21 v12).bind fun b14 => (fJ2_size b14 r10.1).bind fun r13 => some (r10.1, r13)) ((fX3_in a7 (-1) 1).bind fun r7 => if r7 = 0 then some (σ, -2) else if gs σ 6 = nI 40 then some (σ, -4) else (gm_wr σ 11 (nI 7 * gs σ 6) a1).bind fun σ8 => (gm_wr σ8 11 (nI 7 * gs σ8 6 + 1) a2).bind fun σ9 => (gm_wr σ9 11 (nI 7 * gs σ9 6 + 2) a3).bind fun σ10 => (gm_wr σ10 11 (nI 7 * gs σ10 6 + 3) a4).bind fun σ11 => (gm_wr σ11 11 (nI 7 * gs σ11 6 + 4) a5).bind fun σ12 => (gm_wr σ12 11 (nI 7 * gs σ12 6 + 5) a6).bind fun σ13 => (gm_wr σ13 11 (nI 7 * gs σ13 6 + nI 6) a7).bind fun σ14 => (gm_pt σ14 6 (gs σ14 6 + 1)).bind fun σ15 => some (σ15, gs σ15 6)) with ⟨e1, e2⟩ | ⟨e1, e2⟩
  · rw [e1, e2]; exact idr _
  rw [e1, e2, in_eq]
  rcases in_ok a7 (-1) 1 with e | ⟨e, -, -⟩
  · rw [e, ev_b, ev_b, if_pos rfl, if_pos rfl]; exact idr _
  have P := H.2.2.1
  obtain ⟨p1, p2, p3, p4, p5⟩ := id P
  have r23 := h.1.1.2.1.2.2.2.2.2.2.2.2.2.2.2.2
  have kB := h.kB
  have nb := h.1.1.1.2.1
  rw [e, ev_b, ev_b, if_neg (by decide), if_neg (by decide), g_r kB rfl, r23, ev_b, g_is p3.1, ev_b, p3.size, ev_b, p1]
  by_cases c40 : nF = 40
  · subst c40; rw [if_pos rfl, if_pos rfl]; exact idr _
  have c40' : ¬ nI nF = nI 40 := fun e => c40 ((s_eq _ _ (by omega) (by omega)).mp e)
  rw [if_neg c40', if_neg c40', ev_b, show xk_nw C 18 = some (xk_mk C 19 0 7) from rfl, ev_b]
  -- the new film
  have F1 : Fr [] [] (fun _ _ => false) C (xk_si (xk_si (xk_si (xk_si (xk_si (xk_si (xk_si (xk_mk C 19 0 7) 84 (xk_n C) a1) 85 (xk_n C) a2) 86 (xk_n C) a3) 87 (xk_n C) a4) 88 (xk_n C) a5) 89 (xk_n C) a6) 90 (xk_n C) a7) := by
    refine Fr.si (Fr.si (Fr.si (Fr.si (Fr.si (Fr.si (Fr.si (Fr.mk Fr.refl 19 0 7 (by decide)) _ _ _ ?_) _ _ _ ?_) _ _ _ ?_) _ _ _ ?_) _ _ _ ?_) _ _ _ ?_) _ _ _ ?_ <;> exact .inr (Nat.le_refl _)
  have kN : xk_k (xk_mk C 19 0 7) (xk_n C) = 19 := by rw [k_mk, if_pos rfl]
  have ini : fX18_init (xk_n C) (xk_mk C 19 0 7) a1 a2 a3 a4 a5 a6 a7 = some (xk_si (xk_si (xk_si (xk_si (xk_si (xk_si (xk_si (xk_mk C 19 0 7) 84 (xk_n C) a1) 85 (xk_n C) a2) 86 (xk_n C) a3) 87 (xk_n C) a4) 88 (xk_n C) a5) 89 (xk_n C) a6) 90 (xk_n C) a7, ()) := by
    unfold fX18_init
    simp only [ev_gi, ev_gr, ev_pi, ev_pr, ev_pz0, ev_pz1, ev_is, ev_ck, ev_ckn, ev_b, ev_10, if_true, if_false, false_and, and_false, true_and, and_true, reduceCtorEq, k_si, k_sr, k_se, k_sq, kN, h_19_84, h_19_85, h_19_86, h_19_87, h_19_88, h_19_89, h_19_90]
  rw [ini, ev_b]
  have kN2 : xk_k (xk_si (xk_si (xk_si (xk_si (xk_si (xk_si (xk_si (xk_mk C 19 0 7) 84 (xk_n C) a1) 85 (xk_n C) a2) 86 (xk_n C) a3) 87 (xk_n C) a4) 88 (xk_n C) a5) 89 (xk_n C) a6) 90 (xk_n C) a7) (xk_n C) = 19 := kN
  have vN : ∀ j v, (j = 0 ∧ v = a1) ∨ (j = 1 ∧ v = a2) ∨ (j = 2 ∧ v = a3) ∨ (j = 3 ∧ v = a4) ∨ (j = 4 ∧ v = a5) ∨ (j = 5 ∧ v = a6) ∨ (j = 6 ∧ v = a7) → xk_i (xk_si (xk_si (xk_si (xk_si (xk_si (xk_si (xk_si (xk_mk C 19 0 7) 84 (xk_n C) a1) 85 (xk_n C) a2) 86 (xk_n C) a3) 87 (xk_n C) a4) 88 (xk_n C) a5) 89 (xk_n C) a6) 90 (xk_n C) a7) (84 + j) (xk_n C) = v := by
    intro j v hj
    rcases hj with ⟨rfl, rfl⟩ | ⟨rfl, rfl⟩ | ⟨rfl, rfl⟩ | ⟨rfl, rfl⟩ | ⟨rfl, rfl⟩ | ⟨rfl, rfl⟩ | ⟨rfl, rfl⟩ <;> simp [i_si]
  have n1 : xk_n (xk_si (xk_si (xk_si (xk_si (xk_si (xk_si (xk_si (xk_mk C 19 0 7) 84 (xk_n C) a1) 85 (xk_n C) a2) 86 (xk_n C) a3) 87 (xk_n C) a4) 88 (xk_n C) a5) 89 (xk_n C) a6) 90 (xk_n C) a7) = xk_n C + 1 := rfl
  have s1 : xk_s (xk_si (xk_si (xk_si (xk_si (xk_si (xk_si (xk_si (xk_mk C 19 0 7) 84 (xk_n C) a1) 85 (xk_n C) a2) 86 (xk_n C) a3) 87 (xk_n C) a4) 88 (xk_n C) a5) 89 (xk_n C) a6) 90 (xk_n C) a7) = xk_s C + 7 := rfl
  generalize xk_si (xk_si (xk_si (xk_si (xk_si (xk_si (xk_si (xk_mk C 19 0 7) 84 (xk_n C) a1) 85 (xk_n C) a2) 86 (xk_n C) a3) 87 (xk_n C) a4) 88 (xk_n C) a5) 89 (xk_n C) a6) 90 (xk_n C) a7 = C1 at *
  have h1 := h.fresh F1
  have H1 := H.fresh h.1 F1
  obtain ⟨p1', p2', p3', p4', p5'⟩ := id H1.2.2.1
  obtain ⟨C2, f2, L2, LF⟩ := L_add p3' h1.1.1.1.2.2 (by omega) (b := xk_n C) ⟨by omega, by rw [kN2]; rfl⟩
  have r23' : xk_r C2 23 bx = some (bx + 18) := by rw [LF.1.r (by omega) (by decide)]; exact h1.1.1.2.1.2.2.2.2.2.2.2.2.2.2.2.2
  have kB2 : xk_k C2 bx = 1 := (LF.1.k (by omega)).trans h1.kB
  rw [g_is p3'.1, ev_b, f2, ev_b, g_r kB2 rfl, r23', ev_b, g_is L2.1, ev_b, L2.size, ev_b]
  -- the other side
  have wr : ∀ (s' : gm_S) j v, j < 7 → gs s' 6 = nI nF → gm_wr s' 11 (nI 7 * gs s' 6 + nI j) v = some (gm_sta s' 11 (7 * nF + j) v) := fun s' j v hj hs' => by
    rw [hs', s_mul, s_add]; exact m_wr s' v (show 7 * nF + j < 280 by omega) (by omega)
  have wr0 : ∀ v, gm_wr σ 11 (nI 7 * nI nF) v = some (gm_sta σ 11 (7 * nF) v) := fun v => by
    rw [s_mul]; exact m_wr σ v (show 7 * nF < 280 by omega) (by omega)
  have w1 := fun s' v => wr s' 1 v (by omega)
  have w2 := fun s' v => wr s' 2 v (by omega)
  have w3 := fun s' v => wr s' 3 v (by omega)
  have w4 := fun s' v => wr s' 4 v (by omega)
  have w5 := fun s' v => wr s' 5 v (by omega)
  have w6 := fun s' v => wr s' 6 v (by omega)
  simp only [show nI 1 = (1 : Int32) from rfl, show nI 2 = (2 : Int32) from rfl, show nI 3 = (3 : Int32) from rfl, show nI 4 = (4 : Int32) from rfl, show nI 5 = (5 : Int32) from rfl] at w1 w2 w3 w4 w5
  rw [wr0, ev_b, w1 _ _ (by simp only [gs_sta]; exact p1), ev_b, w2 _ _ (by simp only [gs_sta]; exact p1), ev_b, w3 _ _ (by simp only [gs_sta]; exact p1), ev_b, w4 _ _ (by simp only [gs_sta]; exact p1), ev_b, w5 _ _ (by simp only [gs_sta]; exact p1), ev_b, w6 _ _ (by simp only [gs_sta]; exact p1), ev_b, m_pt, ev_b]
  have M : Mf [6] [11] σ (gm_set (gm_sta (gm_sta (gm_sta (gm_sta (gm_sta (gm_sta (gm_sta σ 11 (7 * nF) a1) 11 (7 * nF + 1) a2) 11 (7 * nF + 2) a3) 11 (7 * nF + 3) a4) 11 (7 * nF + 4) a5) 11 (7 * nF + 5) a6) 11 (7 * nF + 6) a7) 6 (gs (gm_sta (gm_sta (gm_sta (gm_sta (gm_sta (gm_sta (gm_sta σ 11 (7 * nF) a1) 11 (7 * nF + 1) a2) 11 (7 * nF + 2) a3) 11 (7 * nF + 3) a4) 11 (7 * nF + 4) a5) 11 (7 * nF + 5) a6) 11 (7 * nF + 6) a7) 6 + 1)) := by
    refine Mf.set (Mf.sta (Mf.sta (Mf.sta (Mf.sta (Mf.sta (Mf.sta (Mf.sta Mf.refl _ _ _ ?_) _ _ _ ?_) _ _ _ ?_) _ _ _ ?_) _ _ _ ?_) _ _ _ ?_) _ _ _ ?_) _ _ (by decide) <;> decide
  have g6 : gs (gm_set (gm_sta (gm_sta (gm_sta (gm_sta (gm_sta (gm_sta (gm_sta σ 11 (7 * nF) a1) 11 (7 * nF + 1) a2) 11 (7 * nF + 2) a3) 11 (7 * nF + 3) a4) 11 (7 * nF + 4) a5) 11 (7 * nF + 5) a6) 11 (7 * nF + 6) a7) 6 (gs (gm_sta (gm_sta (gm_sta (gm_sta (gm_sta (gm_sta (gm_sta σ 11 (7 * nF) a1) 11 (7 * nF + 1) a2) 11 (7 * nF + 2) a3) 11 (7 * nF + 3) a4) 11 (7 * nF + 4) a5) 11 (7 * nF + 5) a6) 11 (7 * nF + 6) a7) 6 + 1)) 6 = nI (nF + 1) := by
    rw [gs_set, if_pos rfl]; simp only [gs_sta]; rw [p1, s_a1]
  have gf : ∀ j v, (j = 0 ∧ v = a1) ∨ (j = 1 ∧ v = a2) ∨ (j = 2 ∧ v = a3) ∨ (j = 3 ∧ v = a4) ∨ (j = 4 ∧ v = a5) ∨ (j = 5 ∧ v = a6) ∨ (j = 6 ∧ v = a7) → ga (gm_set (gm_sta (gm_sta (gm_sta (gm_sta (gm_sta (gm_sta (gm_sta σ 11 (7 * nF) a1) 11 (7 * nF + 1) a2) 11 (7 * nF + 2) a3) 11 (7 * nF + 3) a4) 11 (7 * nF + 4) a5) 11 (7 * nF + 5) a6) 11 (7 * nF + 6) a7) 6 (gs (gm_sta (gm_sta (gm_sta (gm_sta (gm_sta (gm_sta (gm_sta σ 11 (7 * nF) a1) 11 (7 * nF + 1) a2) 11 (7 * nF + 2) a3) 11 (7 * nF + 3) a4) 11 (7 * nF + 4) a5) 11 (7 * nF + 5) a6) 11 (7 * nF + 6) a7) 6 + 1)) 11 (7 * nF + j) = v := by
    intro j v hj
    rcases hj with ⟨rfl, rfl⟩ | ⟨rfl, rfl⟩ | ⟨rfl, rfl⟩ | ⟨rfl, rfl⟩ | ⟨rfl, rfl⟩ | ⟨rfl, rfl⟩ | ⟨rfl, rfl⟩ <;> simp [ga_sta, ga_set]
  have gk : ∀ p, p < 7 * nF → ga (gm_set (gm_sta (gm_sta (gm_sta (gm_sta (gm_sta (gm_sta (gm_sta σ 11 (7 * nF) a1) 11 (7 * nF + 1) a2) 11 (7 * nF + 2) a3) 11 (7 * nF + 3) a4) 11 (7 * nF + 4) a5) 11 (7 * nF + 5) a6) 11 (7 * nF + 6) a7) 6 (gs (gm_sta (gm_sta (gm_sta (gm_sta (gm_sta (gm_sta (gm_sta σ 11 (7 * nF) a1) 11 (7 * nF + 1) a2) 11 (7 * nF + 2) a3) 11 (7 * nF + 3) a4) 11 (7 * nF + 4) a5) 11 (7 * nF + 5) a6) 11 (7 * nF + 6) a7) 6 + 1)) 11 p = ga σ 11 p := by
    intro p hp
    rw [ga_set, ga_sta, if_neg (by omega), ga_sta, if_neg (by omega), ga_sta, if_neg (by omega), ga_sta, if_neg (by omega), ga_sta, if_neg (by omega), ga_sta, if_neg (by omega), ga_sta, if_neg (by omega)]
  generalize gm_set (gm_sta (gm_sta (gm_sta (gm_sta (gm_sta (gm_sta (gm_sta σ 11 (7 * nF) a1) 11 (7 * nF + 1) a2) 11 (7 * nF + 2) a3) 11 (7 * nF + 3) a4) 11 (7 * nF + 4) a5) 11 (7 * nF + 5) a6) 11 (7 * nF + 6) a7) 6 (gs (gm_sta (gm_sta (gm_sta (gm_sta (gm_sta (gm_sta (gm_sta σ 11 (7 * nF) a1) 11 (7 * nF + 1) a2) 11 (7 * nF + 2) a3) 11 (7 * nF + 3) a4) 11 (7 * nF + 4) a5) 11 (7 * nF + 5) a6) 11 (7 * nF + 6) a7) 6 + 1) = σ2 at *
  rw [g6]
  obtain ⟨x1, x2, x3, x4, x5, x6⟩ := H1.add0 h1.1 LF M (by decide) (by decide)
  have lt1 := LF.2.1
  have lt2 := LF.2.2.1
  have lt3 := LF.1.n
  refine ⟨C2, σ2, nI (nF + 1), _, nF + 1, rfl, rfl, h1.add LF (by omega) (by omega) (fun j => M.2 1 (by decide) j), ⟨x1, H1.2.1.add LF (by omega) (by omega) M (by decide) (by decide), ⟨g6, by omega, L2, fun i hi => ?_, fun i hi j hj => ?_⟩, x2, ⟨x3, H.2.2.2.2.1.2⟩, x4, x5, x6⟩, by omega, by omega, by omega⟩
  · by_cases q : i = nF
    · simp only [if_pos q]; rw [LF.1.k (by omega)]; exact kN2
    · simp only [if_neg q]; rw [LF.1.k (p3'.2.2.2.1 i (by omega)).1]; exact p4' i (by omega)
  · by_cases q : i = nF
    · simp only [if_pos q]
      rw [LF.1.i (by omega) (by simp only [List.mem_cons, List.not_mem_nil, or_false]; omega), q]
      have hj7 : j = 0 ∨ j = 1 ∨ j = 2 ∨ j = 3 ∨ j = 4 ∨ j = 5 ∨ j = 6 := by omega
      rcases hj7 with rfl | rfl | rfl | rfl | rfl | rfl | rfl
      · rw [vN 0 a1 (by simp), gf 0 a1 (by simp)]
      · rw [vN 1 a2 (by simp), gf 1 a2 (by simp)]
      · rw [vN 2 a3 (by simp), gf 2 a3 (by simp)]
      · rw [vN 3 a4 (by simp), gf 3 a4 (by simp)]
      · rw [vN 4 a5 (by simp), gf 4 a5 (by simp)]
      · rw [vN 5 a6 (by simp), gf 5 a6 (by simp)]
      · rw [vN 6 a7 (by simp), gf 6 a7 (by simp)]
    · simp only [if_neg q]
      rw [LF.1.i (p3'.2.2.2.1 i (by omega)).1 (by simp only [List.mem_cons, List.not_mem_nil, or_false]; omega), gk _ (by omega)]
      exact p5' i (by omega) j hj
end
end
section
/-! STAGE 2: shell -/
section
variable {bx : Nat} {sh cr hb fm : Nat → Nat} {nS nC nH nF nT m : Nat} {cls : Nat → List (Nat × Nat × List Int32 × List (Nat × Nat))} {C C' : xk_C} {σ σ' : gm_S}
theorem rf_ext {g g' : Nat → Nat} {n : Nat} {v : Int32} (hn : n < 1000) (hv : ix n v) (e : ∀ i, i < n → g' i = g i) : rf g' v = rf g v := by
  rcases hv with rfl | ⟨i, hi, rfl⟩
  · rfl
  · rw [rf_s _ _ (by omega), rf_s _ _ (by omega), e i hi]
theorem IM.shx {im : Nat} {s : Nat → Int32} {sh' : Nat → Nat} {nS' : Nat} (H : IM bx sh hb nS nC nH im s C) (hn : nS ≤ nS') (e : ∀ i, i < nS → sh' i = sh i) : IM bx sh' hb nS' nC nH im s C := by
  obtain ⟨k, n, iS, iC, E1, E2, E3, E4, ⟨a1, a2, a3⟩, b, c, d, q1, q2, q3, q4, q5⟩ := H
  exact ⟨k, n, iS, iC, E1, E2, E3, E4, ⟨by omega, a2, a3⟩, b, c, d, q1, q2, q3, q4, fun j hj => by rw [e j (by omega)]; exact q5 j hj⟩
theorem Iv.nix {s : Nat → Int32} (h : Iv nS nC nH s) {c : Nat} (hc : c < nC) : ix nS (s (178 + c)) := by
  rcases h.2.2.2.2 c hc with ⟨e, -⟩ | ⟨i, hi, e, -⟩
  · exact .inl e
  · exact .inr ⟨i, hi, e⟩
theorem Iv.oix {s : Nat → Int32} (h : Iv nS nC nH s) {i : Nat} (hi : i < nS) : ix nC (s (110 + i)) := by
  rcases h.2.2.2.1 i hi with ⟨e, -⟩ | ⟨c, hc, e, -⟩
  · exact .inl e
  · exact .inr ⟨c, hc, e⟩
theorem op_shell (h : cR bx sh cr hb nS nC nH C σ) (H : Rt bx sh cr hb fm nS nC nH nF nT m cls C σ) (a1 a2 a3 a4 : Int32) : ∃ C' σ' r sh' nS', fX0_shell bx C a1 a2 a3 a4 = some (C', r) ∧ fX3_shell σ a1 a2 a3 a4 = some (σ', r) ∧ cR bx sh' cr hb nS' nC nH C' σ' ∧ Rt bx sh' cr hb fm nS' nC nH nF nT m cls C' σ' ∧ xk_n C ≤ xk_n C' ∧ xk_n C' ≤ xk_n C + 2 ∧ xk_s C' ≤ xk_s C + 2000 := by
  unfold fX0_shell fX3_shell
  rw [cell_eq]
  simp only [in_eq]
  have idr : ∀ r : Int32, ∃ C' σ' r' sh' nS', some (C, r) = some (C', r') ∧ some (σ, r) = some (σ', r') ∧ cR bx sh' cr hb nS' nC nH C' σ' ∧ Rt bx sh' cr hb fm nS' nC nH nF nT m cls C' σ' ∧ xk_n C ≤ xk_n C' ∧ xk_n C' ≤ xk_n C + 2 ∧ xk_s C' ≤ xk_s C + 2000 := fun r => ⟨C, σ, r, sh, nS, rfl, rfl, h, H, Nat.le_refl _, by omega, by omega⟩
  rcases cell_ok a1 with e | e
  · rw [e, ev_b, ev_b, if_pos rfl, if_pos rfl]; exact idr _
  rw [e, ev_b, ev_b, if_neg (by decide), if_neg (by decide)]
  rcases in_ok a2 1 (nI 40) with e | ⟨e, g1, g2⟩
  · rw [e, ev_b, ev_b, if_pos rfl, if_pos rfl]; exact idr _
  rw [e, ev_b, ev_b, if_neg (by decide), if_neg (by decide)]
  rcases in_ok a3 0 (nI 20) with e | ⟨e, g3, g4⟩
  · rw [e, ev_b, ev_b, if_pos rfl, if_pos rfl]; exact idr _
  rw [e, ev_b, ev_b, if_neg (by decide), if_neg (by decide)]
  rcases in_ok a4 0 (nI 9) with e | ⟨e, g5, g6⟩
  · rw [e, ev_b, ev_b, if_pos rfl, if_pos rfl]; exact idr _
  simp only [e, ev_b, ev_10, if_false, xr0 h, xi0 h, xs0 h, ev_r0, h.v0]
  have hn := h.n20
  have hn2 := h.n12
  have kB := h.kB
  have nb := h.1.1.1.2.1
  have hI := h.2.2
  by_cases c20 : nS = 20
  · have : nI nS = nI 20 := by rw [c20]
    simp only [if_pos this]; exact idr _
  have c20' : ¬ nI nS = nI 20 := fun e => c20 ((s_eq _ _ (by omega) (by omega)).mp e)
  have wr : ∀ (s' : gm_S) b v, b + nS < 240 → gm_wr s' 1 (nI b + nI nS) v = some (gm_sta s' 1 (b + nS) v) := fun s' b v hb => m_wr1 s' b nS v hb
  simp only [if_neg c20', wr _ 10 _ (by omega), wr _ 30 _ (by omega), wr _ 50 _ (by omega), wr _ 70 _ (by omega), wr _ 90 _ (by omega), wr _ 110 _ (by omega), ev_b, ev_r0, ev_w0]
  have r0 : ga (gm_sta (gm_sta (gm_sta (gm_sta (gm_sta (gm_sta σ 1 (10 + nS) a2) 1 (30 + nS) a3) 1 (50 + nS) a4) 1 (70 + nS) a1) 1 (90 + nS) 0) 1 (110 + nS) (-1)) 1 0 = nI nS := by
    simp (disch := omega) only [gn]; exact h.v0
  rw [r0, s_a1]
  -- the other side
  rw [show xk_nw C 4 = some (xk_mk C 5 0 7) from rfl, ev_b]
  have nb2 : ¬ bx = xk_n C := by omega
  have q0 : xk_gr (xk_mk C 5 0 7) 0 (some bx) = some (some (bx + 1)) := by rw [g_r (k := 1) (by rw [k_mk, if_neg nb2]; exact kB) rfl, r_mk, if_neg nb2, h.1.1.2.1.1]
  have L1m : pL (xk_mk C 5 0 7) (bx + 1) nS sh := h.1.2.1.fr (Fr.mk (fi := []) (fr := []) (E := fun _ _ => false) Fr.refl 5 0 7 (by decide)) (by decide) (by decide) (fun _ _ => rfl)
  rw [q0, ev_b, g_is L1m.1, ev_b, L1m.size, ev_b]
  have kN : xk_k (xk_mk C 5 0 7) (xk_n C) = 5 := by rw [k_mk, if_pos rfl]
  have ini : fX4_init (xk_n C) (xk_mk C 5 0 7) (nI nS) a1 a2 a3 a4 = some (xk_si (xk_si (xk_si (xk_si (xk_si (xk_mk C 5 0 7) 37 (xk_n C) (nI nS)) 41 (xk_n C) a1) 38 (xk_n C) a2) 39 (xk_n C) a3) 40 (xk_n C) a4, ()) := by
    unfold fX4_init
    simp only [ev_gi, ev_gr, ev_pi, ev_pr, ev_pz0, ev_pz1, ev_is, ev_ck, ev_ckn, ev_b, ev_10, if_true, if_false, false_and, and_false, true_and, and_true, reduceCtorEq, k_si, k_sr, k_se, k_sq, kN, h_5_37, h_5_38, h_5_39, h_5_40, h_5_41, h_5_42, h_5_43]
  rw [ini, ev_b]
  have F1 : Fr [] [] (fun _ _ => false) C (xk_si (xk_si (xk_si (xk_si (xk_si (xk_mk C 5 0 7) 37 (xk_n C) (nI nS)) 41 (xk_n C) a1) 38 (xk_n C) a2) 39 (xk_n C) a3) 40 (xk_n C) a4) := by
    refine Fr.si (Fr.si (Fr.si (Fr.si (Fr.si (Fr.mk Fr.refl 5 0 7 (by decide)) _ _ _ ?_) _ _ _ ?_) _ _ _ ?_) _ _ _ ?_) _ _ _ ?_ <;> exact .inr (Nat.le_refl _)
  have kN2 : xk_k (xk_si (xk_si (xk_si (xk_si (xk_si (xk_mk C 5 0 7) 37 (xk_n C) (nI nS)) 41 (xk_n C) a1) 38 (xk_n C) a2) 39 (xk_n C) a3) 40 (xk_n C) a4) (xk_n C) = 5 := kN
  have v37 : xk_i (xk_si (xk_si (xk_si (xk_si (xk_si (xk_mk C 5 0 7) 37 (xk_n C) (nI nS)) 41 (xk_n C) a1) 38 (xk_n C) a2) 39 (xk_n C) a3) 40 (xk_n C) a4) 37 (xk_n C) = nI nS := by simp [i_si]
  have v38 : xk_i (xk_si (xk_si (xk_si (xk_si (xk_si (xk_mk C 5 0 7) 37 (xk_n C) (nI nS)) 41 (xk_n C) a1) 38 (xk_n C) a2) 39 (xk_n C) a3) 40 (xk_n C) a4) 38 (xk_n C) = a2 := by simp [i_si]
  have v39 : xk_i (xk_si (xk_si (xk_si (xk_si (xk_si (xk_mk C 5 0 7) 37 (xk_n C) (nI nS)) 41 (xk_n C) a1) 38 (xk_n C) a2) 39 (xk_n C) a3) 40 (xk_n C) a4) 39 (xk_n C) = a3 := by simp [i_si]
  have v40 : xk_i (xk_si (xk_si (xk_si (xk_si (xk_si (xk_mk C 5 0 7) 37 (xk_n C) (nI nS)) 41 (xk_n C) a1) 38 (xk_n C) a2) 39 (xk_n C) a3) 40 (xk_n C) a4) 40 (xk_n C) = a4 := by simp [i_si]
  have v41 : xk_i (xk_si (xk_si (xk_si (xk_si (xk_si (xk_mk C 5 0 7) 37 (xk_n C) (nI nS)) 41 (xk_n C) a1) 38 (xk_n C) a2) 39 (xk_n C) a3) 40 (xk_n C) a4) 41 (xk_n C) = a1 := by simp [i_si]
  have v42 : xk_i (xk_si (xk_si (xk_si (xk_si (xk_si (xk_mk C 5 0 7) 37 (xk_n C) (nI nS)) 41 (xk_n C) a1) 38 (xk_n C) a2) 39 (xk_n C) a3) 40 (xk_n C) a4) 42 (xk_n C) = 0 := by simp [i_si, i_mk]
  have v43 : xk_r (xk_si (xk_si (xk_si (xk_si (xk_si (xk_mk C 5 0 7) 37 (xk_n C) (nI nS)) 41 (xk_n C) a1) 38 (xk_n C) a2) 39 (xk_n C) a3) 40 (xk_n C) a4) 43 (xk_n C) = none := by simp [r_si, r_mk]
  have n1 : xk_n (xk_si (xk_si (xk_si (xk_si (xk_si (xk_mk C 5 0 7) 37 (xk_n C) (nI nS)) 41 (xk_n C) a1) 38 (xk_n C) a2) 39 (xk_n C) a3) 40 (xk_n C) a4) = xk_n C + 1 := rfl
  have s1 : xk_s (xk_si (xk_si (xk_si (xk_si (xk_si (xk_mk C 5 0 7) 37 (xk_n C) (nI nS)) 41 (xk_n C) a1) 38 (xk_n C) a2) 39 (xk_n C) a3) 40 (xk_n C) a4) = xk_s C + 7 := rfl
  generalize xk_si (xk_si (xk_si (xk_si (xk_si (xk_mk C 5 0 7) 37 (xk_n C) (nI nS)) 41 (xk_n C) a1) 38 (xk_n C) a2) 39 (xk_n C) a3) 40 (xk_n C) a4 = C1 at *
  have h1 := h.fresh F1
  have H1 := H.fresh h.1 F1
  obtain ⟨C2, f2, L2, LF⟩ := L_add h1.1.2.1 h1.1.1.1.2.2 (by omega) (b := xk_n C) ⟨by omega, by rw [kN2]; rfl⟩
  have lt1 := LF.2.1
  have lt2 := LF.2.2.1
  have F := LF.1
  have lt3 := F.n
  have r0' : xk_r C2 0 bx = some (bx + 1) := by rw [F.r (by omega) (by decide)]; exact h1.1.1.2.1.1
  have kB2 : xk_k C2 bx = 1 := (F.k (by omega)).trans h1.kB
  rw [g_is h1.1.2.1.1, ev_b, f2, ev_b, g_r kB2 rfl, r0', ev_b, g_is L2.1, ev_b, L2.size, ev_b, s_s1 _ (by omega), Nat.add_sub_cancel]
  -- the row
  have M : Mf [] [1] σ (gm_sta (gm_sta (gm_sta (gm_sta (gm_sta (gm_sta (gm_sta σ 1 (10 + nS) a2) 1 (30 + nS) a3) 1 (50 + nS) a4) 1 (70 + nS) a1) 1 (90 + nS) 0) 1 (110 + nS) (-1)) 1 0 (nI (nS + 1))) := by
    refine Mf.sta (Mf.sta (Mf.sta (Mf.sta (Mf.sta (Mf.sta (Mf.sta Mf.refl _ _ _ ?_) _ _ _ ?_) _ _ _ ?_) _ _ _ ?_) _ _ _ ?_) _ _ _ ?_) _ _ _ ?_ <;> decide
  have rw0 : ∀ p, p ≠ 0 → p ≠ 10 + nS → p ≠ 30 + nS → p ≠ 50 + nS → p ≠ 70 + nS → p ≠ 90 + nS → p ≠ 110 + nS → ga (gm_sta (gm_sta (gm_sta (gm_sta (gm_sta (gm_sta (gm_sta σ 1 (10 + nS) a2) 1 (30 + nS) a3) 1 (50 + nS) a4) 1 (70 + nS) a1) 1 (90 + nS) 0) 1 (110 + nS) (-1)) 1 0 (nI (nS + 1))) 1 p = ga σ 1 p := fun p _ _ _ _ _ _ _ => by simp (disch := omega) only [gn]
  have w0 : ga (gm_sta (gm_sta (gm_sta (gm_sta (gm_sta (gm_sta (gm_sta σ 1 (10 + nS) a2) 1 (30 + nS) a3) 1 (50 + nS) a4) 1 (70 + nS) a1) 1 (90 + nS) 0) 1 (110 + nS) (-1)) 1 0 (nI (nS + 1))) 1 0 = nI (nS + 1) := ge _ _ _
  have w10 : ga (gm_sta (gm_sta (gm_sta (gm_sta (gm_sta (gm_sta (gm_sta σ 1 (10 + nS) a2) 1 (30 + nS) a3) 1 (50 + nS) a4) 1 (70 + nS) a1) 1 (90 + nS) 0) 1 (110 + nS) (-1)) 1 0 (nI (nS + 1))) 1 (10 + nS) = a2 := by simp (disch := omega) only [gn, ge]
  have w30 : ga (gm_sta (gm_sta (gm_sta (gm_sta (gm_sta (gm_sta (gm_sta σ 1 (10 + nS) a2) 1 (30 + nS) a3) 1 (50 + nS) a4) 1 (70 + nS) a1) 1 (90 + nS) 0) 1 (110 + nS) (-1)) 1 0 (nI (nS + 1))) 1 (30 + nS) = a3 := by simp (disch := omega) only [gn, ge]
  have w50 : ga (gm_sta (gm_sta (gm_sta (gm_sta (gm_sta (gm_sta (gm_sta σ 1 (10 + nS) a2) 1 (30 + nS) a3) 1 (50 + nS) a4) 1 (70 + nS) a1) 1 (90 + nS) 0) 1 (110 + nS) (-1)) 1 0 (nI (nS + 1))) 1 (50 + nS) = a4 := by simp (disch := omega) only [gn, ge]
  have w70 : ga (gm_sta (gm_sta (gm_sta (gm_sta (gm_sta (gm_sta (gm_sta σ 1 (10 + nS) a2) 1 (30 + nS) a3) 1 (50 + nS) a4) 1 (70 + nS) a1) 1 (90 + nS) 0) 1 (110 + nS) (-1)) 1 0 (nI (nS + 1))) 1 (70 + nS) = a1 := by simp (disch := omega) only [gn, ge]
  have w90 : ga (gm_sta (gm_sta (gm_sta (gm_sta (gm_sta (gm_sta (gm_sta σ 1 (10 + nS) a2) 1 (30 + nS) a3) 1 (50 + nS) a4) 1 (70 + nS) a1) 1 (90 + nS) 0) 1 (110 + nS) (-1)) 1 0 (nI (nS + 1))) 1 (90 + nS) = 0 := by simp (disch := omega) only [gn, ge]
  have w110 : ga (gm_sta (gm_sta (gm_sta (gm_sta (gm_sta (gm_sta (gm_sta σ 1 (10 + nS) a2) 1 (30 + nS) a3) 1 (50 + nS) a4) 1 (70 + nS) a1) 1 (90 + nS) 0) 1 (110 + nS) (-1)) 1 0 (nI (nS + 1))) 1 (110 + nS) = -1 := by simp (disch := omega) only [gn, ge]
  generalize gm_sta (gm_sta (gm_sta (gm_sta (gm_sta (gm_sta (gm_sta σ 1 (10 + nS) a2) 1 (30 + nS) a3) 1 (50 + nS) a4) 1 (70 + nS) a1) 1 (90 + nS) 0) 1 (110 + nS) (-1)) 1 0 (nI (nS + 1)) = σ2 at *
  have she : ∀ i, i < nS → (fun i => if i = nS then xk_n C else sh i) i = sh i := fun i hi => by simp only [show ¬ i = nS by omega, if_false]
  have shn : (fun i => if i = nS then xk_n C else sh i) nS = xk_n C := by simp
  generalize hsh' : (fun i => if i = nS then xk_n C else sh i) = sh' at *
  have hIn : Iv (nS + 1) nC nH (ga σ2 1) := by
    obtain ⟨⟨i1, i2, i3, i4, i5, i6, i7⟩, vS, vC, vO, vN⟩ := hI
    refine ⟨⟨by omega, i2, i3, w0, ?_, ?_, ?_⟩, fun i hi => ?_, fun c hc => ?_, fun i hi => ?_, fun c hc => ?_⟩
    · rw [rw0] <;> first | omega | exact i5
    · rw [rw0] <;> first | omega | exact i6
    · rw [rw0] <;> first | omega | exact i7
    · by_cases q : i = nS
      · rw [q, w10, w30, w50]; exact ⟨⟨g1, g2⟩, ⟨g3, g4⟩, ⟨g5, g6⟩⟩
      · rw [rw0 (10 + i) (by omega) (by omega) (by omega) (by omega) (by omega) (by omega) (by omega), rw0 (30 + i) (by omega) (by omega) (by omega) (by omega) (by omega) (by omega) (by omega), rw0 (50 + i) (by omega) (by omega) (by omega) (by omega) (by omega) (by omega) (by omega)]
        exact vS i (by omega)
    · rw [rw0 (130 + c) (by omega) (by omega) (by omega) (by omega) (by omega) (by omega) (by omega), rw0 (166 + c) (by omega) (by omega) (by omega) (by omega) (by omega) (by omega) (by omega), rw0 (226 + c) (by omega) (by omega) (by omega) (by omega) (by omega) (by omega) (by omega), rw0 (154 + c) (by omega) (by omega) (by omega) (by omega) (by omega) (by omega) (by omega), rw0 (214 + c) (by omega) (by omega) (by omega) (by omega) (by omega) (by omega) (by omega)]
      exact vC c hc
    · by_cases q : i = nS
      · rw [q, w110, w90]; exact .inl ⟨rfl, .inl rfl⟩
      · rw [rw0 (110 + i) (by omega) (by omega) (by omega) (by omega) (by omega) (by omega) (by omega), rw0 (90 + i) (by omega) (by omega) (by omega) (by omega) (by omega) (by omega) (by omega)]
        rcases vO i (by omega) with x | ⟨c, hc, x1, x2, x3⟩
        · exact .inl x
        · exact .inr ⟨c, hc, x1, by rw [rw0 (178 + c) (by omega) (by omega) (by omega) (by omega) (by omega) (by omega) (by omega)]; exact x2, x3⟩
    · rw [rw0 (178 + c) (by omega) (by omega) (by omega) (by omega) (by omega) (by omega) (by omega), rw0 (166 + c) (by omega) (by omega) (by omega) (by omega) (by omega) (by omega) (by omega)]
      rcases vN c hc with x | ⟨i, hi, x1, x2, x3⟩
      · exact .inl x
      · refine .inr ⟨i, by omega, x1, ?_, ?_⟩
        · rw [rw0 (110 + i) (by omega) (by omega) (by omega) (by omega) (by omega) (by omega) (by omega)]; exact x2
        · rw [rw0 (90 + i) (by omega) (by omega) (by omega) (by omega) (by omega) (by omega) (by omega)]; exact x3
  have R2 : cR bx sh' cr hb (nS + 1) nC nH C2 σ2 := by
    obtain ⟨⟨hB, L1, L3, ⟨S5, Sn, S37, S38, S39, S40, S41, S42, S43⟩, ⟨C6, Cn, C44, C46, C47, C48, C49, C53, C54, C55, C56⟩, ⟨B4, B5, B6, B7⟩, -, -⟩, ⟨F50, F51, F52⟩, -⟩ := h1
    have k4 := hB.2.2.1.2.2.2.1
    have old : ∀ p, (∀ b, b = 10 ∨ b = 30 ∨ b = 50 ∨ b = 70 ∨ b = 90 ∨ b = 110 → p ≠ b + nS) → p ≠ 0 → ga σ2 1 p = ga σ 1 p := fun p hp h0 => rw0 p h0 (hp 10 (by omega)) (hp 30 (by omega)) (hp 50 (by omega)) (hp 70 (by omega)) (hp 90 (by omega)) (hp 110 (by omega))
    refine ⟨⟨hB.fr F (by decide), L2, LF.2.2.2.2 _ _ _ (by omega) L3, ⟨?_, ?_, ?_, ?_, ?_, ?_, ?_, ?_, ?_⟩, ⟨?_, ?_, ?_, ?_, ?_, ?_, ?_, ?_, ?_, ?_, ?_⟩, ⟨?_, ?_, ?_, ?_⟩, by omega, hn2⟩, ⟨?_, ?_, ?_⟩, hIn⟩
    · intro i hi; by_cases q : i = nS
      · rw [q, shn, F.k (by omega)]; exact kN2
      · rw [she i (by omega), F.k (Sn i (by omega))]; exact S5 i (by omega)
    · intro i hi; by_cases q : i = nS
      · rw [q, shn]; omega
      · rw [she i (by omega)]; exact F.lt (Sn i (by omega))
    · intro i hi; by_cases q : i = nS
      · rw [q, shn, F.i (by omega) (by decide)]; exact v37
      · rw [she i (by omega), F.i (Sn i (by omega)) (by decide)]; exact S37 i (by omega)
    · intro i hi; by_cases q : i = nS
      · rw [q, shn, F.i (by omega) (by decide), v38, w10]
      · rw [she i (by omega), F.i (Sn i (by omega)) (by decide), old _ (by omega) (by omega)]; exact S38 i (by omega)
    · intro i hi; by_cases q : i = nS
      · rw [q, shn, F.i (by omega) (by decide), v39, w30]
      · rw [she i (by omega), F.i (Sn i (by omega)) (by decide), old _ (by omega) (by omega)]; exact S39 i (by omega)
    · intro i hi; by_cases q : i = nS
      · rw [q, shn, F.i (by omega) (by decide), v40, w50]
      · rw [she i (by omega), F.i (Sn i (by omega)) (by decide), old _ (by omega) (by omega)]; exact S40 i (by omega)
    · intro i hi; by_cases q : i = nS
      · rw [q, shn, F.i (by omega) (by decide), v41, w70]
      · rw [she i (by omega), F.i (Sn i (by omega)) (by decide), old _ (by omega) (by omega)]; exact S41 i (by omega)
    · intro i hi; by_cases q : i = nS
      · rw [q, shn, F.i (by omega) (by decide), v42, w90]
      · rw [she i (by omega), F.i (Sn i (by omega)) (by decide), old _ (by omega) (by omega)]; exact S42 i (by omega)
    · intro i hi; by_cases q : i = nS
      · rw [q, shn, F.r (by omega) (by decide), v43, w110]; rfl
      · rw [she i (by omega), F.r (Sn i (by omega)) (by decide), old _ (by omega) (by omega)]; exact S43 i (by omega)
    · intro i hi; rw [F.k (Cn i hi)]; exact C6 i hi
    · intro i hi; exact F.lt (Cn i hi)
    · intro i hi; rw [F.i (Cn i hi) (by decide)]; exact C44 i hi
    · intro i hi; rw [F.i (Cn i hi) (by decide), old _ (by omega) (by omega)]; exact C46 i hi
    · intro i hi; rw [F.i (Cn i hi) (by decide), old _ (by omega) (by omega)]; exact C47 i hi
    · intro i hi; rw [F.i (Cn i hi) (by decide), old _ (by omega) (by omega)]; exact C48 i hi
    · intro i hi; rw [F.i (Cn i hi) (by decide), old _ (by omega) (by omega)]; exact C49 i hi
    · intro i hi; rw [F.r (Cn i hi) (by decide), old _ (by omega) (by omega), rf_ext (n := nS) (by omega) (hI.nix hi) she]; exact C53 i hi
    · intro i hi; rw [F.r (Cn i hi) (by decide), old _ (by omega) (by omega)]; exact C54 i hi
    · intro i hi; rw [F.r (Cn i hi) (by decide), old _ (by omega) (by omega)]; exact C55 i hi
    · intro i hi; rw [F.r (Cn i hi) (by decide)]; exact C56 i hi
    · rw [F.i (by omega) (by decide), old _ (by omega) (by omega)]; exact B4
    · rw [F.i (by omega) (by decide), old _ (by omega) (by omega)]; exact B5
    · rw [F.i (by omega) (by decide), old _ (by omega) (by omega)]; exact B6
    · intro j hj; rw [F.e (by omega) (by rw [k4]; rfl), old _ (by omega) (by omega)]; exact B7 j hj
    · intro i hi; rw [F.i (Cn i hi) (by decide), old _ (by omega) (by omega)]; exact F50 i hi
    · intro i hi; rw [F.i (Cn i hi) (by decide), old _ (by omega) (by omega)]; exact F51 i hi
    · intro i hi; rw [F.i (Cn i hi) (by decide), old _ (by omega) (by omega)]; exact F52 i hi
  obtain ⟨x1, x2, x3, x4, x5, x6⟩ := H1.add0 h1.1 LF M (by decide) (by decide)
  refine ⟨C2, σ2, nI nS, sh', nS + 1, rfl, rfl, R2, ⟨x1, H1.2.1.add LF (by omega) (by omega) M (by decide) (by decide), H1.2.2.1.add LF (by omega) M (by decide) (by decide), x2, ⟨x3, H.2.2.2.2.1.2⟩, ?_, x5, x6⟩, by omega, by omega, by omega⟩
  rcases x4 with q | ⟨q1, im, q2, q3⟩
  · exact .inl q
  · exact .inr ⟨q1, im, q2, q3.shx (by omega) she⟩
end
end
section
/-! STAGE 2: a new crab's ways (gen/mk94.py) -/
/-- a crab that is being made: t of its ways are there -/
def WB (bx a w t : Nat) (C0 C : xk_C) : Prop :=
  (xk_k C a = 6 ∧ xk_r C 56 a = some bx ∧ xk_k C w = 35 ∧ xk_l C w = 7 ∧ a < w ∧ w < xk_n C ∧ xk_n C0 ≤ a) ∧ Fr [] [] (fun _ _ => false) C0 C ∧ (xk_n C = xk_n C0 + 2 + t ∧ xk_s C ≤ xk_s C0 + 20 + 10 * t) ∧ (∀ f, xk_i C f a = 0) ∧ (∀ f, f ≠ 56 → xk_r C f a = none) ∧
  ∀ j, j < t → ∃ b, xk_q C w j = some b ∧ w < b ∧ b < xk_n C ∧ xk_k C b = 7 + j ∧ xk_r C 57 b = some a ∧ ∀ f, 58 ≤ f → f ≤ 64 → xk_has (7 + j) f = true → xk_r C f b = some bx
theorem wb0 {bx a w : Nat} {C0 C : xk_C} (H : WB bx a w 0 C0 C) : ∃ C', (∀ {β : Type} (K : xk_C → Option β), ((xk_nw C 6).bind fun σ3 => (xk_gr σ3 56 (some a)).bind fun v4 => (fX6_init (xk_n C) σ3 v4 (some a)).bind fun r5 => (xk_sa r5.1 5 (some w) (0) (some (xk_n C))).bind K) = K C') ∧ WB bx a w 1 C0 C' := by
  obtain ⟨⟨ka, ra, kw, lw, haw, hwn, h0⟩, F, ⟨hn, hs⟩, hi, hr, hq⟩ := H
  have na : ¬ a = xk_n C := by omega
  have nw : ¬ w = xk_n C := by omega
  refine ⟨xk_sq (xk_sr (xk_sr (xk_mk C 7 0 2) 58 (xk_n C) (some bx)) 57 (xk_n C) (some a)) w 0 (some (xk_n C)), fun K => ?_, ?_⟩
  · unfold fX6_init
    rw [show xk_nw C 6 = some (xk_mk C 7 0 2) from rfl, ev_b]
    simp only [ev_gi, ev_gr, ev_pi, ev_pr, ev_pz0, ev_pz1, ev_is, ev_ck, ev_ckn, ev_b, ev_10, if_true, if_false, false_and, and_false, true_and, and_true, reduceCtorEq, k_si, k_sr, k_se, k_sq, k_mk, r_mk, na, ka, ra, h_6_44, h_6_45, h_6_46, h_6_47, h_6_48, h_6_49, h_6_50, h_6_51, h_6_52, h_6_53, h_6_54, h_6_55, h_6_56, h_7_57, h_7_58, h_8_57, h_8_58, h_8_59, h_9_57, h_9_58, h_9_60, h_10_57, h_10_58, h_10_59, h_10_61, h_11_57, h_11_58, h_11_59, h_11_61, h_11_62, h_12_57, h_12_58, h_12_59, h_12_63, h_13_57, h_13_58, h_13_64]
    rw [show (0 : Int32) = nI 0 from rfl, p_sa (t := 5) (C := xk_sr (xk_sr (xk_mk C 7 0 2) 58 (xk_n C) (some bx)) 57 (xk_n C) (some a)) (v := some (xk_n C)) (by simp only [k_sr, k_mk, nw, if_false]; exact kw) (by simp only [l_sr, l_mk, nw, if_false, lw]; omega) (by omega) (by show xk_hold 5 (xk_k (xk_sr (xk_sr (xk_mk C 7 0 2) 58 (xk_n C) (some bx)) 57 (xk_n C) (some a)) (xk_n C)) = true; simp only [k_sr, k_mk, if_true]; rfl), ev_b]
  · have F1 : Fr [] [] (fun _ _ => false) C0 (xk_sr (xk_sr (xk_mk C 7 0 2) 58 (xk_n C) (some bx)) 57 (xk_n C) (some a)) := by
      exact ((F.mk 7 0 2 (by decide)).sr _ _ _ (.inr (by omega)) (by decide)).sr _ _ _ (.inr (by omega)) (by decide)
    refine ⟨⟨?_, ?_, ?_, ?_, haw, ?_, h0⟩, F1.sq _ _ _ (.inr (by omega)), ⟨?_, ?_⟩, fun f => ?_, fun f hf => ?_, fun j hj => ?_⟩
    · simp only [k_sq, k_sr, k_mk, na, if_false]; exact ka
    · simp only [r_sq, r_sr, r_mk, na, and_false, if_false]; exact ra
    · simp only [k_sq, k_sr, k_mk, nw, if_false]; exact kw
    · simp only [l_sq, l_sr, l_mk, nw, if_false]; exact lw
    · show w < xk_n C + 1; omega
    · show xk_n C + 1 = _; omega
    · show xk_s C + 2 ≤ _; omega
    · simp only [i_sq, i_sr, i_mk, na, if_false]; exact hi f
    · simp only [r_sq, r_sr, r_mk, na, and_false, if_false]; exact hr f hf
    · by_cases q : j = 0
      · subst q
        refine ⟨xk_n C, ?_, hwn, Nat.lt_succ_self _, ?_, ?_, ?_⟩
        · rw [q_sq, if_pos ⟨rfl, rfl⟩]
        · simp only [k_sq, k_sr, k_mk, if_true]
        · simp only [r_sq, r_sr]; simp
        · intro f f1 f2 f3
          have fc : f = 58 ∨ f = 59 ∨ f = 60 ∨ f = 61 ∨ f = 62 ∨ f = 63 ∨ f = 64 := by omega
          rcases fc with rfl | rfl | rfl | rfl | rfl | rfl | rfl <;> first | exact absurd f3 (by decide) | (simp only [r_sq, r_sr]; simp)
      · obtain ⟨b, b1, b2, b3, b4, b5, b6⟩ := hq j (by omega)
        have nb : ¬ b = xk_n C := by omega
        refine ⟨b, ?_, b2, Nat.lt_succ_of_lt b3, ?_, ?_, fun f f1 f2 f3 => ?_⟩
        · rw [q_sq, if_neg (fun e => q e.2)]; simp only [q_sr, q_mk, nw, if_false]; exact b1
        · simp only [k_sq, k_sr, k_mk, nb, if_false]; exact b4
        · simp only [r_sq, r_sr, r_mk, nb, and_false, if_false]; exact b5
        · simp only [r_sq, r_sr, r_mk, nb, and_false, if_false]; exact b6 f f1 f2 f3
theorem wb1 {bx a w : Nat} {C0 C : xk_C} (H : WB bx a w 1 C0 C) : ∃ C', (∀ {β : Type} (K : xk_C → Option β), ((xk_nw C 7).bind fun σ3 => (xk_gr σ3 56 (some a)).bind fun v4 => (fX7_init (xk_n C) σ3 v4 (some a)).bind fun r5 => (xk_sa r5.1 5 (some w) (1) (some (xk_n C))).bind K) = K C') ∧ WB bx a w 2 C0 C' := by
  obtain ⟨⟨ka, ra, kw, lw, haw, hwn, h0⟩, F, ⟨hn, hs⟩, hi, hr, hq⟩ := H
  have na : ¬ a = xk_n C := by omega
  have nw : ¬ w = xk_n C := by omega
  refine ⟨xk_sq (xk_sr (xk_sr (xk_sr (xk_mk C 8 0 3) 59 (xk_n C) (some bx)) 58 (xk_n C) (some bx)) 57 (xk_n C) (some a)) w 1 (some (xk_n C)), fun K => ?_, ?_⟩
  · unfold fX7_init fX6_init
    rw [show xk_nw C 7 = some (xk_mk C 8 0 3) from rfl, ev_b]
    simp only [ev_gi, ev_gr, ev_pi, ev_pr, ev_pz0, ev_pz1, ev_is, ev_ck, ev_ckn, ev_b, ev_10, if_true, if_false, false_and, and_false, true_and, and_true, reduceCtorEq, k_si, k_sr, k_se, k_sq, k_mk, r_mk, na, ka, ra, h_6_44, h_6_45, h_6_46, h_6_47, h_6_48, h_6_49, h_6_50, h_6_51, h_6_52, h_6_53, h_6_54, h_6_55, h_6_56, h_7_57, h_7_58, h_8_57, h_8_58, h_8_59, h_9_57, h_9_58, h_9_60, h_10_57, h_10_58, h_10_59, h_10_61, h_11_57, h_11_58, h_11_59, h_11_61, h_11_62, h_12_57, h_12_58, h_12_59, h_12_63, h_13_57, h_13_58, h_13_64]
    rw [show (1 : Int32) = nI 1 from rfl, p_sa (t := 5) (C := xk_sr (xk_sr (xk_sr (xk_mk C 8 0 3) 59 (xk_n C) (some bx)) 58 (xk_n C) (some bx)) 57 (xk_n C) (some a)) (v := some (xk_n C)) (by simp only [k_sr, k_mk, nw, if_false]; exact kw) (by simp only [l_sr, l_mk, nw, if_false, lw]; omega) (by omega) (by show xk_hold 5 (xk_k (xk_sr (xk_sr (xk_sr (xk_mk C 8 0 3) 59 (xk_n C) (some bx)) 58 (xk_n C) (some bx)) 57 (xk_n C) (some a)) (xk_n C)) = true; simp only [k_sr, k_mk, if_true]; rfl), ev_b]
  · have F1 : Fr [] [] (fun _ _ => false) C0 (xk_sr (xk_sr (xk_sr (xk_mk C 8 0 3) 59 (xk_n C) (some bx)) 58 (xk_n C) (some bx)) 57 (xk_n C) (some a)) := by
      exact (((F.mk 8 0 3 (by decide)).sr _ _ _ (.inr (by omega)) (by decide)).sr _ _ _ (.inr (by omega)) (by decide)).sr _ _ _ (.inr (by omega)) (by decide)
    refine ⟨⟨?_, ?_, ?_, ?_, haw, ?_, h0⟩, F1.sq _ _ _ (.inr (by omega)), ⟨?_, ?_⟩, fun f => ?_, fun f hf => ?_, fun j hj => ?_⟩
    · simp only [k_sq, k_sr, k_mk, na, if_false]; exact ka
    · simp only [r_sq, r_sr, r_mk, na, and_false, if_false]; exact ra
    · simp only [k_sq, k_sr, k_mk, nw, if_false]; exact kw
    · simp only [l_sq, l_sr, l_mk, nw, if_false]; exact lw
    · show w < xk_n C + 1; omega
    · show xk_n C + 1 = _; omega
    · show xk_s C + 3 ≤ _; omega
    · simp only [i_sq, i_sr, i_mk, na, if_false]; exact hi f
    · simp only [r_sq, r_sr, r_mk, na, and_false, if_false]; exact hr f hf
    · by_cases q : j = 1
      · subst q
        refine ⟨xk_n C, ?_, hwn, Nat.lt_succ_self _, ?_, ?_, ?_⟩
        · rw [q_sq, if_pos ⟨rfl, rfl⟩]
        · simp only [k_sq, k_sr, k_mk, if_true]
        · simp only [r_sq, r_sr]; simp
        · intro f f1 f2 f3
          have fc : f = 58 ∨ f = 59 ∨ f = 60 ∨ f = 61 ∨ f = 62 ∨ f = 63 ∨ f = 64 := by omega
          rcases fc with rfl | rfl | rfl | rfl | rfl | rfl | rfl <;> first | exact absurd f3 (by decide) | (simp only [r_sq, r_sr]; simp)
      · obtain ⟨b, b1, b2, b3, b4, b5, b6⟩ := hq j (by omega)
        have nb : ¬ b = xk_n C := by omega
        refine ⟨b, ?_, b2, Nat.lt_succ_of_lt b3, ?_, ?_, fun f f1 f2 f3 => ?_⟩
        · rw [q_sq, if_neg (fun e => q e.2)]; simp only [q_sr, q_mk, nw, if_false]; exact b1
        · simp only [k_sq, k_sr, k_mk, nb, if_false]; exact b4
        · simp only [r_sq, r_sr, r_mk, nb, and_false, if_false]; exact b5
        · simp only [r_sq, r_sr, r_mk, nb, and_false, if_false]; exact b6 f f1 f2 f3
theorem wb2 {bx a w : Nat} {C0 C : xk_C} (H : WB bx a w 2 C0 C) : ∃ C', (∀ {β : Type} (K : xk_C → Option β), ((xk_nw C 8).bind fun σ3 => (xk_gr σ3 56 (some a)).bind fun v4 => (fX8_init (xk_n C) σ3 v4 (some a)).bind fun r5 => (xk_sa r5.1 5 (some w) (2) (some (xk_n C))).bind K) = K C') ∧ WB bx a w 3 C0 C' := by
  obtain ⟨⟨ka, ra, kw, lw, haw, hwn, h0⟩, F, ⟨hn, hs⟩, hi, hr, hq⟩ := H
  have na : ¬ a = xk_n C := by omega
  have nw : ¬ w = xk_n C := by omega
  refine ⟨xk_sq (xk_sr (xk_sr (xk_sr (xk_mk C 9 0 3) 60 (xk_n C) (some bx)) 58 (xk_n C) (some bx)) 57 (xk_n C) (some a)) w 2 (some (xk_n C)), fun K => ?_, ?_⟩
  · unfold fX8_init fX6_init
    rw [show xk_nw C 8 = some (xk_mk C 9 0 3) from rfl, ev_b]
    simp only [ev_gi, ev_gr, ev_pi, ev_pr, ev_pz0, ev_pz1, ev_is, ev_ck, ev_ckn, ev_b, ev_10, if_true, if_false, false_and, and_false, true_and, and_true, reduceCtorEq, k_si, k_sr, k_se, k_sq, k_mk, r_mk, na, ka, ra, h_6_44, h_6_45, h_6_46, h_6_47, h_6_48, h_6_49, h_6_50, h_6_51, h_6_52, h_6_53, h_6_54, h_6_55, h_6_56, h_7_57, h_7_58, h_8_57, h_8_58, h_8_59, h_9_57, h_9_58, h_9_60, h_10_57, h_10_58, h_10_59, h_10_61, h_11_57, h_11_58, h_11_59, h_11_61, h_11_62, h_12_57, h_12_58, h_12_59, h_12_63, h_13_57, h_13_58, h_13_64]
    rw [show (2 : Int32) = nI 2 from rfl, p_sa (t := 5) (C := xk_sr (xk_sr (xk_sr (xk_mk C 9 0 3) 60 (xk_n C) (some bx)) 58 (xk_n C) (some bx)) 57 (xk_n C) (some a)) (v := some (xk_n C)) (by simp only [k_sr, k_mk, nw, if_false]; exact kw) (by simp only [l_sr, l_mk, nw, if_false, lw]; omega) (by omega) (by show xk_hold 5 (xk_k (xk_sr (xk_sr (xk_sr (xk_mk C 9 0 3) 60 (xk_n C) (some bx)) 58 (xk_n C) (some bx)) 57 (xk_n C) (some a)) (xk_n C)) = true; simp only [k_sr, k_mk, if_true]; rfl), ev_b]
  · have F1 : Fr [] [] (fun _ _ => false) C0 (xk_sr (xk_sr (xk_sr (xk_mk C 9 0 3) 60 (xk_n C) (some bx)) 58 (xk_n C) (some bx)) 57 (xk_n C) (some a)) := by
      exact (((F.mk 9 0 3 (by decide)).sr _ _ _ (.inr (by omega)) (by decide)).sr _ _ _ (.inr (by omega)) (by decide)).sr _ _ _ (.inr (by omega)) (by decide)
    refine ⟨⟨?_, ?_, ?_, ?_, haw, ?_, h0⟩, F1.sq _ _ _ (.inr (by omega)), ⟨?_, ?_⟩, fun f => ?_, fun f hf => ?_, fun j hj => ?_⟩
    · simp only [k_sq, k_sr, k_mk, na, if_false]; exact ka
    · simp only [r_sq, r_sr, r_mk, na, and_false, if_false]; exact ra
    · simp only [k_sq, k_sr, k_mk, nw, if_false]; exact kw
    · simp only [l_sq, l_sr, l_mk, nw, if_false]; exact lw
    · show w < xk_n C + 1; omega
    · show xk_n C + 1 = _; omega
    · show xk_s C + 3 ≤ _; omega
    · simp only [i_sq, i_sr, i_mk, na, if_false]; exact hi f
    · simp only [r_sq, r_sr, r_mk, na, and_false, if_false]; exact hr f hf
    · by_cases q : j = 2
      · subst q
        refine ⟨xk_n C, ?_, hwn, Nat.lt_succ_self _, ?_, ?_, ?_⟩
        · rw [q_sq, if_pos ⟨rfl, rfl⟩]
        · simp only [k_sq, k_sr, k_mk, if_true]
        · simp only [r_sq, r_sr]; simp
        · intro f f1 f2 f3
          have fc : f = 58 ∨ f = 59 ∨ f = 60 ∨ f = 61 ∨ f = 62 ∨ f = 63 ∨ f = 64 := by omega
          rcases fc with rfl | rfl | rfl | rfl | rfl | rfl | rfl <;> first | exact absurd f3 (by decide) | (simp only [r_sq, r_sr]; simp)
      · obtain ⟨b, b1, b2, b3, b4, b5, b6⟩ := hq j (by omega)
        have nb : ¬ b = xk_n C := by omega
        refine ⟨b, ?_, b2, Nat.lt_succ_of_lt b3, ?_, ?_, fun f f1 f2 f3 => ?_⟩
        · rw [q_sq, if_neg (fun e => q e.2)]; simp only [q_sr, q_mk, nw, if_false]; exact b1
        · simp only [k_sq, k_sr, k_mk, nb, if_false]; exact b4
        · simp only [r_sq, r_sr, r_mk, nb, and_false, if_false]; exact b5
        · simp only [r_sq, r_sr, r_mk, nb, and_false, if_false]; exact b6 f f1 f2 f3
theorem wb3 {bx a w : Nat} {C0 C : xk_C} (H : WB bx a w 3 C0 C) : ∃ C', (∀ {β : Type} (K : xk_C → Option β), ((xk_nw C 9).bind fun σ3 => (xk_gr σ3 56 (some a)).bind fun v4 => (fX9_init (xk_n C) σ3 v4 (some a)).bind fun r5 => (xk_sa r5.1 5 (some w) (3) (some (xk_n C))).bind K) = K C') ∧ WB bx a w 4 C0 C' := by
  obtain ⟨⟨ka, ra, kw, lw, haw, hwn, h0⟩, F, ⟨hn, hs⟩, hi, hr, hq⟩ := H
  have na : ¬ a = xk_n C := by omega
  have nw : ¬ w = xk_n C := by omega
  refine ⟨xk_sq (xk_sr (xk_sr (xk_sr (xk_sr (xk_mk C 10 0 4) 61 (xk_n C) (some bx)) 59 (xk_n C) (some bx)) 58 (xk_n C) (some bx)) 57 (xk_n C) (some a)) w 3 (some (xk_n C)), fun K => ?_, ?_⟩
  · unfold fX9_init fX7_init fX6_init
    rw [show xk_nw C 9 = some (xk_mk C 10 0 4) from rfl, ev_b]
    simp only [ev_gi, ev_gr, ev_pi, ev_pr, ev_pz0, ev_pz1, ev_is, ev_ck, ev_ckn, ev_b, ev_10, if_true, if_false, false_and, and_false, true_and, and_true, reduceCtorEq, k_si, k_sr, k_se, k_sq, k_mk, r_mk, na, ka, ra, h_6_44, h_6_45, h_6_46, h_6_47, h_6_48, h_6_49, h_6_50, h_6_51, h_6_52, h_6_53, h_6_54, h_6_55, h_6_56, h_7_57, h_7_58, h_8_57, h_8_58, h_8_59, h_9_57, h_9_58, h_9_60, h_10_57, h_10_58, h_10_59, h_10_61, h_11_57, h_11_58, h_11_59, h_11_61, h_11_62, h_12_57, h_12_58, h_12_59, h_12_63, h_13_57, h_13_58, h_13_64]
    rw [show (3 : Int32) = nI 3 from rfl, p_sa (t := 5) (C := xk_sr (xk_sr (xk_sr (xk_sr (xk_mk C 10 0 4) 61 (xk_n C) (some bx)) 59 (xk_n C) (some bx)) 58 (xk_n C) (some bx)) 57 (xk_n C) (some a)) (v := some (xk_n C)) (by simp only [k_sr, k_mk, nw, if_false]; exact kw) (by simp only [l_sr, l_mk, nw, if_false, lw]; omega) (by omega) (by show xk_hold 5 (xk_k (xk_sr (xk_sr (xk_sr (xk_sr (xk_mk C 10 0 4) 61 (xk_n C) (some bx)) 59 (xk_n C) (some bx)) 58 (xk_n C) (some bx)) 57 (xk_n C) (some a)) (xk_n C)) = true; simp only [k_sr, k_mk, if_true]; rfl), ev_b]
  · have F1 : Fr [] [] (fun _ _ => false) C0 (xk_sr (xk_sr (xk_sr (xk_sr (xk_mk C 10 0 4) 61 (xk_n C) (some bx)) 59 (xk_n C) (some bx)) 58 (xk_n C) (some bx)) 57 (xk_n C) (some a)) := by
      exact ((((F.mk 10 0 4 (by decide)).sr _ _ _ (.inr (by omega)) (by decide)).sr _ _ _ (.inr (by omega)) (by decide)).sr _ _ _ (.inr (by omega)) (by decide)).sr _ _ _ (.inr (by omega)) (by decide)
    refine ⟨⟨?_, ?_, ?_, ?_, haw, ?_, h0⟩, F1.sq _ _ _ (.inr (by omega)), ⟨?_, ?_⟩, fun f => ?_, fun f hf => ?_, fun j hj => ?_⟩
    · simp only [k_sq, k_sr, k_mk, na, if_false]; exact ka
    · simp only [r_sq, r_sr, r_mk, na, and_false, if_false]; exact ra
    · simp only [k_sq, k_sr, k_mk, nw, if_false]; exact kw
    · simp only [l_sq, l_sr, l_mk, nw, if_false]; exact lw
    · show w < xk_n C + 1; omega
    · show xk_n C + 1 = _; omega
    · show xk_s C + 4 ≤ _; omega
    · simp only [i_sq, i_sr, i_mk, na, if_false]; exact hi f
    · simp only [r_sq, r_sr, r_mk, na, and_false, if_false]; exact hr f hf
    · by_cases q : j = 3
      · subst q
        refine ⟨xk_n C, ?_, hwn, Nat.lt_succ_self _, ?_, ?_, ?_⟩
        · rw [q_sq, if_pos ⟨rfl, rfl⟩]
        · simp only [k_sq, k_sr, k_mk, if_true]
        · simp only [r_sq, r_sr]; simp
        · intro f f1 f2 f3
          have fc : f = 58 ∨ f = 59 ∨ f = 60 ∨ f = 61 ∨ f = 62 ∨ f = 63 ∨ f = 64 := by omega
          rcases fc with rfl | rfl | rfl | rfl | rfl | rfl | rfl <;> first | exact absurd f3 (by decide) | (simp only [r_sq, r_sr]; simp)
      · obtain ⟨b, b1, b2, b3, b4, b5, b6⟩ := hq j (by omega)
        have nb : ¬ b = xk_n C := by omega
        refine ⟨b, ?_, b2, Nat.lt_succ_of_lt b3, ?_, ?_, fun f f1 f2 f3 => ?_⟩
        · rw [q_sq, if_neg (fun e => q e.2)]; simp only [q_sr, q_mk, nw, if_false]; exact b1
        · simp only [k_sq, k_sr, k_mk, nb, if_false]; exact b4
        · simp only [r_sq, r_sr, r_mk, nb, and_false, if_false]; exact b5
        · simp only [r_sq, r_sr, r_mk, nb, and_false, if_false]; exact b6 f f1 f2 f3
theorem wb4 {bx a w : Nat} {C0 C : xk_C} (H : WB bx a w 4 C0 C) : ∃ C', (∀ {β : Type} (K : xk_C → Option β), ((xk_nw C 10).bind fun σ3 => (xk_gr σ3 56 (some a)).bind fun v4 => (fX10_init (xk_n C) σ3 v4 (some a)).bind fun r5 => (xk_sa r5.1 5 (some w) (4) (some (xk_n C))).bind K) = K C') ∧ WB bx a w 5 C0 C' := by
  obtain ⟨⟨ka, ra, kw, lw, haw, hwn, h0⟩, F, ⟨hn, hs⟩, hi, hr, hq⟩ := H
  have na : ¬ a = xk_n C := by omega
  have nw : ¬ w = xk_n C := by omega
  refine ⟨xk_sq (xk_sr (xk_sr (xk_sr (xk_sr (xk_sr (xk_mk C 11 0 5) 62 (xk_n C) (some bx)) 61 (xk_n C) (some bx)) 59 (xk_n C) (some bx)) 58 (xk_n C) (some bx)) 57 (xk_n C) (some a)) w 4 (some (xk_n C)), fun K => ?_, ?_⟩
  · unfold fX10_init fX9_init fX7_init fX6_init
    rw [show xk_nw C 10 = some (xk_mk C 11 0 5) from rfl, ev_b]
    simp only [ev_gi, ev_gr, ev_pi, ev_pr, ev_pz0, ev_pz1, ev_is, ev_ck, ev_ckn, ev_b, ev_10, if_true, if_false, false_and, and_false, true_and, and_true, reduceCtorEq, k_si, k_sr, k_se, k_sq, k_mk, r_mk, na, ka, ra, h_6_44, h_6_45, h_6_46, h_6_47, h_6_48, h_6_49, h_6_50, h_6_51, h_6_52, h_6_53, h_6_54, h_6_55, h_6_56, h_7_57, h_7_58, h_8_57, h_8_58, h_8_59, h_9_57, h_9_58, h_9_60, h_10_57, h_10_58, h_10_59, h_10_61, h_11_57, h_11_58, h_11_59, h_11_61, h_11_62, h_12_57, h_12_58, h_12_59, h_12_63, h_13_57, h_13_58, h_13_64]
    rw [show (4 : Int32) = nI 4 from rfl, p_sa (t := 5) (C := xk_sr (xk_sr (xk_sr (xk_sr (xk_sr (xk_mk C 11 0 5) 62 (xk_n C) (some bx)) 61 (xk_n C) (some bx)) 59 (xk_n C) (some bx)) 58 (xk_n C) (some bx)) 57 (xk_n C) (some a)) (v := some (xk_n C)) (by simp only [k_sr, k_mk, nw, if_false]; exact kw) (by simp only [l_sr, l_mk, nw, if_false, lw]; omega) (by omega) (by show xk_hold 5 (xk_k (xk_sr (xk_sr (xk_sr (xk_sr (xk_sr (xk_mk C 11 0 5) 62 (xk_n C) (some bx)) 61 (xk_n C) (some bx)) 59 (xk_n C) (some bx)) 58 (xk_n C) (some bx)) 57 (xk_n C) (some a)) (xk_n C)) = true; simp only [k_sr, k_mk, if_true]; rfl), ev_b]
  · have F1 : Fr [] [] (fun _ _ => false) C0 (xk_sr (xk_sr (xk_sr (xk_sr (xk_sr (xk_mk C 11 0 5) 62 (xk_n C) (some bx)) 61 (xk_n C) (some bx)) 59 (xk_n C) (some bx)) 58 (xk_n C) (some bx)) 57 (xk_n C) (some a)) := by
      exact (((((F.mk 11 0 5 (by decide)).sr _ _ _ (.inr (by omega)) (by decide)).sr _ _ _ (.inr (by omega)) (by decide)).sr _ _ _ (.inr (by omega)) (by decide)).sr _ _ _ (.inr (by omega)) (by decide)).sr _ _ _ (.inr (by omega)) (by decide)
    refine ⟨⟨?_, ?_, ?_, ?_, haw, ?_, h0⟩, F1.sq _ _ _ (.inr (by omega)), ⟨?_, ?_⟩, fun f => ?_, fun f hf => ?_, fun j hj => ?_⟩
    · simp only [k_sq, k_sr, k_mk, na, if_false]; exact ka
    · simp only [r_sq, r_sr, r_mk, na, and_false, if_false]; exact ra
    · simp only [k_sq, k_sr, k_mk, nw, if_false]; exact kw
    · simp only [l_sq, l_sr, l_mk, nw, if_false]; exact lw
    · show w < xk_n C + 1; omega
    · show xk_n C + 1 = _; omega
    · show xk_s C + 5 ≤ _; omega
    · simp only [i_sq, i_sr, i_mk, na, if_false]; exact hi f
    · simp only [r_sq, r_sr, r_mk, na, and_false, if_false]; exact hr f hf
    · by_cases q : j = 4
      · subst q
        refine ⟨xk_n C, ?_, hwn, Nat.lt_succ_self _, ?_, ?_, ?_⟩
        · rw [q_sq, if_pos ⟨rfl, rfl⟩]
        · simp only [k_sq, k_sr, k_mk, if_true]
        · simp only [r_sq, r_sr]; simp
        · intro f f1 f2 f3
          have fc : f = 58 ∨ f = 59 ∨ f = 60 ∨ f = 61 ∨ f = 62 ∨ f = 63 ∨ f = 64 := by omega
          rcases fc with rfl | rfl | rfl | rfl | rfl | rfl | rfl <;> first | exact absurd f3 (by decide) | (simp only [r_sq, r_sr]; simp)
      · obtain ⟨b, b1, b2, b3, b4, b5, b6⟩ := hq j (by omega)
        have nb : ¬ b = xk_n C := by omega
        refine ⟨b, ?_, b2, Nat.lt_succ_of_lt b3, ?_, ?_, fun f f1 f2 f3 => ?_⟩
        · rw [q_sq, if_neg (fun e => q e.2)]; simp only [q_sr, q_mk, nw, if_false]; exact b1
        · simp only [k_sq, k_sr, k_mk, nb, if_false]; exact b4
        · simp only [r_sq, r_sr, r_mk, nb, and_false, if_false]; exact b5
        · simp only [r_sq, r_sr, r_mk, nb, and_false, if_false]; exact b6 f f1 f2 f3
theorem wb5 {bx a w : Nat} {C0 C : xk_C} (H : WB bx a w 5 C0 C) : ∃ C', (∀ {β : Type} (K : xk_C → Option β), ((xk_nw C 11).bind fun σ3 => (xk_gr σ3 56 (some a)).bind fun v4 => (fX11_init (xk_n C) σ3 v4 (some a)).bind fun r5 => (xk_sa r5.1 5 (some w) (5) (some (xk_n C))).bind K) = K C') ∧ WB bx a w 6 C0 C' := by
  obtain ⟨⟨ka, ra, kw, lw, haw, hwn, h0⟩, F, ⟨hn, hs⟩, hi, hr, hq⟩ := H
  have na : ¬ a = xk_n C := by omega
  have nw : ¬ w = xk_n C := by omega
  refine ⟨xk_sq (xk_sr (xk_sr (xk_sr (xk_sr (xk_mk C 12 0 4) 63 (xk_n C) (some bx)) 59 (xk_n C) (some bx)) 58 (xk_n C) (some bx)) 57 (xk_n C) (some a)) w 5 (some (xk_n C)), fun K => ?_, ?_⟩
  · unfold fX11_init fX7_init fX6_init
    rw [show xk_nw C 11 = some (xk_mk C 12 0 4) from rfl, ev_b]
    simp only [ev_gi, ev_gr, ev_pi, ev_pr, ev_pz0, ev_pz1, ev_is, ev_ck, ev_ckn, ev_b, ev_10, if_true, if_false, false_and, and_false, true_and, and_true, reduceCtorEq, k_si, k_sr, k_se, k_sq, k_mk, r_mk, na, ka, ra, h_6_44, h_6_45, h_6_46, h_6_47, h_6_48, h_6_49, h_6_50, h_6_51, h_6_52, h_6_53, h_6_54, h_6_55, h_6_56, h_7_57, h_7_58, h_8_57, h_8_58, h_8_59, h_9_57, h_9_58, h_9_60, h_10_57, h_10_58, h_10_59, h_10_61, h_11_57, h_11_58, h_11_59, h_11_61, h_11_62, h_12_57, h_12_58, h_12_59, h_12_63, h_13_57, h_13_58, h_13_64]
    rw [show (5 : Int32) = nI 5 from rfl, p_sa (t := 5) (C := xk_sr (xk_sr (xk_sr (xk_sr (xk_mk C 12 0 4) 63 (xk_n C) (some bx)) 59 (xk_n C) (some bx)) 58 (xk_n C) (some bx)) 57 (xk_n C) (some a)) (v := some (xk_n C)) (by simp only [k_sr, k_mk, nw, if_false]; exact kw) (by simp only [l_sr, l_mk, nw, if_false, lw]; omega) (by omega) (by show xk_hold 5 (xk_k (xk_sr (xk_sr (xk_sr (xk_sr (xk_mk C 12 0 4) 63 (xk_n C) (some bx)) 59 (xk_n C) (some bx)) 58 (xk_n C) (some bx)) 57 (xk_n C) (some a)) (xk_n C)) = true; simp only [k_sr, k_mk, if_true]; rfl), ev_b]
  · have F1 : Fr [] [] (fun _ _ => false) C0 (xk_sr (xk_sr (xk_sr (xk_sr (xk_mk C 12 0 4) 63 (xk_n C) (some bx)) 59 (xk_n C) (some bx)) 58 (xk_n C) (some bx)) 57 (xk_n C) (some a)) := by
      exact ((((F.mk 12 0 4 (by decide)).sr _ _ _ (.inr (by omega)) (by decide)).sr _ _ _ (.inr (by omega)) (by decide)).sr _ _ _ (.inr (by omega)) (by decide)).sr _ _ _ (.inr (by omega)) (by decide)
    refine ⟨⟨?_, ?_, ?_, ?_, haw, ?_, h0⟩, F1.sq _ _ _ (.inr (by omega)), ⟨?_, ?_⟩, fun f => ?_, fun f hf => ?_, fun j hj => ?_⟩
    · simp only [k_sq, k_sr, k_mk, na, if_false]; exact ka
    · simp only [r_sq, r_sr, r_mk, na, and_false, if_false]; exact ra
    · simp only [k_sq, k_sr, k_mk, nw, if_false]; exact kw
    · simp only [l_sq, l_sr, l_mk, nw, if_false]; exact lw
    · show w < xk_n C + 1; omega
    · show xk_n C + 1 = _; omega
    · show xk_s C + 4 ≤ _; omega
    · simp only [i_sq, i_sr, i_mk, na, if_false]; exact hi f
    · simp only [r_sq, r_sr, r_mk, na, and_false, if_false]; exact hr f hf
    · by_cases q : j = 5
      · subst q
        refine ⟨xk_n C, ?_, hwn, Nat.lt_succ_self _, ?_, ?_, ?_⟩
        · rw [q_sq, if_pos ⟨rfl, rfl⟩]
        · simp only [k_sq, k_sr, k_mk, if_true]
        · simp only [r_sq, r_sr]; simp
        · intro f f1 f2 f3
          have fc : f = 58 ∨ f = 59 ∨ f = 60 ∨ f = 61 ∨ f = 62 ∨ f = 63 ∨ f = 64 := by omega
          rcases fc with rfl | rfl | rfl | rfl | rfl | rfl | rfl <;> first | exact absurd f3 (by decide) | (simp only [r_sq, r_sr]; simp)
      · obtain ⟨b, b1, b2, b3, b4, b5, b6⟩ := hq j (by omega)
        have nb : ¬ b = xk_n C := by omega
        refine ⟨b, ?_, b2, Nat.lt_succ_of_lt b3, ?_, ?_, fun f f1 f2 f3 => ?_⟩
        · rw [q_sq, if_neg (fun e => q e.2)]; simp only [q_sr, q_mk, nw, if_false]; exact b1
        · simp only [k_sq, k_sr, k_mk, nb, if_false]; exact b4
        · simp only [r_sq, r_sr, r_mk, nb, and_false, if_false]; exact b5
        · simp only [r_sq, r_sr, r_mk, nb, and_false, if_false]; exact b6 f f1 f2 f3
theorem wb6 {bx a w : Nat} {C0 C : xk_C} (H : WB bx a w 6 C0 C) : ∃ C', (∀ {β : Type} (K : xk_C → Option β), ((xk_nw C 12).bind fun σ3 => (xk_gr σ3 56 (some a)).bind fun v4 => (fX12_init (xk_n C) σ3 v4 (some a)).bind fun r5 => (xk_sa r5.1 5 (some w) (nI 6) (some (xk_n C))).bind K) = K C') ∧ WB bx a w 7 C0 C' := by
  obtain ⟨⟨ka, ra, kw, lw, haw, hwn, h0⟩, F, ⟨hn, hs⟩, hi, hr, hq⟩ := H
  have na : ¬ a = xk_n C := by omega
  have nw : ¬ w = xk_n C := by omega
  refine ⟨xk_sq (xk_sr (xk_sr (xk_sr (xk_mk C 13 0 3) 64 (xk_n C) (some bx)) 58 (xk_n C) (some bx)) 57 (xk_n C) (some a)) w 6 (some (xk_n C)), fun K => ?_, ?_⟩
  · unfold fX12_init fX6_init
    rw [show xk_nw C 12 = some (xk_mk C 13 0 3) from rfl, ev_b]
    simp only [ev_gi, ev_gr, ev_pi, ev_pr, ev_pz0, ev_pz1, ev_is, ev_ck, ev_ckn, ev_b, ev_10, if_true, if_false, false_and, and_false, true_and, and_true, reduceCtorEq, k_si, k_sr, k_se, k_sq, k_mk, r_mk, na, ka, ra, h_6_44, h_6_45, h_6_46, h_6_47, h_6_48, h_6_49, h_6_50, h_6_51, h_6_52, h_6_53, h_6_54, h_6_55, h_6_56, h_7_57, h_7_58, h_8_57, h_8_58, h_8_59, h_9_57, h_9_58, h_9_60, h_10_57, h_10_58, h_10_59, h_10_61, h_11_57, h_11_58, h_11_59, h_11_61, h_11_62, h_12_57, h_12_58, h_12_59, h_12_63, h_13_57, h_13_58, h_13_64]
    rw [show (nI 6 : Int32) = nI 6 from rfl, p_sa (t := 5) (C := xk_sr (xk_sr (xk_sr (xk_mk C 13 0 3) 64 (xk_n C) (some bx)) 58 (xk_n C) (some bx)) 57 (xk_n C) (some a)) (v := some (xk_n C)) (by simp only [k_sr, k_mk, nw, if_false]; exact kw) (by simp only [l_sr, l_mk, nw, if_false, lw]; omega) (by omega) (by show xk_hold 5 (xk_k (xk_sr (xk_sr (xk_sr (xk_mk C 13 0 3) 64 (xk_n C) (some bx)) 58 (xk_n C) (some bx)) 57 (xk_n C) (some a)) (xk_n C)) = true; simp only [k_sr, k_mk, if_true]; rfl), ev_b]
  · have F1 : Fr [] [] (fun _ _ => false) C0 (xk_sr (xk_sr (xk_sr (xk_mk C 13 0 3) 64 (xk_n C) (some bx)) 58 (xk_n C) (some bx)) 57 (xk_n C) (some a)) := by
      exact (((F.mk 13 0 3 (by decide)).sr _ _ _ (.inr (by omega)) (by decide)).sr _ _ _ (.inr (by omega)) (by decide)).sr _ _ _ (.inr (by omega)) (by decide)
    refine ⟨⟨?_, ?_, ?_, ?_, haw, ?_, h0⟩, F1.sq _ _ _ (.inr (by omega)), ⟨?_, ?_⟩, fun f => ?_, fun f hf => ?_, fun j hj => ?_⟩
    · simp only [k_sq, k_sr, k_mk, na, if_false]; exact ka
    · simp only [r_sq, r_sr, r_mk, na, and_false, if_false]; exact ra
    · simp only [k_sq, k_sr, k_mk, nw, if_false]; exact kw
    · simp only [l_sq, l_sr, l_mk, nw, if_false]; exact lw
    · show w < xk_n C + 1; omega
    · show xk_n C + 1 = _; omega
    · show xk_s C + 3 ≤ _; omega
    · simp only [i_sq, i_sr, i_mk, na, if_false]; exact hi f
    · simp only [r_sq, r_sr, r_mk, na, and_false, if_false]; exact hr f hf
    · by_cases q : j = 6
      · subst q
        refine ⟨xk_n C, ?_, hwn, Nat.lt_succ_self _, ?_, ?_, ?_⟩
        · rw [q_sq, if_pos ⟨rfl, rfl⟩]
        · simp only [k_sq, k_sr, k_mk, if_true]
        · simp only [r_sq, r_sr]; simp
        · intro f f1 f2 f3
          have fc : f = 58 ∨ f = 59 ∨ f = 60 ∨ f = 61 ∨ f = 62 ∨ f = 63 ∨ f = 64 := by omega
          rcases fc with rfl | rfl | rfl | rfl | rfl | rfl | rfl <;> first | exact absurd f3 (by decide) | (simp only [r_sq, r_sr]; simp)
      · obtain ⟨b, b1, b2, b3, b4, b5, b6⟩ := hq j (by omega)
        have nb : ¬ b = xk_n C := by omega
        refine ⟨b, ?_, b2, Nat.lt_succ_of_lt b3, ?_, ?_, fun f f1 f2 f3 => ?_⟩
        · rw [q_sq, if_neg (fun e => q e.2)]; simp only [q_sr, q_mk, nw, if_false]; exact b1
        · simp only [k_sq, k_sr, k_mk, nb, if_false]; exact b4
        · simp only [r_sq, r_sr, r_mk, nb, and_false, if_false]; exact b5
        · simp only [r_sq, r_sr, r_mk, nb, and_false, if_false]; exact b6 f f1 f2 f3
end
