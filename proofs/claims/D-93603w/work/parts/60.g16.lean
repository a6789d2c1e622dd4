set_option maxRecDepth 16384
section
/-! STAGE 2: text -/
section
variable {bx : Nat} {sh cr hb fm : Nat → Nat} {nS nC nH nF nT m : Nat} {cls : Nat → List (Nat × Nat × List Int32 × List (Nat × Nat))} {C C' : xk_C} {σ σ' : gm_S}
/-- a habit read is a habit -/
theorem RC.pHx {h L ha T W F : Nat} {cl : List (Nat × Nat × List Int32 × List (Nat × Nat))} {σ0 : gm_S} {C0 : xk_C} (Z : RZ bx C0 σ0 h L) (H : RC bx C0 σ0 h L ha T W F L cl C σ) : pHx bx C ha h cl ∧ pHm σ h cl := by
  obtain ⟨R, ⟨kW, nW, lW, eW⟩, n8, trs⟩ := H
  have z := Z.1.2.1
  have hL := Z.2.2.2.1
  obtain ⟨-, -, ⟨a1, a2, a3, a4, a5, a6, a7⟩, ⟨b1, b2, b3, b4, -⟩, ⟨c1, c2⟩, -, ⟨-, -, -, -, g18, gc⟩, e1, e2, e3, -⟩ := R
  exact ⟨⟨⟨a1, a2, a6, a7⟩, ⟨T, W, F, ⟨a3, a4, a5⟩, ⟨by omega, by omega, by omega, nW⟩, c1, c2, kW, lW, eW⟩, n8, by omega, by omega, trs⟩, g18, gc⟩
theorem op_text {N : Nat} (hN : 300 ≤ N) (h : cR bx sh cr hb nS nC nH C σ) (H : Rt bx sh cr hb fm nS nC nH nF nT m cls C σ) : ∃ C' σ' r hb' nH' nT' cls', fX0_text N bx C = some (C', r) ∧ fX3_text N σ = some (σ', r) ∧ cR bx sh cr hb' nS nC nH' C' σ' ∧ Rt bx sh cr hb' fm nS nC nH' nF nT' m cls' C' σ' ∧ xk_n C ≤ xk_n C' ∧ xk_n C' ≤ xk_n C + 500 ∧ xk_s C' ≤ xk_s C + 80000 := by
  obtain ⟨⟨kB, nB, uB⟩, ⟨r0, r2, r3, r7, r8, r10, r11, r12, r13, r17, r18, r19, r23⟩, ⟨k1, k2, k3, k4, k5, k6, k7, k8, k14, k15, k16, k17, k18⟩, ⟨l2, l4, l5, l14, l15, l16, l17⟩⟩ := h.1.1
  have pH0 := H.2.1
  have L7 := H.2.1.2.2.1
  have h8 := H.2.1.2.1
  have g5 := H.2.1.1
  obtain ⟨t9, t7, tL, tby⟩ := H.2.2.2.1
  have pr := H.2.2.2.2.2.2.1
  unfold fX0_text fX3_text
  rw [g_r kB rfl, r11, ev_b, g_is L7.1, ev_b, L7.size, ev_b, g5]
  by_cases c8 : nH = 8
  · rw [if_pos (by rw [c8]), if_pos (by rw [c8])]
    exact ⟨C, σ, _, hb, nH, nT, cls, rfl, rfl, h, H, Nat.le_refl _, by omega, by omega⟩
  · have ne8 : ¬ nI nH = nI 8 := fun z => c8 ((s_eq _ 8 (by omega) (by omega)).mp z)
    have h7 : nH < 8 := by omega
    rw [if_neg ne8, if_neg ne8, ev_b, g_r kB rfl, r12, ev_b, g_is k8, ev_b, m_wr σ (k := 10) (j := nH) _ h7 (by omega), ev_b, t7]
    obtain ⟨σ1, q', f, M1, -, e1⟩ := copy_t (N := N) h7 tL nT 0 N (gm_sta σ 10 nH (nI nT)) (by omega) (by omega) t7 g5
    have z0 : (0 : Int32) = nI 0 := rfl
    rw [z0, f, fX3_text_L27, M1.1 7 (by simp), show gs (gm_sta σ 10 nH (nI nT)) 7 = nI nT from t7, if_pos ((s_le _ _ (by omega) (by omega)).mpr (Nat.le_refl _)), m_pt, ev_b]
    have M2 : Mf [7] [9, 10] σ (gm_set σ1 7 0) := (((Mf.refl (ks := [7]) (as := [9, 10])).sta 10 nH (nI nT) (by decide)).trans (M1.mono (by simp) (by simp))).set _ _ (by decide)
    have g52 : gs (gm_set σ1 7 0) 5 = nI nH := (M2.1 5 (by decide)).trans g5
    have g72 : gs (gm_set σ1 7 0) 7 = nI 0 := by rw [gs_set, if_pos rfl]; rfl
    have a10 : ga (gm_set σ1 7 0) 10 nH = nI nT := by rw [ga_set, M1.2 10 (by decide), ga_sta, if_pos ⟨rfl, rfl⟩]
    have a9 : ∀ j, j < nT → ga (gm_set σ1 7 0) 9 (120 * nH + j) = ga σ 8 j := fun j hj => by rw [ga_set, e1 j (by omega) hj, ga_sta, if_neg (by omega)]
    generalize gm_set σ1 7 0 = σ2 at *
    have Z : RZ bx C σ2 nH nT := ⟨⟨kB, nB, uB, k8, r8, k5, l5⟩, pr, t9, tL, h7, a10, fun j hj => by rw [a9 j hj]; exact tby j hj⟩
    rw [g52]
    rcases read_p (N := N) hN Z r11 L7 with ⟨C3, σ3, ha, T, W, F, cl, f1, f2, H3, n3, s3⟩ | ⟨C3, σ3, e, at', f1, f2, W3, n3, s3⟩
    · -- read
      have R3 := H3.1
      obtain ⟨F3, M3, m17, m18⟩ := R3.1
      have g14 := R3.2.2.2.2.2.2.1.2.2.1
      have g53 : gs σ3 5 = nI nH := (M3.1 5 (by decide)).trans g52
      rw [f1, ev_b, f2, ev_b, if_pos g14, m_pt, ev_b, g53, s_a1]
      have L73 : pL C3 (bx + 7) nH hb := L7.fr F3 (by decide) (by decide) (fun _ _ => rfl)
      obtain ⟨x1, x2⟩ := H3.pHx Z
      obtain ⟨C4, g4, L74, P4⟩ := L_add L73 (F3.u uB) (by omega) (b := ha) ⟨x1.1.2.1, by rw [x1.1.1]; rfl⟩
      show ∃ C' σ' r hb' nH' nT' cls', fX0_text_B bx C3 (some (bx + 7)) (some ha) = some (C', r) ∧ _
      unfold fX0_text_B fX0_text_R
      have nB3 : bx + 19 ≤ xk_n C3 := Nat.le_trans nB F3.n
      have kB4 : xk_k C4 bx = 1 := (P4.1.k (by omega)).trans ((F3.k (by omega)).trans kB)
      have r114 : xk_r C4 11 bx = some (bx + 7) := (P4.1.r (by omega) (by decide)).trans ((F3.r (by omega) (by decide)).trans r11)
      rw [g_is L73.1, ev_b, g4, ev_b, g_r kB4 rfl, r114, ev_b, g_is L74.1, ev_b, L74.size, ev_b, p_i kB4 rfl, ev_b]
      have M5 : Mf [5] [] σ3 (gm_set σ3 5 (nI (nH + 1))) := Mf.refl.set _ _ (by decide)
      have g55 : gs (gm_set σ3 5 (nI (nH + 1))) 5 = nI (nH + 1) := by rw [gs_set, if_pos rfl]
      have eans : gs (gm_set σ3 5 (nI (nH + 1))) 5 - 1 = nI (nH + 1) - 1 := by rw [g55]
      rw [eans]
      generalize gm_set σ3 5 (nI (nH + 1)) = σ5 at *
      -- the rest at the heap with an empty tape
      have MA : Mf [7, 12, 13, 14, 15] [9, 10, 17, 18] σ σ3 := (M2.mono (by decide) (by decide)).trans (M3.mono (by decide) (by decide))
      have FA : Fr [9, 33, 34] [35] (fun _ _ => false) C (xk_si C3 9 bx 0) := (F3.mono (by decide) (by decide) (fun _ _ z => z)).si _ _ _ (.inl (by decide))
      have hR : Rt bx sh cr hb fm nS nC nH nF 0 m cls (xk_si C3 9 bx 0) σ3 := H.txt h.1 FA MA (fun j hj => (m17 j hj).trans (M2.2 17 (by decide) j)) (fun j hj => (m18 j (by omega)).trans (M2.2 18 (by decide) j)) (by rw [i_si, if_pos ⟨rfl, rfl⟩]; rfl) ((M3.1 7 (by decide)).trans g72)
      have hC : cR bx sh cr hb nS nC nH (xk_si C3 9 bx 0) σ3 := h.fr FA (fun j => MA.2 1 (by decide) j) (by decide) (by decide) (fun _ _ => rfl) rfl
      have P5 := P4.si9 bx 0
      have x19 : pHx bx (xk_si C3 9 bx 0) ha nH cl := x1.fr (fi := [9]) (fr := []) (E := fun _ _ => false) (Fr.refl.si _ _ _ (.inl (by decide))) (by decide) (by decide) (fun _ _ => rfl) (fun _ _ => rfl)
      have i80 : ∀ x, x ∈ lvl cl → xk_n C ≤ x.1 ∧ x.1 < xk_n (xk_si C3 9 bx 0) ∧ xk_i (xk_si C3 9 bx 0) 80 x.1 = nI x.2 := fun x hx => by
        obtain ⟨-, d2, d3, d4⟩ := R3.2.2.2.2.2.1.1 x hx
        exact ⟨d3, d2, by rw [wi1 (f' := 9) rfl (by decide)]; exact d4⟩
      have hpw := R3.2.2.2.2.2.1.2
      have n39 : xk_n (xk_si C3 9 bx 0) = xk_n C3 := rfl
      have s39 : xk_s (xk_si C3 9 bx 0) = xk_s C3 := rfl
      have n40 : xk_n (xk_si C4 9 bx 0) = xk_n C4 := rfl
      have s40 : xk_s (xk_si C4 9 bx 0) = xk_s C4 := rfl
      have L75 : pL (xk_si C4 9 bx 0) (bx + 7) (nH + 1) (fun i => if i = nH then ha else hb i) := L74.fr (fi := [9]) (fr := []) (E := fun _ _ => false) (Fr.refl.si _ _ _ (.inl (by decide))) (by decide) (by decide) (fun _ _ => rfl)
      have oldn : ∀ k, k < nH → ∀ q, q < (lvl (cls k)).length → ((lvl (cls k)).getD q (0, 0)).1 < xk_n C := fun k hk q hq => by
        have := ((H.2.1.2.2.2.1 k hk).1.lv hq).1
        rw [List.getD_eq_getElem?_getD, List.getElem?_eq_getElem hq]; exact this
      have nF3 := F3.n
      generalize xk_si C3 9 bx 0 = D3 at *
      generalize xk_si C4 9 bx 0 = D4 at *
      refine ⟨D4, σ5, _, fun i => if i = nH then ha else hb i, nH + 1, 0, fun i => if i = nH then cl else cls i, rfl, rfl, ?_, ?_, ?_, ?_, ?_⟩
      · exact (hC.add P5 (by omega) (by omega) (fun j => M5.2 1 (by simp) j)).hbx (by omega) (fun i hi => if_neg (by omega))
      · obtain ⟨y1, y2, y3, y4, y5, y6⟩ := hR.add0 hC.1 P5 M5 (by decide) (by simp)
        obtain ⟨q1, q2, q3, q4, q5⟩ := hR.2.1
        refine ⟨y1, ⟨g55, by omega, L75, fun k hk => ?_, ?_⟩, hR.2.2.1.add P5 (by omega) M5 (by decide) (by simp), y2, ⟨y3, hR.2.2.2.2.1.2⟩, y4.hbx (by omega) (fun i hi => if_neg (by omega)), y5, y6⟩
        · have hdl : ∀ a b, dl σ5 a b = dl σ3 a b := fun a b => by
            unfold dl
            rw [M5.1 22 (by decide), M5.1 20 (by decide), M5.1 21 (by decide)]
          by_cases c : k = nH
          · subst c
            simp only [if_true]
            refine ⟨x19.add P5 (by omega), ⟨(M5.2 18 (by simp) k).trans x2.1, x2.2.same (fun j => M5.2 17 (by simp) j)⟩, fun q hq => ?_⟩
            obtain ⟨-, d2, d3⟩ := i80 _ (List.getElem_mem hq)
            have e22 : gs σ5 22 = -1 := y6
            rw [P5.1.i d2 (by decide), d3]
            unfold dl
            rw [e22, if_neg (s_m1 k (by omega)), Int32.add_zero]
          · simp only [if_neg c]
            obtain ⟨w1, w2, w3⟩ := q4 k (by omega)
            refine ⟨w1.add P5 (by omega), ⟨(M5.2 18 (by simp) k).trans w2.1, w2.2.same (fun j => M5.2 17 (by simp) j)⟩, fun q hq => ?_⟩
            rw [P5.1.i (w1.lv hq).1 (by decide), w3 q hq, hdl]
        · intro k k' q q' hk hk' hq hq' ee
          by_cases c : k = nH
          · subst c
            simp only [if_true] at hq ee
            by_cases c' : k' = k
            · subst c'
              simp only [if_true] at hq' ee
              refine ⟨rfl, ?_⟩
              rw [List.getD_eq_getElem?_getD, List.getElem?_eq_getElem hq, List.getD_eq_getElem?_getD, List.getElem?_eq_getElem hq'] at ee
              have ee' : (lvl cl)[q].1 = (lvl cl)[q'].1 := ee
              have hp := List.pairwise_iff_getElem.mp hpw
              by_cases l : q < q'
              · have := hp q q' hq hq' l; omega
              · by_cases l' : q' < q
                · have := hp q' q hq' hq l'; omega
                · omega
            · simp only [if_neg c'] at hq' ee
              have o := oldn k' (by omega) q' hq'
              have o' := (i80 _ (List.getElem_mem hq)).1
              rw [List.getD_eq_getElem?_getD, List.getElem?_eq_getElem hq] at ee
              have ee' : (lvl cl)[q].1 = ((lvl (cls k')).getD q' (0, 0)).1 := ee
              omega
          · simp only [if_neg c] at hq ee
            by_cases c' : k' = nH
            · subst c'
              simp only [if_true] at hq' ee
              have o := oldn k (by omega) q hq
              have o' := (i80 _ (List.getElem_mem hq')).1
              have ee2 : ((lvl cl).getD q' (0, 0)).1 = (lvl cl)[q'].1 := by rw [List.getD_eq_getElem?_getD, List.getElem?_eq_getElem hq']; rfl
              omega
            · simp only [if_neg c'] at hq' ee
              exact q5 k k' q q' (by omega) (by omega) hq hq' ee
      · have := P5.1.n; omega
      · have := P4.2.1; omega
      · have := P4.2.2.1; omega
    · -- wrong
      obtain ⟨⟨F3, M3, m17, m18⟩, ke, i76, g14, g13, hle⟩ := W3
      rw [f1, ev_b, f2, ev_b, if_neg (by rw [g14]; decide), g13]
      show ∃ C' σ' r hb' nH' nT' cls', ((xk_is C3 15 (some e)).bind fun e2 => fX0_text_C bx C3 e2) = some (C', r) ∧ _
      unfold fX0_text_C
      have kB3 : xk_k C3 bx = 1 := (F3.k (by omega)).trans kB
      rw [g_is ke, ev_b, g_i ke rfl, i76, ev_b, p_i kB3 rfl, ev_b]
      have MA : Mf [7, 12, 13, 14, 15] [9, 10, 17, 18] σ σ3 := (M2.mono (by decide) (by decide)).trans (M3.mono (by decide) (by decide))
      have FA : Fr [9, 33, 34] [35] (fun _ _ => false) C (xk_si C3 9 bx 0) := (F3.mono (by decide) (by decide) (fun _ _ z => z)).si _ _ _ (.inl (by decide))
      have n3' : xk_n (xk_si C3 9 bx 0) = xk_n C3 := rfl
      have s3' : xk_s (xk_si C3 9 bx 0) = xk_s C3 := rfl
      have := F3.n
      exact ⟨_, σ3, _, hb, nH, 0, cls, rfl, rfl, h.fr FA (fun j => MA.2 1 (by decide) j) (by decide) (by decide) (fun _ _ => rfl) rfl, H.txt h.1 FA MA (fun j hj => (m17 j hj).trans (M2.2 17 (by decide) j)) (fun j hj => (m18 j (by omega)).trans (M2.2 18 (by decide) j)) (by rw [i_si, if_pos ⟨rfl, rfl⟩]; rfl) ((M3.1 7 (by decide)).trans g72), by omega, by omega, by omega⟩
end
end
section
/-! STAGE 2: the relation -/
section
variable {bx : Nat} {sh cr hb fm : Nat → Nat} {nS nC nH nF nT m : Nat} {cls : Nat → List (Nat × Nat × List Int32 × List (Nat × Nat))} {C C' : xk_C} {σ σ' : gm_S}
theorem op_count {N : Nat} (hN : 100 ≤ N) (h : cR bx sh cr hb nS nC nH C σ) (H : Rt bx sh cr hb fm nS nC nH nF nT m cls C σ) (a1 : Int32) : ∃ r, fX0_count N bx C a1 = some r ∧ fX3_count N σ a1 = some r := by
  have kB := h.kB
  obtain ⟨-, ⟨r0, r2, r3, r7, r8, r10, r11, r12, r13, r17, r18, r19, r23⟩, -, -⟩ := h.1.1
  obtain ⟨p1, p2, p3, -⟩ := H.2.1
  obtain ⟨q1, q2, q3, -⟩ := H.2.2.1
  obtain ⟨t1, t2, -⟩ := H.2.2.2.1
  obtain ⟨b1, b2, -⟩ := H.2.2.2.2.1.1
  have o : ∀ r : Option Int32, (r.bind fun x => some x) = r := fun r => by cases r <;> rfl
  unfold fX0_count fX3_count
  simp only [o]
  by_cases c0 : a1 = 0
  · rw [if_pos c0, if_pos c0, g_r kB rfl, r0, ev_b, g_is h.1.2.1.1, ev_b, h.1.2.1.size, ev_r0, h.v0]; exact ⟨_, rfl, rfl⟩
  rw [if_neg c0, if_neg c0]
  by_cases c1 : a1 = 1
  · rw [if_pos c1, if_pos c1, g_r kB rfl, r3, ev_b, g_is h.1.2.2.1.1, ev_b, h.1.2.2.1.size, ev_r1, h.v1]; exact ⟨_, rfl, rfl⟩
  rw [if_neg c1, if_neg c1]
  by_cases c2 : a1 = 2
  · rw [if_pos c2, if_pos c2, g_r kB rfl, r11, ev_b, g_is p3.1, ev_b, p3.size, p1]; exact ⟨_, rfl, rfl⟩
  rw [if_neg c2, if_neg c2]
  by_cases c3 : a1 = 3
  · rw [if_pos c3, if_pos c3, g_r kB rfl, r23, ev_b, g_is q3.1, ev_b, q3.size, q1]; exact ⟨_, rfl, rfl⟩
  rw [if_neg c3, if_neg c3]
  by_cases c4 : a1 = 4
  · rw [if_pos c4, if_pos c4, g_i kB rfl, ev_r2, h.1.2.2.2.2.2.1.1]; exact ⟨_, rfl, rfl⟩
  rw [if_neg c4, if_neg c4]
  by_cases c5 : a1 = 5
  · rw [if_pos c5, if_pos c5, c5, show (5 : Int32) - 5 = 0 from rfl]; exact cnt0 hN h
  rw [if_neg c5, if_neg c5]
  by_cases c6 : a1 = nI 6
  · rw [if_pos c6, if_pos c6, c6, show nI 6 - 5 = 1 from rfl]; exact cnt1 hN h
  rw [if_neg c6, if_neg c6]
  by_cases c7 : a1 = nI 7
  · rw [if_pos c7, if_pos c7, c7, show nI 7 - 5 = 2 from rfl]; exact cnt2 hN h
  rw [if_neg c7, if_neg c7]
  by_cases c8 : a1 = nI 8
  · rw [if_pos c8, if_pos c8, g_i kB rfl, t1, t2]; exact ⟨_, rfl, rfl⟩
  rw [if_neg c8, if_neg c8]
  by_cases c9 : a1 = nI 9
  · rw [if_pos c9, if_pos c9, g_i kB rfl, b1, b2]; exact ⟨_, rfl, rfl⟩
  rw [if_neg c9, if_neg c9]
  exact ⟨_, rfl, rfl⟩
theorem Rt.chd (H : Rt bx sh cr hb fm nS nC nH nF nT m cls C σ) (hA : cA bx sh cr hb nS nC C σ) (F : Fr [14, 15] [16] (chE bx) C C') (M : Mf [24, 25, 26] [23] σ σ') : Rt bx sh cr hb fm nS nC nH nF nT m cls C' σ' :=
  H.fr hA F M (by decide) (by decide) (fun k e hk => by rcases hk with rfl | rfl | rfl | rfl | rfl <;> rfl) (fun w hw => by unfold chE; simp; omega) ⟨rfl, by unfold chE; simp⟩ (by decide) (by decide)
theorem Rt.told (H : Rt bx sh cr hb fm nS nC nH nF nT m cls C σ) (hA : cA bx sh cr hb nS nC C σ) (o : oT bx C σ C' σ') : Rt bx sh cr hb fm nS nC nH nF nT m cls C' σ' :=
  H.fr hA o.1.1 o.2 (by decide) (by decide) (fun k e hk => by rcases hk with rfl | rfl | rfl | rfl | rfl <;> rfl) (fun w hw => rfl) ⟨rfl, rfl⟩ (by decide) (by decide)
theorem Rt.fed {nT' : Nat} (H : Rt bx sh cr hb fm nS nC nH nF nT m cls C σ) (hA : cA bx sh cr hb nS nC C σ) (F : Fr [9] [] (tE bx) C C') (M : Mf [7] [8] σ σ') (P : pT bx nT' C' σ') : Rt bx sh cr hb fm nS nC nH nF nT' m cls C' σ' := by
  obtain ⟨a, b, c, d, ⟨⟨e1, e2, e3⟩, e'⟩, f, g, k⟩ := H
  have nb := hA.1.1.2.1
  have k2 := hA.1.2.2.1.2.1
  refine ⟨a.fr hA.2.2.2.2.1.2.1 F (by decide) (by simp) (fun _ _ => rfl), b.fr F M (by decide) (by decide) (fun _ _ => rfl) (fun _ _ => rfl) (by decide) (by decide), c.fr F M (by decide) (by decide) (by decide) (fun _ _ => rfl) (by decide) (by decide), P, ⟨⟨(F.i (by omega) (by decide)).trans e1, (M.1 35 (by decide)).trans e2, fun j hj => ?_⟩, e'⟩, f.fr hA.2.2.2.1.2.1 (by omega) F M (by decide) (by decide) (fun _ _ => rfl) (fun _ _ => rfl) (by decide) (by decide), g.fr nb F (by decide) (by decide) (fun _ _ => rfl) (fun _ _ => rfl), (M.1 22 (by decide)).trans k⟩
  rw [F.e (by omega) (by rw [k2]; rfl), M.2 34 (by decide)]; exact e3 j hj
theorem Rt.acted {m' : Nat} (H : Rt bx sh cr hb fm nS nC nH nF nT m cls C σ) (hA : cA bx sh cr hb nS nC C σ) (F : Fr [1] [] (aE bx) C C') (M : Mf [35, 36, 37, 38] [34] σ σ') (B : rB bx m' C' σ') (hm : m' ≤ 100) : Rt bx sh cr hb fm nS nC nH nF nT m' cls C' σ' := by
  obtain ⟨a, b, c, ⟨d1, d2, d3, d4⟩, -, f, g, k⟩ := H
  have nb := hA.1.1.2.1
  have k5 := hA.1.2.2.1.2.2.2.2.1
  have h30 : ∀ w, bx + 19 ≤ w → aE bx 30 w = false := fun w hw => by unfold aE; simp; omega
  refine ⟨a.fr hA.2.2.2.2.1.2.1 F (by decide) (by simp) (fun _ _ => rfl), b.fr F M (by decide) (by decide) (fun _ _ => rfl) h30 (by decide) (by decide), c.fr F M (by decide) (by decide) (by decide) (fun _ _ => rfl) (by decide) (by decide), ⟨(F.i (by omega) (by decide)).trans d1, (M.1 7 (by decide)).trans d2, d3, fun j hj => ?_⟩, ⟨B, hm⟩, f.fr hA.2.2.2.1.2.1 (by omega) F M (by decide) (by decide) (fun _ _ => rfl) h30 (by decide) (by decide), g.fr nb F (by decide) (by decide) (fun _ _ => rfl) (fun _ _ => rfl), (M.1 22 (by decide)).trans k⟩
  rw [F.e (by omega) (by rw [k5]; rfl), M.2 8 (by decide)]; exact d4 j hj
end
/-- the relation between class and reference, behind k calls -/
def Rl (bx n0 k : Nat) (C : xk_C) (σ : gm_S) : Prop := (∃ sh cr hb fm nS nC nH nF nT m cls, cR bx sh cr hb nS nC nH C σ ∧ Rt bx sh cr hb fm nS nC nH nF nT m cls C σ) ∧ k ≤ 64 ∧ n0 ≤ xk_n C ∧ xk_n C ≤ n0 + 2000 + 9000 * k
theorem Rl.up {bx n0 k : Nat} {C : xk_C} {σ : gm_S} (R : Rl bx n0 k C σ) (hk : k < 64) : Rl bx n0 (k + 1) C σ := ⟨R.1, by omega, R.2.2.1, by have := R.2.2.2; omega⟩
theorem Rl.ar {a b n k : Nat} (h : a ≤ n + 2000 + 9000 * k) (h2 : b ≤ a + 9000) : b ≤ n + 2000 + 9000 * (k + 1) :=
  Nat.le_trans h2 (by rw [Nat.mul_add_one, ← Nat.add_assoc]; exact Nat.add_le_add_right h 9000)
theorem Rl.go {bx n0 k : Nat} {C C' : xk_C} {σ σ' : gm_S} (R : Rl bx n0 k C σ) (hk : k < 64) {sh cr hb fm : Nat → Nat} {nS nC nH nF nT m : Nat} {cls : Nat → List (Nat × Nat × List Int32 × List (Nat × Nat))} (h : cR bx sh cr hb nS nC nH C' σ') (H : Rt bx sh cr hb fm nS nC nH nF nT m cls C' σ') (n1 : xk_n C ≤ xk_n C') (n2 : xk_n C' ≤ xk_n C + 9000) : Rl bx n0 (k + 1) C' σ' := by
  have a := R.2.2.1
  have b := R.2.2.2
  have c : xk_n C' ≤ n0 + 2000 + 9000 * (k + 1) := Rl.ar b n2
  exact ⟨⟨sh, cr, hb, fm, nS, nC, nH, nF, nT, m, cls, h, H⟩, hk, Nat.le_trans a n1, c⟩
theorem Rl.b {bx n0 k : Nat} {C : xk_C} {σ : gm_S} (R : Rl bx n0 k C σ) : xk_k C bx = 1 ∧ n0 ≤ xk_n C ∧ xk_n C ≤ n0 + 601024 := by
  obtain ⟨⟨sh, cr, hb, fm, nS, nC, nH, nF, nT, m, cls, h, H⟩, h1, h2, h3⟩ := R
  exact ⟨h.kB, h2, by omega⟩
end
section
/-! STAGE 2: the simulations (gen/mkd4.py) -/
theorem Rl.s0 {bx n0 N : Nat} (hN : 1000 ≤ N) : ∀ (k : Nat) (C : xk_C) (σ : gm_S), k < 64 → Rl bx n0 k C σ → ∀ (a1 a2 a3 a4 : Int32), ∃ (C' : xk_C) (σ' : gm_S) (r : Int32), fX0_shell bx C a1 a2 a3 a4 = some (C', r) ∧ fX3_shell σ a1 a2 a3 a4 = some (σ', r) ∧ Rl bx n0 (k + 1) C' σ' ∧ xk_s C' - xk_s C ≤ 100000 := by
  intro k C σ hk R a1 a2 a3 a4
  obtain ⟨⟨sh, cr, hb, fm, nS, nC, nH, nF, nT, m, cls, h, H⟩, hb1, hb2, hb3⟩ := id R
  obtain ⟨C', σ', r, sh', nS', f1, f2, h', H', n1, n2, n3⟩ := op_shell h H a1 a2 a3 a4
  exact ⟨C', σ', r, f1, f2, R.go hk h' H' (by omega) (by omega), by omega⟩
theorem Rl.s1 {bx n0 N : Nat} (hN : 1000 ≤ N) : ∀ (k : Nat) (C : xk_C) (σ : gm_S), k < 64 → Rl bx n0 k C σ → ∀ (a1 a2 a3 : Int32), ∃ (C' : xk_C) (σ' : gm_S) (r : Int32), fX0_crab bx C a1 a2 a3 = some (C', r) ∧ fX3_crab σ a1 a2 a3 = some (σ', r) ∧ Rl bx n0 (k + 1) C' σ' ∧ xk_s C' - xk_s C ≤ 100000 := by
  intro k C σ hk R a1 a2 a3
  obtain ⟨⟨sh, cr, hb, fm, nS, nC, nH, nF, nT, m, cls, h, H⟩, hb1, hb2, hb3⟩ := id R
  obtain ⟨C', σ', r, f1, f2, cr', nC', h', H', n1, n2, n3⟩ := op_crab h H a1 a2 a3
  exact ⟨C', σ', r, f1, f2, R.go hk h' H' (by omega) (by omega), by omega⟩
theorem Rl.s2 {bx n0 N : Nat} (hN : 1000 ≤ N) : ∀ (k : Nat) (C : xk_C) (σ : gm_S), k < 64 → Rl bx n0 k C σ → ∀ (a1 a2 : Int32), ∃ (C' : xk_C) (σ' : gm_S) (r : Int32), fX0_habit bx C a1 a2 = some (C', r) ∧ fX3_habit σ a1 a2 = some (σ', r) ∧ Rl bx n0 (k + 1) C' σ' := by
  intro k C σ hk R a1 a2
  obtain ⟨⟨sh, cr, hb, fm, nS, nC, nH, nF, nT, m, cls, h, H⟩, hb1, hb2, hb3⟩ := id R
  obtain ⟨C', σ', r, f1, f2, o⟩ := op_habit h H.2.1 a1 a2
  exact ⟨C', σ', r, f1, f2, R.go hk o.1 (o.rt h H) (by have := o.2.1.2.1; omega) (by have := o.2.1.2.1; omega)⟩
theorem Rl.s3 {bx n0 N : Nat} (hN : 1000 ≤ N) : ∀ (k : Nat) (C : xk_C) (σ : gm_S), k < 64 → Rl bx n0 k C σ → ∀ (a1 a2 : Int32), ∃ (C' : xk_C) (σ' : gm_S) (r : Int32), fX0_walk bx C a1 a2 = some (C', r) ∧ fX3_walk σ a1 a2 = some (σ', r) ∧ Rl bx n0 (k + 1) C' σ' := by
  intro k C σ hk R a1 a2
  obtain ⟨⟨sh, cr, hb, fm, nS, nC, nH, nF, nT, m, cls, h, H⟩, hb1, hb2, hb3⟩ := id R
  obtain ⟨C', σ', r, f1, f2, o⟩ := op_walk h a1 a2
  exact ⟨C', σ', r, f1, f2, R.go hk o.1 (o.rt h H) (by have := o.2.1.2.1; omega) (by have := o.2.1.2.1; omega)⟩
theorem Rl.s4 {bx n0 N : Nat} (hN : 1000 ≤ N) : ∀ (k : Nat) (C : xk_C) (σ : gm_S), k < 64 → Rl bx n0 k C σ → ∀ (a1 a2 : Int32), ∃ (r : Int32), fX0_of bx C a1 a2 = some r ∧ fX3_of σ a1 a2 = some r ∧ Rl bx n0 (k + 1) C σ := by
  intro k C σ hk R a1 a2
  obtain ⟨⟨sh, cr, hb, fm, nS, nC, nH, nF, nT, m, cls, h, H⟩, hb1, hb2, hb3⟩ := id R
  obtain ⟨r, f1, f2⟩ := op_of h a1 a2
  exact ⟨r, f1, f2, R.up hk⟩
theorem Rl.s5 {bx n0 N : Nat} (hN : 1000 ≤ N) : ∀ (k : Nat) (C : xk_C) (σ : gm_S), k < 64 → Rl bx n0 k C σ → ∀ (a1 a2 : Int32), ∃ (r : Int32), fX0_about N bx C a1 a2 = some r ∧ fX3_about N σ a1 a2 = some r ∧ Rl bx n0 (k + 1) C σ := by
  intro k C σ hk R a1 a2
  obtain ⟨⟨sh, cr, hb, fm, nS, nC, nH, nF, nT, m, cls, h, H⟩, hb1, hb2, hb3⟩ := id R
  obtain ⟨r, f1, f2⟩ := op_about (N := N) (by omega) h H.1 a1 a2
  exact ⟨r, f1, f2, R.up hk⟩
theorem Rl.s6 {bx n0 N : Nat} (hN : 1000 ≤ N) : ∀ (k : Nat) (C : xk_C) (σ : gm_S), k < 64 → Rl bx n0 k C σ → ∀ (a1 a2 : Int32), ∃ (r : Int32), fX0_fit bx C a1 a2 = some r ∧ fX3_fit σ a1 a2 = some r ∧ Rl bx n0 (k + 1) C σ := by
  intro k C σ hk R a1 a2
  obtain ⟨⟨sh, cr, hb, fm, nS, nC, nH, nF, nT, m, cls, h, H⟩, hb1, hb2, hb3⟩ := id R
  obtain ⟨r, f1, f2⟩ := op_fit h a1 a2
  exact ⟨r, f1, f2, R.up hk⟩
theorem Rl.s7 {bx n0 N : Nat} (hN : 1000 ≤ N) : ∀ (k : Nat) (C : xk_C) (σ : gm_S), k < 64 → Rl bx n0 k C σ → ∀ (a1 a2 : Int32), ∃ (C' : xk_C) (σ' : gm_S) (r : Int32), fX0_end bx C a1 a2 = some (C', r) ∧ fX3_end σ a1 a2 = some (σ', r) ∧ Rl bx n0 (k + 1) C' σ' := by
  intro k C σ hk R a1 a2
  obtain ⟨⟨sh, cr, hb, fm, nS, nC, nH, nF, nT, m, cls, h, H⟩, hb1, hb2, hb3⟩ := id R
  obtain ⟨C', σ', r, f1, f2, o⟩ := op_end h a1 a2
  exact ⟨C', σ', r, f1, f2, R.go hk o.1 (o.rt h H) (by have := o.2.1.2.1; omega) (by have := o.2.1.2.1; omega)⟩
theorem Rl.s8 {bx n0 N : Nat} (hN : 1000 ≤ N) : ∀ (k : Nat) (C : xk_C) (σ : gm_S), k < 64 → Rl bx n0 k C σ → ∀ (a1 : Int32), ∃ (C' : xk_C) (σ' : gm_S) (r : Int32), fX0_eat N bx C a1 = some (C', r) ∧ fX3_eat N σ a1 = some (σ', r) ∧ Rl bx n0 (k + 1) C' σ' := by
  intro k C σ hk R a1
  obtain ⟨⟨sh, cr, hb, fm, nS, nC, nH, nF, nT, m, cls, h, H⟩, hb1, hb2, hb3⟩ := id R
  obtain ⟨C', σ', r, f1, f2, o⟩ := op_eat (N := N) (by omega) h a1
  exact ⟨C', σ', r, f1, f2, R.go hk o.1 (o.rt h H) (by have := o.2.1.2.1; omega) (by have := o.2.1.2.1; omega)⟩
theorem Rl.s9 {bx n0 N : Nat} (hN : 1000 ≤ N) : ∀ (k : Nat) (C : xk_C) (σ : gm_S), k < 64 → Rl bx n0 k C σ → ∀ (a1 a2 a3 : Int32), ∃ (C' : xk_C) (σ' : gm_S) (r : Int32), fX0_feed N bx C ((a1.toInt64 <<< ((nI 32).toInt64 &&& 63)) ||| (a2.toInt64 &&& (4294967295))) a3 = some (C', r) ∧ fX3_feed N σ ((a1.toInt64 <<< ((nI 32).toInt64 &&& 63)) ||| (a2.toInt64 &&& (4294967295))) a3 = some (σ', r) ∧ Rl bx n0 (k + 1) C' σ' := by
  intro k C σ hk R a1 a2 a3
  obtain ⟨⟨sh, cr, hb, fm, nS, nC, nH, nF, nT, m, cls, h, H⟩, hb1, hb2, hb3⟩ := id R
  obtain ⟨C', σ', r, nT', f1, f2, h', P', ⟨F, n1, s1⟩, M⟩ := op_feed (N := N) (by omega) h H.2.2.2.1 ((a1.toInt64 <<< ((nI 32).toInt64 &&& 63)) ||| (a2.toInt64 &&& (4294967295))) a3
  exact ⟨C', σ', r, f1, f2, R.go hk h' (H.fed h.1 F M P') (by omega) (by omega)⟩
theorem Rl.s10 {bx n0 N : Nat} (hN : 1000 ≤ N) : ∀ (k : Nat) (C : xk_C) (σ : gm_S), k < 64 → Rl bx n0 k C σ → ∃ (C' : xk_C) (σ' : gm_S) (r : Int32), fX0_text N bx C  = some (C', r) ∧ fX3_text N σ  = some (σ', r) ∧ Rl bx n0 (k + 1) C' σ' ∧ xk_s C' - xk_s C ≤ 100000 := by
  intro k C σ hk R 
  obtain ⟨⟨sh, cr, hb, fm, nS, nC, nH, nF, nT, m, cls, h, H⟩, hb1, hb2, hb3⟩ := id R
  obtain ⟨C', σ', r, hb', nH', nT', cls', f1, f2, h', H', n1, n2, n3⟩ := op_text (N := N) (by omega) h H
  exact ⟨C', σ', r, f1, f2, R.go hk h' H' (by omega) (by omega), by omega⟩
theorem Rl.s11 {bx n0 N : Nat} (hN : 1000 ≤ N) : ∀ (k : Nat) (C : xk_C) (σ : gm_S), k < 64 → Rl bx n0 k C σ → ∀ (a1 a2 a3 a4 a5 a6 a7 : Int32), ∃ (C' : xk_C) (σ' : gm_S) (r : Int32), fX0_holds N bx C a1 a2 a3 a4 a5 a6 a7 = some (C', r) ∧ fX3_holds N σ a1 a2 a3 a4 a5 a6 a7 = some (σ', r) ∧ Rl bx n0 (k + 1) C' σ' := by
  intro k C σ hk R a1 a2 a3 a4 a5 a6 a7
  obtain ⟨⟨sh, cr, hb, fm, nS, nC, nH, nF, nT, m, cls, h, H⟩, hb1, hb2, hb3⟩ := id R
  obtain ⟨C', σ', r, f1, f2, o⟩ := op_holds (N := N) (by omega) h H.2.1 a1 a2 a3 a4 a5 a6 a7
  exact ⟨C', σ', r, f1, f2, R.go hk o.1 (o.rt h H) (by have := o.2.1.2.1; omega) (by have := o.2.1.2.1; omega)⟩
theorem Rl.s12 {bx n0 N : Nat} (hN : 1000 ≤ N) : ∀ (k : Nat) (C : xk_C) (σ : gm_S), k < 64 → Rl bx n0 k C σ → ∀ (a1 a2 : Int32), ∃ (C' : xk_C) (σ' : gm_S) (r : Int32), fX0_set bx C a1 a2 = some (C', r) ∧ fX3_set σ a1 a2 = some (σ', r) ∧ Rl bx n0 (k + 1) C' σ' := by
  intro k C σ hk R a1 a2
  obtain ⟨⟨sh, cr, hb, fm, nS, nC, nH, nF, nT, m, cls, h, H⟩, hb1, hb2, hb3⟩ := id R
  obtain ⟨C', σ', r, f1, f2, o⟩ := op_set h a1 a2
  exact ⟨C', σ', r, f1, f2, R.go hk o.1 (o.rt h H) (by have := o.2.1.2.1; omega) (by have := o.2.1.2.1; omega)⟩
theorem Rl.s13 {bx n0 N : Nat} (hN : 1000 ≤ N) : ∀ (k : Nat) (C : xk_C) (σ : gm_S), k < 64 → Rl bx n0 k C σ → ∀ (a1 : Int32), ∃ (C' : xk_C) (σ' : gm_S) (r : Int32), fX0_tick N bx C a1 = some (C', r) ∧ fX3_tick N σ a1 = some (σ', r) ∧ Rl bx n0 (k + 1) C' σ' := by
  intro k C σ hk R a1
  obtain ⟨⟨sh, cr, hb, fm, nS, nC, nH, nF, nT, m, cls, h, H⟩, hb1, hb2, hb3⟩ := id R
  obtain ⟨C', σ', r, f1, f2, o⟩ := op_tick (N := N) (by omega) h H.2.1 a1
  exact ⟨C', σ', r, f1, f2, R.go hk o.1 (o.rt h H) (by have := o.2.1.2.1; omega) (by have := o.2.1.2.1; omega)⟩
theorem Rl.s14 {bx n0 N : Nat} (hN : 1000 ≤ N) : ∀ (k : Nat) (C : xk_C) (σ : gm_S), k < 64 → Rl bx n0 k C σ → ∀ (a1 a2 : Int32), ∃ (r : Int32), fX0_row N bx C a1 a2 = some r ∧ fX3_row N σ a1 a2 = some r ∧ Rl bx n0 (k + 1) C σ := by
  intro k C σ hk R a1 a2
  obtain ⟨⟨sh, cr, hb, fm, nS, nC, nH, nF, nT, m, cls, h, H⟩, hb1, hb2, hb3⟩ := id R
  obtain ⟨r, f1, f2⟩ := op_row (N := N) (by omega) h a1 a2
  exact ⟨r, f1, f2, R.up hk⟩
theorem Rl.s15 {bx n0 N : Nat} (hN : 1000 ≤ N) : ∀ (k : Nat) (C : xk_C) (σ : gm_S), k < 64 → Rl bx n0 k C σ → ∀ (a1 : Int32), ∃ (r : Int32), fX0_exchanges bx C a1 = some r ∧ fX3_exchanges σ a1 = some r ∧ Rl bx n0 (k + 1) C σ := by
  intro k C σ hk R a1
  obtain ⟨⟨sh, cr, hb, fm, nS, nC, nH, nF, nT, m, cls, h, H⟩, hb1, hb2, hb3⟩ := id R
  obtain ⟨r, f1, f2⟩ := op_exchanges h a1
  exact ⟨r, f1, f2, R.up hk⟩
theorem Rl.s16 {bx n0 N : Nat} (hN : 1000 ≤ N) : ∀ (k : Nat) (C : xk_C) (σ : gm_S), k < 64 → Rl bx n0 k C σ → ∃ (r : Int32), fX0_points N bx C  = some r ∧ fX3_points N σ  = some r ∧ Rl bx n0 (k + 1) C σ := by
  intro k C σ hk R 
  obtain ⟨⟨sh, cr, hb, fm, nS, nC, nH, nF, nT, m, cls, h, H⟩, hb1, hb2, hb3⟩ := id R
  obtain ⟨r, f1, f2⟩ := op_points (N := N) (by omega) h 
  exact ⟨r, f1, f2, R.up hk⟩
theorem Rl.s17 {bx n0 N : Nat} (hN : 1000 ≤ N) : ∀ (k : Nat) (C : xk_C) (σ : gm_S), k < 64 → Rl bx n0 k C σ → ∀ (a1 a2 : Int32), ∃ (C' : xk_C) (σ' : gm_S) (r : Int32), fX0_chain N bx C a1 a2 = some (C', r) ∧ fX3_chain N σ a1 a2 = some (σ', r) ∧ Rl bx n0 (k + 1) C' σ' := by
  intro k C σ hk R a1 a2
  obtain ⟨⟨sh, cr, hb, fm, nS, nC, nH, nF, nT, m, cls, h, H⟩, hb1, hb2, hb3⟩ := id R
  obtain ⟨C', σ', r, f1, f2, h', ⟨F, n1, s1⟩, M⟩ := op_chain (N := N) (by omega) h a1 a2
  exact ⟨C', σ', r, f1, f2, R.go hk h' (H.chd h.1 F M) (by omega) (by omega)⟩
theorem Rl.s18 {bx n0 N : Nat} (hN : 1000 ≤ N) : ∀ (k : Nat) (C : xk_C) (σ : gm_S), k < 64 → Rl bx n0 k C σ → ∀ (a1 : Int32), ∃ (C' : xk_C) (σ' : gm_S) (r : Int32), fX0_value N bx C a1 = some (C', r) ∧ fX3_value N σ a1 = some (σ', r) ∧ Rl bx n0 (k + 1) C' σ' ∧ xk_s C' - xk_s C ≤ 100000 := by
  intro k C σ hk R a1
  obtain ⟨⟨sh, cr, hb, fm, nS, nC, nH, nF, nT, m, cls, h, H⟩, hb1, hb2, hb3⟩ := id R
  obtain ⟨C', σ', r, f1, f2, h', ⟨F, n1, s1⟩, M⟩ := op_value (N := N) (by omega) h a1
  exact ⟨C', σ', r, f1, f2, R.go hk h' (H.chd h.1 F M) F.n (by omega), by omega⟩
theorem Rl.s19 {bx n0 N : Nat} (hN : 1000 ≤ N) : ∀ (k : Nat) (C : xk_C) (σ : gm_S), k < 64 → Rl bx n0 k C σ → ∃ (C' : xk_C) (σ' : gm_S) (r : Int32), fX0_first N bx C  = some (C', r) ∧ fX3_first N σ  = some (σ', r) ∧ Rl bx n0 (k + 1) C' σ' ∧ xk_s C' - xk_s C ≤ 100000 := by
  intro k C σ hk R 
  obtain ⟨⟨sh, cr, hb, fm, nS, nC, nH, nF, nT, m, cls, h, H⟩, hb1, hb2, hb3⟩ := id R
  obtain ⟨C', σ', r, f1, f2, h', ⟨F, n1, s1⟩, M⟩ := op_first (N := N) (by omega) h 
  exact ⟨C', σ', r, f1, f2, R.go hk h' (H.chd h.1 F M) F.n (by omega), by omega⟩
theorem Rl.s20 {bx n0 N : Nat} (hN : 1000 ≤ N) : ∀ (k : Nat) (C : xk_C) (σ : gm_S), k < 64 → Rl bx n0 k C σ → ∀ (a1 a2 : Int32), ∃ (C' : xk_C) (σ' : gm_S) (r : Int32), fX0_best N bx C a1 a2 = some (C', r) ∧ fX3_best N σ a1 a2 = some (σ', r) ∧ Rl bx n0 (k + 1) C' σ' := by
  intro k C σ hk R a1 a2
  obtain ⟨⟨sh, cr, hb, fm, nS, nC, nH, nF, nT, m, cls, h, H⟩, hb1, hb2, hb3⟩ := id R
  obtain ⟨C', σ', r, f1, f2, o⟩ := op_best (N := N) (by omega) h a1 a2
  exact ⟨C', σ', r, f1, f2, R.go hk (h.oT1 o) (H.told h.1 o) (by have := o.1.2.1; omega) (by have := o.1.2.1; omega)⟩
theorem Rl.s21 {bx n0 N : Nat} (hN : 1000 ≤ N) : ∀ (k : Nat) (C : xk_C) (σ : gm_S), k < 64 → Rl bx n0 k C σ → ∀ (a1 : Int32), ∃ (C' : xk_C) (σ' : gm_S) (r : Int32), fX0_calm N bx C a1 = some (C', r) ∧ fX3_calm N σ a1 = some (σ', r) ∧ Rl bx n0 (k + 1) C' σ' := by
  intro k C σ hk R a1
  obtain ⟨⟨sh, cr, hb, fm, nS, nC, nH, nF, nT, m, cls, h, H⟩, hb1, hb2, hb3⟩ := id R
  obtain ⟨C', σ', r, f1, f2, o⟩ := op_calm (N := N) (by omega) h a1
  exact ⟨C', σ', r, f1, f2, R.go hk (h.oT1 o) (H.told h.1 o) (by have := o.1.2.1; omega) (by have := o.1.2.1; omega)⟩
theorem Rl.s22 {bx n0 N : Nat} (hN : 1000 ≤ N) : ∀ (k : Nat) (C : xk_C) (σ : gm_S), k < 64 → Rl bx n0 k C σ → ∃ (r : Int32), fX0_pairs N bx C  = some r ∧ fX3_pairs N σ  = some r ∧ Rl bx n0 (k + 1) C σ := by
  intro k C σ hk R 
  obtain ⟨⟨sh, cr, hb, fm, nS, nC, nH, nF, nT, m, cls, h, H⟩, hb1, hb2, hb3⟩ := id R
  obtain ⟨r, f1, f2⟩ := op_pairs (N := N) (by omega) h 
  exact ⟨r, f1, f2, R.up hk⟩
theorem Rl.s23 {bx n0 N : Nat} (hN : 1000 ≤ N) : ∀ (k : Nat) (C : xk_C) (σ : gm_S), k < 64 → Rl bx n0 k C σ → ∀ (a1 a2 a3 a4 a5 a6 a7 : Int32), ∃ (C' : xk_C) (σ' : gm_S) (r : Int32), fX0_film bx C a1 a2 a3 a4 a5 a6 a7 = some (C', r) ∧ fX3_film σ a1 a2 a3 a4 a5 a6 a7 = some (σ', r) ∧ Rl bx n0 (k + 1) C' σ' ∧ xk_s C' - xk_s C ≤ 100000 := by
  intro k C σ hk R a1 a2 a3 a4 a5 a6 a7
  obtain ⟨⟨sh, cr, hb, fm, nS, nC, nH, nF, nT, m, cls, h, H⟩, hb1, hb2, hb3⟩ := id R
  obtain ⟨C', σ', r, fm', nF', f1, f2, h', H', n1, n2, n3⟩ := op_film h H a1 a2 a3 a4 a5 a6 a7
  exact ⟨C', σ', r, f1, f2, R.go hk h' H' (by omega) (by omega), by omega⟩
theorem Rl.s24 {bx n0 N : Nat} (hN : 1000 ≤ N) : ∀ (k : Nat) (C : xk_C) (σ : gm_S), k < 64 → Rl bx n0 k C σ → ∀ (a1 a2 : Int32), ∃ (C' : xk_C) (σ' : gm_S) (r : Int32), fX0_reads N bx C a1 a2 = some (C', r) ∧ fX3_reads N σ a1 a2 = some (σ', r) ∧ Rl bx n0 (k + 1) C' σ' := by
  intro k C σ hk R a1 a2
  obtain ⟨⟨sh, cr, hb, fm, nS, nC, nH, nF, nT, m, cls, h, H⟩, hb1, hb2, hb3⟩ := id R
  obtain ⟨C', σ', r, f1, f2, o⟩ := op_reads (N := N) (by omega) h H.2.1 H.2.2.1 a1 a2
  exact ⟨C', σ', r, f1, f2, R.go hk o.1 (o.rt h H) (by have := o.2.1.2.1; omega) (by have := o.2.1.2.1; omega)⟩
theorem Rl.s25 {bx n0 N : Nat} (hN : 1000 ≤ N) : ∀ (k : Nat) (C : xk_C) (σ : gm_S), k < 64 → Rl bx n0 k C σ → ∃ (C' : xk_C) (σ' : gm_S) (r : Int32), fX0_sure N bx C  = some (C', r) ∧ fX3_sure N σ  = some (σ', r) ∧ Rl bx n0 (k + 1) C' σ' := by
  intro k C σ hk R 
  obtain ⟨⟨sh, cr, hb, fm, nS, nC, nH, nF, nT, m, cls, h, H⟩, hb1, hb2, hb3⟩ := id R
  obtain ⟨C', σ', r, f1, f2, o⟩ := op_sure (N := N) (by omega) h H.2.1 H.2.2.1 
  exact ⟨C', σ', r, f1, f2, R.go hk o.1 (o.rt h H) (by have := o.2.1.2.1; omega) (by have := o.2.1.2.1; omega)⟩
theorem Rl.s26 {bx n0 N : Nat} (hN : 1000 ≤ N) : ∀ (k : Nat) (C : xk_C) (σ : gm_S), k < 64 → Rl bx n0 k C σ → ∀ (a1 a2 a3 a4 : Int32), ∃ (C' : xk_C) (σ' : gm_S) (r : Int32), fX0_mend N bx C a1 a2 a3 a4 = some (C', r) ∧ fX3_mend N σ a1 a2 a3 a4 = some (σ', r) ∧ Rl bx n0 (k + 1) C' σ' ∧ xk_s C' - xk_s C ≤ 100000 := by
  intro k C σ hk R a1 a2 a3 a4
  obtain ⟨⟨sh, cr, hb, fm, nS, nC, nH, nF, nT, m, cls, h, H⟩, hb1, hb2, hb3⟩ := id R
  obtain ⟨C', σ', r, f1, f2, h', H', n1, n2, n3⟩ := op_mend (N := N) (by omega) h H a1 a2 a3 a4
  exact ⟨C', σ', r, f1, f2, R.go hk h' H' (by omega) (by omega), by omega⟩
theorem Rl.s27 {bx n0 N : Nat} (hN : 1000 ≤ N) : ∀ (k : Nat) (C : xk_C) (σ : gm_S), k < 64 → Rl bx n0 k C σ → ∀ (a1 a2 a3 : Int32), ∃ (C' : xk_C) (σ' : gm_S) (r : Int32), fX0_act N bx C a1 a2 a3 = some (C', r) ∧ fX3_act N σ a1 a2 a3 = some (σ', r) ∧ Rl bx n0 (k + 1) C' σ' := by
  intro k C σ hk R a1 a2 a3
  obtain ⟨⟨sh, cr, hb, fm, nS, nC, nH, nF, nT, m, cls, h, H⟩, hb1, hb2, hb3⟩ := id R
  obtain ⟨C', σ', r, m', f1, f2, hm, B', ⟨F, n1, s1⟩, M⟩ := op_act (N := N) (by omega) h H.1 H.2.2.2.2.1.1 a1 a2 a3
  exact ⟨C', σ', r, f1, f2, R.go hk (h.fr F (fun j => M.2 1 (by decide) j) (by decide) (by decide) (fun _ _ => rfl) (by unfold aE; simp)) (H.acted h.1 F M B' hm) (by omega) (by omega)⟩
theorem Rl.s28 {bx n0 N : Nat} (hN : 1000 ≤ N) : ∀ (k : Nat) (C : xk_C) (σ : gm_S), k < 64 → Rl bx n0 k C σ → ∀ (a1 : Int32), ∃ (r : Int32), fX0_trace bx C a1 = some r ∧ fX3_trace σ a1 = some r ∧ Rl bx n0 (k + 1) C σ := by
  intro k C σ hk R a1
  obtain ⟨⟨sh, cr, hb, fm, nS, nC, nH, nF, nT, m, cls, h, H⟩, hb1, hb2, hb3⟩ := id R
  obtain ⟨r, f1, f2⟩ := op_trace H.2.2.2.2.1.2 h H.2.2.2.2.1.1 a1
  exact ⟨r, f1, f2, R.up hk⟩
theorem Rl.s29 {bx n0 N : Nat} (hN : 1000 ≤ N) : ∀ (k : Nat) (C : xk_C) (σ : gm_S), k < 64 → Rl bx n0 k C σ → ∀ (a1 a2 : Int32), ∃ (r : Int32), fX0_as N bx C a1 a2 = some r ∧ fX3_as N σ a1 a2 = some r ∧ Rl bx n0 (k + 1) C σ := by
  intro k C σ hk R a1 a2
  obtain ⟨⟨sh, cr, hb, fm, nS, nC, nH, nF, nT, m, cls, h, H⟩, hb1, hb2, hb3⟩ := id R
  obtain ⟨r, f1, f2⟩ := op_as (N := N) (by omega) h H.1 a1 a2
  exact ⟨r, f1, f2, R.up hk⟩
theorem Rl.s30 {bx n0 N : Nat} (hN : 1000 ≤ N) : ∀ (k : Nat) (C : xk_C) (σ : gm_S), k < 64 → Rl bx n0 k C σ → ∃ (C' : xk_C) (σ' : gm_S) (r : Int32), fX0_image N bx C  = some (C', r) ∧ fX3_image N σ  = some (σ', r) ∧ Rl bx n0 (k + 1) C' σ' ∧ xk_s C' - xk_s C ≤ 100000 := by
  intro k C σ hk R 
  obtain ⟨⟨sh, cr, hb, fm, nS, nC, nH, nF, nT, m, cls, h, H⟩, hb1, hb2, hb3⟩ := id R
  obtain ⟨C', σ', r, f1, f2, h', H', n1, n3⟩ := op_image (N := N) (by omega) h H
  exact ⟨C', σ', r, f1, f2, R.go hk h' H' (by omega) (by omega), by omega⟩
theorem Rl.s31 {bx n0 N : Nat} (hN : 1000 ≤ N) : ∀ (k : Nat) (C : xk_C) (σ : gm_S), k < 64 → Rl bx n0 k C σ → ∃ (C' : xk_C) (σ' : gm_S) (r : Int32), fX0_undo N bx C  = some (C', r) ∧ fX3_undo N σ  = some (σ', r) ∧ Rl bx n0 (k + 1) C' σ' := by
  intro k C σ hk R 
  obtain ⟨⟨sh, cr, hb, fm, nS, nC, nH, nF, nT, m, cls, h, H⟩, hb1, hb2, hb3⟩ := id R
  obtain ⟨C', σ', r, nS', nC', f1, f2, h', H', n1, n3⟩ := op_undo (N := N) (by omega) h H
  exact ⟨C', σ', r, f1, f2, R.go hk h' H' (by omega) (by omega)⟩
theorem Rl.s32 {bx n0 N : Nat} (hN : 1000 ≤ N) : ∀ (k : Nat) (C : xk_C) (σ : gm_S), k < 64 → Rl bx n0 k C σ → ∀ (a1 : Int32), ∃ (r : Int32), fX0_count N bx C a1 = some r ∧ fX3_count N σ a1 = some r ∧ Rl bx n0 (k + 1) C σ := by
  intro k C σ hk R a1
  obtain ⟨⟨sh, cr, hb, fm, nS, nC, nH, nF, nT, m, cls, h, H⟩, hb1, hb2, hb3⟩ := id R
  obtain ⟨r, f1, f2⟩ := op_count (N := N) (by omega) h H a1
  exact ⟨r, f1, f2, R.up hk⟩
end
