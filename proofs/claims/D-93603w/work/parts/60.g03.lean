set_option maxRecDepth 16384
section
/-! STAGE 2: who is in which shell -/
def Jv (nS nC : Nat) (st wh nn is : Nat → Int32) : Prop :=
  (∀ i, i < nS → (wh i = -1 ∧ (st i = 0 ∨ st i = 3 ∨ st i = 4)) ∨ ∃ c, c < nC ∧ wh i = nI c ∧ nn c = nI i ∧ (st i = 1 ∨ st i = 2)) ∧
  (∀ c, c < nC → (nn c = -1 ∧ (is c = 1 ∨ is c = 2)) ∨ ∃ i, i < nS ∧ nn c = nI i ∧ wh i = nI c ∧ (is c = 0 ∧ st i = 1 ∨ is c = 1 ∧ st i = 2))
section
variable {nS nC nH : Nat} {st wh nn is : Nat → Int32}
theorem Jv.det (h : Jv nS nC st wh nn is) (h1 : nS ≤ 20) (h2 : nC ≤ 12) {c k : Nat} (hc : c < nC) (hk : k < nS) (e : nn c = nI k) {v w : Int32} (hv : v = 0 ∨ v = 3 ∨ v = 4) (hw : w = 1 ∨ w = 2) : Jv nS nC (va_up st k v) (va_up wh k (-1)) (va_up nn c (-1)) (va_up is c w) := by
  obtain ⟨a, b⟩ := h
  unfold va_up
  refine ⟨fun i hi => ?_, fun d hd => ?_⟩
  · by_cases hik : i = k
    · simp only [hik, if_true]; exact .inl ⟨trivial, hv⟩
    · simp only [hik, if_false]
      rcases a i hi with x | ⟨d, hd, x1, x2, x3⟩
      · exact .inl x
      · refine .inr ⟨d, hd, x1, ?_, x3⟩
        have : d ≠ c := fun h => by rw [h, e, s_eq _ _ (by omega) (by omega)] at x2; exact hik x2.symm
        simp only [this, if_false]; exact x2
  · by_cases hdc : d = c
    · simp only [hdc, if_true]; exact .inl ⟨trivial, hw⟩
    · simp only [hdc, if_false]
      rcases b d hd with x | ⟨i, hi, x1, x2, x3⟩
      · exact .inl x
      · refine .inr ⟨i, hi, x1, ?_⟩
        have : i ≠ k := fun h => by
          rcases b c hc with ⟨y, -⟩ | ⟨j, hj, y1, y2, -⟩
          · rw [e] at y; exact s_m1 k (by omega) y
          · rw [e, s_eq _ _ (by omega) (by omega)] at y1
            rw [h, y1, y2, s_eq _ _ (by omega) (by omega)] at x2; exact hdc x2.symm
        simp only [this, if_false]; exact ⟨x2, x3⟩
theorem Jv.det0 (h : Jv nS nC st wh nn is) {c : Nat} (e : nn c = -1) {w : Int32} (hw : w = 1 ∨ w = 2) : Jv nS nC st wh nn (va_up is c w) := by
  obtain ⟨a, b⟩ := h
  refine ⟨a, fun d hd => ?_⟩
  unfold va_up
  by_cases hdc : d = c
  · simp only [hdc, if_true]; exact .inl ⟨e, hw⟩
  · simp only [hdc, if_false]; exact b d hd
theorem Jv.att (h : Jv nS nC st wh nn is) (h1 : nS ≤ 20) (h2 : nC ≤ 12) {c k : Nat} (hc : c < nC) (hk : k < nS) (e : nn c = -1) (f : wh k = -1) {v w : Int32} (hv : w = 0 ∧ v = 1 ∨ w = 1 ∧ v = 2) : Jv nS nC (va_up st k v) (va_up wh k (nI c)) (va_up nn c (nI k)) (va_up is c w) := by
  obtain ⟨a, b⟩ := h
  unfold va_up
  refine ⟨fun i hi => ?_, fun d hd => ?_⟩
  · by_cases hik : i = k
    · refine .inr ⟨c, hc, ?_, ?_, ?_⟩
      · simp only [hik, if_true]
      · simp only [hik, if_true]
      · simp only [hik, if_true]; rcases hv with h | h
        · exact .inl h.2
        · exact .inr h.2
    · simp only [hik, if_false]
      rcases a i hi with x | ⟨d, hd, x1, x2, x3⟩
      · exact .inl x
      · refine .inr ⟨d, hd, x1, ?_, x3⟩
        have : d ≠ c := fun h => by rw [h, e] at x2; exact s_m1 i (by omega) x2.symm
        simp only [this, if_false]; exact x2
  · by_cases hdc : d = c
    · refine .inr ⟨k, hk, ?_, ?_, ?_⟩
      · simp only [hdc, if_true]
      · simp only [hdc, if_true]
      · simp only [hdc, if_true]; exact hv
    · simp only [hdc, if_false]
      rcases b d hd with x | ⟨i, hi, x1, x2, x3⟩
      · exact .inl x
      · refine .inr ⟨i, hi, x1, ?_⟩
        have : i ≠ k := fun h => by rw [h, f] at x2; exact s_m1 d (by omega) x2.symm
        simp only [this, if_false]; exact ⟨x2, x3⟩
theorem Jv.hou (h : Jv nS nC st wh nn is) (h1 : nS ≤ 20) (h2 : nC ≤ 12) {c k : Nat} (hc : c < nC) (hk : k < nS) (e : nn c = nI k) : Jv nS nC (va_up st k 1) wh nn (va_up is c 0) := by
  obtain ⟨a, b⟩ := h
  have f : wh k = nI c := by
    rcases b c hc with ⟨y, -⟩ | ⟨j, hj, y1, y2, -⟩
    · rw [e] at y; exact absurd y (s_m1 k (by omega))
    · rw [e, s_eq _ _ (by omega) (by omega)] at y1; rw [y1]; exact y2
  unfold va_up
  refine ⟨fun i hi => ?_, fun d hd => ?_⟩
  · by_cases hik : i = k
    · simp only [hik, if_true]; exact .inr ⟨c, hc, f, e, .inl trivial⟩
    · simp only [hik, if_false]; exact a i hi
  · by_cases hdc : d = c
    · refine .inr ⟨k, hk, by rw [hdc]; exact e, by rw [hdc]; exact f, ?_⟩
      simp only [hdc, if_true]; exact .inl ⟨trivial, trivial⟩
    · simp only [hdc, if_false]
      rcases b d hd with x | ⟨i, hi, x1, x2, x3⟩
      · exact .inl x
      · refine .inr ⟨i, hi, x1, x2, ?_⟩
        have : i ≠ k := fun h => by rw [h, f, s_eq _ _ (by omega) (by omega)] at x2; exact hdc x2.symm
        simp only [this, if_false]; exact x3
theorem Jv.fre (h : Jv nS nC st wh nn is) (h1 : nS ≤ 20) (h2 : nC ≤ 12) {k : Nat} (f : wh k = -1) {v : Int32} (hv : v = 0 ∨ v = 3 ∨ v = 4) : Jv nS nC (va_up st k v) wh nn is := by
  obtain ⟨a, b⟩ := h
  unfold va_up
  refine ⟨fun i hi => ?_, fun d hd => ?_⟩
  · by_cases hik : i = k
    · simp only [hik, if_true]; exact .inl ⟨f, hv⟩
    · simp only [hik, if_false]; exact a i hi
  · rcases b d hd with x | ⟨i, hi, x1, x2, x3⟩
    · exact .inl x
    · refine .inr ⟨i, hi, x1, x2, ?_⟩
      have : i ≠ k := fun h => by rw [h, f] at x2; exact s_m1 d (by omega) x2.symm
      simp only [this, if_false]; exact x3
theorem Jv.eq {st' wh' nn' is' : Nat → Int32} (h : Jv nS nC st wh nn is) (e1 : ∀ i, i < nS → st' i = st i ∧ wh' i = wh i) (e2 : ∀ c, c < nC → nn' c = nn c ∧ is' c = is c) : Jv nS nC st' wh' nn' is' := by
  obtain ⟨a, b⟩ := h
  refine ⟨fun i hi => ?_, fun d hd => ?_⟩
  · rw [(e1 i hi).1, (e1 i hi).2]
    rcases a i hi with x | ⟨d, hd, x1, x2, x3⟩
    · exact .inl x
    · exact .inr ⟨d, hd, x1, by rw [(e2 d hd).1]; exact x2, x3⟩
  · rw [(e2 d hd).1, (e2 d hd).2]
    rcases b d hd with x | ⟨i, hi, x1, x2, x3⟩
    · exact .inl x
    · exact .inr ⟨i, hi, x1, by rw [(e1 i hi).2]; exact x2, by rw [(e1 i hi).1]; exact x3⟩
/-- the links of the row -/
def Jr (nS nC : Nat) (s : Nat → Int32) : Prop := Jv nS nC (fun i => s (90 + i)) (fun i => s (110 + i)) (fun c => s (178 + c)) (fun c => s (166 + c))
theorem Iv.jr {s : Nat → Int32} (h : Iv nS nC nH s) : Jr nS nC s := ⟨h.2.2.2.1, h.2.2.2.2⟩
theorem Iv.upd {s s' : Nat → Int32} (h : Iv nS nC nH s) (hJ : Jr nS nC s') (e0 : s' 0 = s 0 ∧ s' 1 = s 1 ∧ s' 3 = s 3 ∧ s' 4 = s 4) (eS : ∀ i, i < nS → s' (10 + i) = s (10 + i) ∧ s' (30 + i) = s (30 + i) ∧ s' (50 + i) = s (50 + i)) (eC : ∀ i, i < nC → (1 ≤ s' (130 + i) ∧ s' (130 + i) ≤ 40) ∧ (s' (226 + i) = 0 ∨ s' (226 + i) = 1 ∨ s' (226 + i) = 2) ∧ s' (154 + i) = s (154 + i) ∧ ix nC (s' (214 + i))) : Iv nS nC nH s' := by
  obtain ⟨⟨i1, i2, i3, i4, i5, i6, i7⟩, hS, hC, hO, hN⟩ := h
  obtain ⟨e0, e1, e3, e4⟩ := e0
  refine ⟨⟨i1, i2, i3, e0.trans i4, e1.trans i5, by rw [e3]; exact i6, by rw [e4]; exact i7⟩, fun i hi => ?_, fun c hc => ?_, hJ.1, hJ.2⟩
  · obtain ⟨a, b, c⟩ := eS i hi; rw [a, b, c]; exact hS i hi
  · obtain ⟨a, b, d, e⟩ := eC c hc
    refine ⟨a, ?_, b, by rw [d]; exact (hC c hc).2.2.2.1, e⟩
    rcases hJ.2 c hc with ⟨-, h⟩ | ⟨i, -, -, -, h⟩
    · exact .inr h
    · rcases h with ⟨h, -⟩ | ⟨h, -⟩
      · exact .inl h
      · exact .inr (.inl h)
end
end
section
/-! STAGE 2: walk, end; a crab goes into a shell; a shell is kept; a shell lies -/
theorem sta_self (σ : gm_S) (k i : Nat) {v : Int32} (h : ga σ k i = v) : gm_sta σ k i v = σ := by
  obtain ⟨f, g⟩ := σ
  unfold gm_sta
  have : va_up g k (va_up (g k) i v) = g := by
    funext k' j
    unfold va_up
    by_cases e : k' = k
    · subst e; by_cases e2 : j = i
      · subst e2; rw [if_pos rfl, if_pos rfl]; exact h.symm
      · rw [if_pos rfl, if_neg e2]
    · rw [if_neg e]
  show (f, va_up g k (va_up (g k) i v)) = (f, g)
  rw [this]
theorem sta_comm (σ : gm_S) (k i j : Nat) (v w : Int32) (h : i ≠ j) : gm_sta (gm_sta σ k i v) k j w = gm_sta (gm_sta σ k j w) k i v := by
  obtain ⟨f, g⟩ := σ
  unfold gm_sta
  refine congrArg (Prod.mk f) ?_
  funext k' x
  unfold va_up
  by_cases e : k' = k
  · subst e
    by_cases e2 : x = j
    · subst e2; simp [Ne.symm h]
    · by_cases e3 : x = i
      · subst e3; simp [h]
      · simp [e2, e3]
  · simp [e]
section
variable {bx : Nat} {sh cr hb : Nat → Nat} {nS nC nH : Nat} {C : xk_C} {σ : gm_S}
def tr (bx : Nat) (sh cr hb : Nat → Nat) (nS nC : Nat) (C : xk_C) (σ : gm_S) (C' : xk_C) (σ' : gm_S) : Prop := cA bx sh cr hb nS nC C' σ' ∧ (Fr oI oR (oE bx) C C' ∧ xk_n C' = xk_n C ∧ xk_s C' = xk_s C) ∧ Mf [] [1, 16, 19] σ σ'
theorem tr.trans {C1 C2 : xk_C} {σ1 σ2 : gm_S} (h : tr bx sh cr hb nS nC C σ C1 σ1) (h' : tr bx sh cr hb nS nC C1 σ1 C2 σ2) : tr bx sh cr hb nS nC C σ C2 σ2 := ⟨h'.1, ⟨h.2.1.1.trans h'.2.1.1, h'.2.1.2.1.trans h.2.1.2.1, h'.2.1.2.2.trans h.2.1.2.2⟩, h.2.2.trans h'.2.2⟩
/-- a shell becomes something -/
theorem become (hA : cA bx sh cr hb nS nC C σ) {k : Nat} (hk : k < nS) (v w : Int32) : ∃ C', fX4_become (sh k) C v (rf cr w) = some (C', ()) ∧ tr bx sh cr hb nS nC C σ C' (gm_sta (gm_sta σ 1 (90 + k) v) 1 (110 + k) w) ∧ (∀ f a, f ≠ 42 → xk_i C' f a = xk_i C f a) ∧ (∀ f a, f ≠ 43 → xk_r C' f a = xk_r C f a) ∧ (∀ a, xk_k C' a = xk_k C a) := by
  have k5 := hA.2.2.2.1.1 k hk
  unfold fX4_become
  simp only [ev_gi, ev_gr, ev_pi, ev_pr, ev_pz0, ev_pz1, ev_is, ev_ck, ev_ckn, ev_b, ev_10, if_true, if_false, false_and, and_false, true_and, and_true, reduceCtorEq, k_si, k_sr, k_se, k_sq, k5, h_5_37, h_5_38, h_5_39, h_5_40, h_5_41, h_5_42, h_5_43]
  exact ⟨_, rfl, ⟨wA43 (wA42 hA hk v) hk w, ⟨Fr.sr (Fr.si Fr.refl _ _ _ (.inl (by decide))) _ _ _ (.inl (by decide)) (by decide), rfl, rfl⟩, Mf.sta (Mf.sta Mf.refl _ _ _ (by decide)) _ _ _ (by decide)⟩, fun f a hf => by rw [i_sr, i_si, if_neg (fun h => hf h.1)], fun f a hf => by rw [r_sr, if_neg (fun h => hf h.1), r_si], fun a => rfl⟩
/-- a crab goes into a shell -/
theorem house (hA : cA bx sh cr hb nS nC C σ) {c k : Nat} (hc : c < nC) (hk : k < nS) : ∃ C' σ', fX5_houseIn (cr c) C (some (sh k)) = some (C', ()) ∧ fX3_goesIn σ (nI c) (nI k) = some σ' ∧ tr bx sh cr hb nS nC C σ C' σ' ∧ (∀ f a, f ≠ 42 → f ≠ 48 → xk_i C' f a = xk_i C f a) ∧ σ' = gm_sta (gm_sta (gm_sta (gm_sta (gm_sta σ 1 (166 + c) 0) 1 (178 + c) (nI k)) 1 (190 + c) 0) 1 (90 + k) 1) 1 (110 + k) (nI c) := by
  obtain ⟨hB, L1, L3, hS, hC, hBs, nS20, nC12⟩ := id hA
  have k5 := hS.1 k hk
  have k6 := hC.1 c hc
  have e1 : some (sh k) = rf sh (nI k) := (rf_s sh k (by omega)).symm
  have e2 : some (cr c) = rf cr (nI c) := (rf_s cr c (by omega)).symm
  have hA2 : cA bx sh cr hb nS nC (xk_si (xk_sr C 53 (cr c) (rf sh (nI k))) 48 (cr c) 0) (gm_sta (gm_sta (gm_sta σ 1 (166 + c) 0) 1 (178 + c) (nI k)) 1 (190 + c) 0) := wA48 (wA53 (wAis hA hc 0) hc (nI k)) hc 0
  obtain ⟨C', f, t, g, -⟩ := become hA2 hk 1 (nI c)
  refine ⟨C', _, ?_, ?_, ?_, ?_, rfl⟩
  · unfold fX5_houseIn
    rw [e1]
    simp only [ev_gi, ev_gr, ev_pi, ev_pr, ev_pz0, ev_pz1, ev_is, ev_ck, ev_ckn, ev_b, ev_10, if_true, if_false, false_and, and_false, true_and, and_true, reduceCtorEq, k_si, k_sr, k_se, k_sq, k6, h_6_44, h_6_45, h_6_46, h_6_47, h_6_48, h_6_49, h_6_50, h_6_51, h_6_52, h_6_53, h_6_54, h_6_55, h_6_56]
    rw [rf_s sh k (by omega)]
    simp only [ev_gi, ev_gr, ev_pi, ev_pr, ev_pz0, ev_pz1, ev_is, ev_ck, ev_ckn, ev_b, ev_10, if_true, if_false, false_and, and_false, true_and, and_true, reduceCtorEq, k_si, k_sr, k_se, k_sq, k5]
    rw [e2, e1, f]
    rfl
  · unfold fX3_goesIn
    simp only [m_wr1 _ _ c _ (by omega : 166 + c < 240), m_wr1 _ _ c _ (by omega : 178 + c < 240), m_wr1 _ _ c _ (by omega : 190 + c < 240), m_wr1 _ _ k _ (by omega : 90 + k < 240), m_wr1 _ _ k _ (by omega : 110 + k < 240), ev_b]
  · refine tr.trans (C1 := xk_si (xk_sr C 53 (cr c) (rf sh (nI k))) 48 (cr c) 0) ⟨hA2, ⟨Fr.si (Fr.sr Fr.refl _ _ _ (.inl (by decide)) (by decide)) _ _ _ (.inl (by decide)), rfl, rfl⟩, Mf.sta (Mf.sta (Mf.sta Mf.refl _ _ _ (by decide)) _ _ _ (by decide)) _ _ _ (by decide)⟩ t
  · intro f a h1 h2
    rw [g f a h1, i_si, if_neg (fun h => h2 h.1), i_sr]
/-- a shell is kept for a crab, or the crab is in it at once -/
theorem keep (hA : cA bx sh cr hb nS nC C σ) {c k : Nat} (hc : c < nC) (hk : k < nS) : ∃ C' σ', fX5_goTo (cr c) C (some (sh k)) = some (C', ()) ∧ fX3_keeps σ (nI c) (nI k) = some σ' ∧ tr bx sh cr hb nS nC C σ C' σ' ∧ (∀ f a, f ≠ 42 → f ≠ 48 → xk_i C' f a = xk_i C f a) ∧ σ' = if ga σ 1 3 = 0 then gm_sta (gm_sta (gm_sta (gm_sta (gm_sta σ 1 (166 + c) 0) 1 (178 + c) (nI k)) 1 (190 + c) 0) 1 (90 + k) 1) 1 (110 + k) (nI c) else gm_sta (gm_sta (gm_sta (gm_sta σ 1 (178 + c) (nI k)) 1 (190 + c) (ga σ 1 3)) 1 (90 + k) 2) 1 (110 + k) (nI c) := by
  obtain ⟨hB, L1, L3, hS, hC, hBs, nS20, nC12⟩ := id hA
  have k5 := hS.1 k hk
  have k6 := hC.1 c hc
  have e1 : some (sh k) = rf sh (nI k) := (rf_s sh k (by omega)).symm
  have e2 : some (cr c) = rf cr (nI c) := (rf_s cr c (by omega)).symm
  have r56 := hC.2.2.2.2.2.2.2.2.2.2 c hc
  have kB := hB.1.1
  have hM : xk_i C 5 bx = ga σ 1 3 := hBs.2.1
  unfold fX5_goTo fX3_keeps
  by_cases h0 : ga σ 1 3 = 0
  · obtain ⟨C', σ', f, g, t, x, e⟩ := house hA hc hk
    simp only [ev_gi, ev_gr, ev_pi, ev_pr, ev_pz0, ev_pz1, ev_is, ev_ck, ev_ckn, ev_b, ev_10, if_true, if_false, false_and, and_false, true_and, and_true, reduceCtorEq, k_si, k_sr, k_se, k_sq, k6, kB, h_6_44, h_6_45, h_6_46, h_6_47, h_6_48, h_6_49, h_6_50, h_6_51, h_6_52, h_6_53, h_6_54, h_6_55, h_6_56, h_1_0, h_1_1, h_1_2, h_1_3, h_1_4, h_1_5, h_1_6, h_1_7, h_1_8, h_1_9, h_1_10, h_1_11, h_1_12, h_1_13, h_1_14, h_1_15, h_1_16, h_1_17, h_1_18, h_1_19, h_1_20, h_1_21, h_1_22, h_1_23, h_1_24, h_1_25, h_1_26, r56, hM, h0, f, ev_r3, g]
    exact ⟨_, _, rfl, rfl, t, x, by rw [e]⟩
  · have hA2 : cA bx sh cr hb nS nC (xk_si (xk_sr C 53 (cr c) (rf sh (nI k))) 48 (cr c) (ga σ 1 3)) (gm_sta (gm_sta σ 1 (178 + c) (nI k)) 1 (190 + c) (ga σ 1 3)) := wA48 (wA53 hA hc (nI k)) hc (ga σ 1 3)
    obtain ⟨C', f, t, g, -⟩ := become hA2 hk 2 (nI c)
    refine ⟨C', gm_sta (gm_sta (gm_sta (gm_sta σ 1 (178 + c) (nI k)) 1 (190 + c) (ga σ 1 3)) 1 (90 + k) 2) 1 (110 + k) (nI c), ?_, ?_, ?_, ?_, ?_⟩
    · rw [e1]
      simp only [ev_gi, ev_gr, ev_pi, ev_pr, ev_pz0, ev_pz1, ev_is, ev_ck, ev_ckn, ev_b, ev_10, if_true, if_false, false_and, and_false, true_and, and_true, reduceCtorEq, k_si, k_sr, k_se, k_sq, k6, kB, h_6_44, h_6_45, h_6_46, h_6_47, h_6_48, h_6_49, h_6_50, h_6_51, h_6_52, h_6_53, h_6_54, h_6_55, h_6_56, h_1_0, h_1_1, h_1_2, h_1_3, h_1_4, h_1_5, h_1_6, h_1_7, h_1_8, h_1_9, h_1_10, h_1_11, h_1_12, h_1_13, h_1_14, h_1_15, h_1_16, h_1_17, h_1_18, h_1_19, h_1_20, h_1_21, h_1_22, h_1_23, h_1_24, h_1_25, h_1_26, r56, hM, h0, r_sr, i_sr, Nat.reduceEqDiff]
      rw [rf_s sh k (by omega)]
      simp only [ev_gi, ev_gr, ev_pi, ev_pr, ev_pz0, ev_pz1, ev_is, ev_ck, ev_ckn, ev_b, ev_10, if_true, if_false, false_and, and_false, true_and, and_true, reduceCtorEq, k_si, k_sr, k_se, k_sq, k5]
      rw [e2, e1, f]
      rfl
    · simp only [ev_r3, ev_b, h0, if_false, m_wr1 _ _ c _ (by omega : 178 + c < 240), gn σ (178 + c) (nI k) 3 (by omega), m_wr1 _ _ c _ (by omega : 190 + c < 240), m_wr1 _ _ k _ (by omega : 90 + k < 240), m_wr1 _ _ k _ (by omega : 110 + k < 240)]
    · exact tr.trans (C1 := xk_si (xk_sr C 53 (cr c) (rf sh (nI k))) 48 (cr c) (ga σ 1 3)) ⟨hA2, ⟨Fr.si (Fr.sr Fr.refl _ _ _ (.inl (by decide)) (by decide)) _ _ _ (.inl (by decide)), rfl, rfl⟩, Mf.sta (Mf.sta Mf.refl _ _ _ (by decide)) _ _ _ (by decide)⟩ t
    · intro f a h1 h2
      rw [g f a h1, i_si, if_neg (fun h => h2 h.1), i_sr]
    · rw [if_neg h0]
end
end
section
/-! STAGE 2: walk, end, eat -/
theorem gr (σ : gm_S) (b k : Nat) (v : Int32) (i : Nat) : ga (gm_sta σ 1 (b + k) v) 1 (b + i) = if i = k then v else ga σ 1 (b + i) := by
  rw [ga_sta]
  by_cases h : i = k
  · rw [if_pos ⟨rfl, by rw [h]⟩, if_pos h]
  · rw [if_neg (fun e => h (by omega)), if_neg h]
section
variable {bx : Nat} {sh cr hb : Nat → Nat} {nS nC nH : Nat} {C : xk_C} {σ : gm_S}
theorem op_walk (h : cR bx sh cr hb nS nC nH C σ) (a1 a2 : Int32) : ∃ C' σ' r, fX0_walk bx C a1 a2 = some (C', r) ∧ fX3_walk σ a1 a2 = some (σ', r) ∧ oC bx sh cr hb nS nC nH C σ C' σ' := by
  have hn := h.n12
  rcases s_rng nC (by omega) a1 with ⟨c, hc, rfl⟩ | hv
  · unfold fX0_walk fX3_walk fX0_walk_B55
    rw [isCrab_in h.v1 hn hc]
    simp only [ev_is _ _ _ h.kB, ev_b, crabAt_in h hc, cell_eq]
    rcases cell_ok a2 with e | e
    · rw [e]; exact ⟨_, _, _, rfl, rfl, oC.id h⟩
    · have h' := h
      have hA := h.1
      have hF := h.2.1
      have hI := h.2.2
      obtain ⟨⟨⟨⟨kB, nB, uB⟩, ⟨r0, r2, r3, r7, r8, r10, r11, r12, r13, r17, r18, r19, r23⟩, ⟨k1, k2, k3, k4, k5, k6, k7, k8, k14, k15, k16, k17, k18⟩, ⟨l2, l4, l5, l14, l15, l16, l17⟩⟩, L1, L3, ⟨S5, Sn, S37, S38, S39, S40, S41, S42, S43⟩, ⟨C6, Cn, C44, C46, C47, C48, C49, C53, C54, C55, C56⟩, ⟨B4, B5, B6, B7⟩, nS20, nC12⟩, ⟨F50, F51, F52⟩, ⟨⟨-, -, nH8, v0, v1, v3, v4⟩, vS, vC, vO, vN⟩⟩ := h
      simp only [e, ev_gi, ev_gr, ev_pi, ev_pr, ev_pz0, ev_pz1, ev_is, ev_ck, ev_ckn, ev_b, ev_10, if_true, if_false, false_and, and_false, true_and, and_true, reduceCtorEq, k_si, k_sr, k_se, k_sq, C6 c hc, h_6_44, h_6_45, h_6_46, h_6_47, h_6_48, h_6_49, h_6_50, h_6_51, h_6_52, h_6_53, h_6_54, h_6_55, h_6_56, F50 c hc, C46 c hc, m_rd1 σ _ c (by omega : 166 + c < 240), m_rd1 σ _ c (by omega : 142 + c < 240), m_wr1 σ _ c _ (by omega : 142 + c < 240), r_si, C53 c hc]
      by_cases h2 : ga σ 1 (166 + c) = 2
      · simp only [h2, if_true, ev_10, if_false]; exact ⟨_, _, _, rfl, rfl, oC.id h'⟩
      · simp only [h2, if_false, if_true]
        simp only [m_rd1 _ _ c (by omega : 178 + c < 240), gn σ (142 + c) a2 (178 + c) (by omega), ev_b]
        have hcF : ∀ C' σ', (∀ i, i < nC → xk_i C' 50 (cr i) = xk_i C 50 (cr i) ∧ xk_i C' 51 (cr i) = xk_i C 51 (cr i) ∧ xk_i C' 52 (cr i) = xk_i C 52 (cr i)) → (∀ p, p < 70 ∨ 90 ≤ p → p < 142 ∨ 154 ≤ p → ga σ' 1 p = ga σ 1 p) → cF cr nC C' σ' ∧ Iv nS nC nH (ga σ' 1) := fun C' σ' h1 h2 => by
          refine ⟨hF.same h1 (fun i hi => ⟨h2 _ (by omega) (by omega), h2 _ (by omega) (by omega)⟩), hI.same (h2 _ (by omega) (by omega)) (h2 _ (by omega) (by omega)) ?_ ?_ (fun i hi => ⟨h2 _ (by omega) (by omega), h2 _ (by omega) (by omega), h2 _ (by omega) (by omega), h2 _ (by omega) (by omega), h2 _ (by omega) (by omega)⟩) (fun i hi => ⟨h2 _ (by omega) (by omega), h2 _ (by omega) (by omega), h2 _ (by omega) (by omega), ?_, h2 _ (by omega) (by omega), ?_⟩)⟩
          · rw [h2 _ (by omega) (by omega)]; exact v3
          · rw [h2 _ (by omega) (by omega)]; exact v4
          · rw [h2 _ (by omega) (by omega)]; exact (vC i hi).2.2.2.1
          · rw [h2 _ (by omega) (by omega)]; exact (vC i hi).2.2.2.2
        rcases vN c hc with ⟨e3, -⟩ | ⟨i, hi, e3, -⟩
        · simp only [e3, rf_n, if_true]
          refine ⟨_, _, _, rfl, rfl, ⟨wA46 hA hc a2, ?_⟩, ⟨Fr.si Fr.refl _ _ _ (.inl (by decide)), rfl, rfl⟩, Mf.sta Mf.refl _ _ _ (by decide)⟩
          exact hcF _ _ (fun i hi => ⟨wi1 rfl (by decide), wi1 rfl (by decide), wi1 rfl (by decide)⟩) (fun p h1 h2 => gn _ _ _ _ (by omega))
        · simp only [e3, rf_s sh i (by omega : i < 2147483648), reduceCtorEq, if_false, s_m1 i (by omega : i < 2147483648), ev_gi, ev_gr, ev_pi, ev_pr, ev_pz0, ev_pz1, ev_is, ev_ck, ev_ckn, ev_b, ev_10, if_true, if_false, false_and, and_false, true_and, and_true, reduceCtorEq, k_si, k_sr, k_se, k_sq, S5 i hi, h_5_37, h_5_38, h_5_39, h_5_40, h_5_41, h_5_42, h_5_43, m_wr1 _ _ i _ (by omega : 70 + i < 240)]
          refine ⟨_, _, _, rfl, rfl, ⟨wA41 (wA46 hA hc a2) hi a2, ?_⟩, ⟨Fr.si (Fr.si Fr.refl _ _ _ (.inl (by decide))) _ _ _ (.inl (by decide)), rfl, rfl⟩, Mf.sta (Mf.sta Mf.refl _ _ _ (by decide)) _ _ _ (by decide)⟩
          exact hcF _ _ (fun i hi => ⟨wi1 (wi1 rfl (by decide)) (by decide), wi1 (wi1 rfl (by decide)) (by decide), wi1 (wi1 rfl (by decide)) (by decide)⟩) (fun p h1 h2 => by rw [gn _ _ _ _ (by omega), gn _ _ _ _ (by omega)])
  · unfold fX0_walk fX3_walk
    rw [isCrab_out h.v1 hn hv]
    simp only [ev_is _ _ _ h.kB, ev_b, crabAt_out h hv]
    exact ⟨_, _, _, rfl, rfl, oC.id h⟩
/-- a crab loses what it has -/
theorem lose (hA : cA bx sh cr hb nS nC C σ) {c : Nat} (hc : c < nC) (w : Int32) : ∃ C', fX5_lose (cr c) C = some (C', ()) ∧ tr bx sh cr hb nS nC C σ C' (gm_sta (gm_sta (gm_sta σ 1 (166 + c) w) 1 (178 + c) (-1)) 1 (190 + c) 0) ∧ (∀ f a, f ≠ 48 → xk_i C' f a = xk_i C f a) ∧ (∀ a, xk_k C' a = xk_k C a) := by
  have k6 := hA.2.2.2.2.1.1 c hc
  unfold fX5_lose
  simp only [ev_gi, ev_gr, ev_pi, ev_pr, ev_pz0, ev_pz1, ev_is, ev_ck, ev_ckn, ev_b, ev_10, if_true, if_false, false_and, and_false, true_and, and_true, reduceCtorEq, k_si, k_sr, k_se, k_sq, k6, h_6_44, h_6_45, h_6_46, h_6_47, h_6_48, h_6_49, h_6_50, h_6_51, h_6_52, h_6_53, h_6_54, h_6_55, h_6_56]
  exact ⟨_, rfl, ⟨wA48 (wA53 (wAis hA hc w) hc (-1)) hc 0, ⟨Fr.si (Fr.sr Fr.refl _ _ _ (.inl (by decide)) (by decide)) _ _ _ (.inl (by decide)), rfl, rfl⟩, Mf.sta (Mf.sta (Mf.sta Mf.refl _ _ _ (by decide)) _ _ _ (by decide)) _ _ _ (by decide)⟩, fun f a hf => by rw [i_si, if_neg (fun h => hf h.1), i_sr], fun a => rfl⟩
theorem op_end (h : cR bx sh cr hb nS nC nH C σ) (a1 a2 : Int32) : ∃ C' σ' r, fX0_end bx C a1 a2 = some (C', r) ∧ fX3_end σ a1 a2 = some (σ', r) ∧ oC bx sh cr hb nS nC nH C σ C' σ' := by
  have hn := h.n20
  rcases s_rng nS (by omega) a1 with ⟨i, hi, rfl⟩ | hv
  · unfold fX0_end fX3_end
    rw [isShell_in h.v0 hn hi]
    simp only [ev_is _ _ _ h.kB, ev_b, shellAt_in h hi, in_eq]
    rcases in_ok a2 0 2 with e | ⟨e, h1, h2⟩
    · rw [e]; exact ⟨_, _, _, rfl, rfl, oC.id h⟩
    · have h' := h
      have hA := h.1
      have hF := h.2.1
      have hI := h.2.2
      obtain ⟨⟨⟨⟨kB, nB, uB⟩, ⟨r0, r2, r3, r7, r8, r10, r11, r12, r13, r17, r18, r19, r23⟩, ⟨k1, k2, k3, k4, k5, k6, k7, k8, k14, k15, k16, k17, k18⟩, ⟨l2, l4, l5, l14, l15, l16, l17⟩⟩, L1, L3, ⟨S5, Sn, S37, S38, S39, S40, S41, S42, S43⟩, ⟨C6, Cn, C44, C46, C47, C48, C49, C53, C54, C55, C56⟩, ⟨B4, B5, B6, B7⟩, nS20, nC12⟩, ⟨F50, F51, F52⟩, ⟨⟨-, -, nH8, v0, v1, v3, v4⟩, vS, vC, vO, vN⟩⟩ := h
      simp only [e, ev_gi, ev_gr, ev_pi, ev_pr, ev_pz0, ev_pz1, ev_is, ev_ck, ev_ckn, ev_b, ev_10, if_true, if_false, false_and, and_false, true_and, and_true, reduceCtorEq, k_si, k_sr, k_se, k_sq, S5 i hi, h_5_37, h_5_38, h_5_39, h_5_40, h_5_41, h_5_42, h_5_43, S42 i hi, m_rd1 σ _ i (by omega : 90 + i < 240)]
      by_cases g4 : ga σ 1 (90 + i) = 4
      · simp only [g4, if_true]; exact ⟨_, _, _, rfl, rfl, oC.id h'⟩
      simp only [g4, if_false]
      -- the shell is nobody's
      have free : ∀ y, ga σ 1 (110 + i) = -1 → (y = 0 ∨ y = 3 ∨ y = 4) → ∃ C', fX4_become (sh i) C y none = some (C', ()) ∧ oC bx sh cr hb nS nC nH C σ C' (gm_sta σ 1 (90 + i) y) := by
        intro y hw hy
        obtain ⟨C', f, t, x, -⟩ := become hA hi y (-1)
        rw [sta_self _ 1 (110 + i) (by rw [gn _ _ _ _ (by omega), hw])] at t
        refine ⟨C', f, ⟨t.1, hF.same (fun j hj => ⟨x _ _ (by decide), x _ _ (by decide), x _ _ (by decide)⟩) (fun j hj => ⟨gn _ _ _ _ (by omega), gn _ _ _ _ (by omega)⟩), ?_⟩, t.2⟩
        refine hI.upd ((hI.jr.fre nS20 nC12 hw hy).eq (fun j hj => ⟨?_, ?_⟩) (fun d hd => ⟨?_, ?_⟩)) ⟨?_, ?_, ?_, ?_⟩ (fun j hj => ⟨?_, ?_, ?_⟩) (fun d hd => ⟨?_, ?_, ?_, ?_⟩)
        all_goals simp (disch := omega) only [gn, gr, va_up]
        · exact (vC d hd).1
        · exact (vC d hd).2.2.1
        · exact (vC d hd).2.2.2.2
      -- the shell is somebody's: it breaks
      have held : ∀ c, c < nC → ga σ 1 (110 + i) = nI c → ga σ 1 (178 + c) = nI i → ∃ C' C'', fX5_lose (cr c) C = some (C', ()) ∧ fX4_become (sh i) C' 4 none = some (C'', ()) ∧ xk_k C' (sh i) = 5 ∧ oC bx sh cr hb nS nC nH C σ C'' (gm_sta (gm_sta (gm_sta (gm_sta (gm_sta σ 1 (166 + c) 1) 1 (178 + c) (-1)) 1 (190 + c) 0) 1 (110 + i) (-1)) 1 (90 + i) 4) := by
        intro c hc hw hi2
        obtain ⟨C', f, t, x, kk⟩ := lose hA hc 1
        obtain ⟨C'', f2, t2, x2, -⟩ := become t.1 hi 4 (-1)
        rw [sta_comm _ 1 (90 + i) (110 + i) _ _ (by omega)] at t2
        refine ⟨C', C'', f, f2, by rw [kk]; exact S5 i hi, ⟨t2.1, ?_, ?_⟩, (tr.trans t t2).2⟩
        · have hIS : ga σ 1 (166 + c) ≠ 2 := by
            rcases vN c hc with ⟨e, -⟩ | ⟨j, hj, -, -, h | h⟩
            · rw [hi2] at e; exact absurd e (s_m1 i (by omega))
            · rw [h.1]; decide
            · rw [h.1]; decide
          refine ⟨fun d hd => ?_, fun d hd => ?_, fun d hd => ?_⟩
          · rw [x2 _ _ (by decide), x _ _ (by decide), F50 d hd]
            simp (disch := omega) only [gn, gr]
            by_cases hdc : d = c
            · subst hdc; simp [hIS]
            · simp [hdc]
          · rw [x2 _ _ (by decide), x _ _ (by decide), F51 d hd]
            simp (disch := omega) only [gn, gr]
          · rw [x2 _ _ (by decide), x _ _ (by decide), F52 d hd]
            simp (disch := omega) only [gn, gr]
        · refine hI.upd ((hI.jr.det nS20 nC12 hc hi hi2 (v := 4) (w := 1) (by decide) (by decide)).eq (fun j hj => ⟨?_, ?_⟩) (fun d hd => ⟨?_, ?_⟩)) ⟨?_, ?_, ?_, ?_⟩ (fun j hj => ⟨?_, ?_, ?_⟩) (fun d hd => ⟨?_, ?_, ?_, ?_⟩)
          all_goals simp (disch := omega) only [gn, gr, va_up]
          · exact (vC d hd).1
          · exact (vC d hd).2.2.1
          · exact (vC d hd).2.2.2.2
      -- whose it is
      have lies : (ga σ 1 (90 + i) = 0 ∨ ga σ 1 (90 + i) = 3) → ga σ 1 (110 + i) = -1 := by
        intro h
        rcases vO i hi with ⟨h1, -⟩ | ⟨c, hc, -, -, h2⟩
        · exact h1
        · exfalso; rcases h with h | h <;> rcases h2 with h2 | h2 <;> rw [h] at h2 <;> revert h2 <;> decide
      unfold fX0_end_B43 fX3_end_B43 fX0_end_B57 fX3_end_B56 fX0_end_B71 fX3_end_B113 fX3_end_B123 fX0_end_B90 fX3_end_B149
      simp only [ev_gi, ev_gr, ev_pi, ev_pr, ev_pz0, ev_pz1, ev_is, ev_ck, ev_ckn, ev_b, ev_10, if_true, if_false, false_and, and_false, true_and, and_true, reduceCtorEq, k_si, k_sr, k_se, k_sq, S5 i hi, h_5_37, h_5_38, h_5_39, h_5_40, h_5_41, h_5_42, h_5_43, S43 i hi]
      have hw90 : ∀ s' y, gm_wr s' 1 (nI 90 + nI i) y = some (gm_sta s' 1 (90 + i) y) := fun s' y => m_wr1 _ _ i _ (by omega)
      have hw110 : ∀ s' y, gm_wr s' 1 (nI 110 + nI i) y = some (gm_sta s' 1 (110 + i) y) := fun s' y => m_wr1 _ _ i _ (by omega)
      have hr110 : gm_rd σ 1 (nI 110 + nI i) = some (ga σ 1 (110 + i)) := m_rd1 _ _ i (by omega)
      simp only [hw90, hw110, hr110, ev_b]
      by_cases a0 : a2 = 0
      · subst a0
        simp only [show ¬ ((0 : Int32) = 1) from by decide, show ¬ ((0 : Int32) = 2) from by decide, if_false, if_true]
        rcases vO i hi with ⟨hw, -⟩ | ⟨c, hc, hw, hi2, -⟩
        · obtain ⟨C', f, o⟩ := free 4 hw (by decide)
          simp only [hw, rf_n, if_true, f, ev_b, S5 i hi, ev_is]
          refine ⟨_, _, _, rfl, rfl, ?_⟩
          rw [sta_self σ 1 (110 + i) hw]; exact o
        · obtain ⟨C', C'', f, f2, k5', o⟩ := held c hc hw hi2
          simp only [hw, rf_s cr c (by omega : c < 2147483648), reduceCtorEq, if_false, s_m1 c (by omega : c < 2147483648), ev_gi, ev_gr, ev_pi, ev_pr, ev_pz0, ev_pz1, ev_is, ev_ck, ev_ckn, ev_b, ev_10, if_true, if_false, false_and, and_false, true_and, and_true, reduceCtorEq, k_si, k_sr, k_se, k_sq, C6 c hc, f, f2, k5', m_wr1 _ _ c _ (by omega : 166 + c < 240), m_wr1 _ _ c _ (by omega : 178 + c < 240), m_wr1 _ _ c _ (by omega : 190 + c < 240)]
          exact ⟨_, _, _, rfl, rfl, o⟩
      · simp only [a0, if_false]
        by_cases a1 : a2 = 1
        · subst a1
          simp only [show ¬ ((1 : Int32) = 2) from by decide, if_false, if_true]
          by_cases g0 : ga σ 1 (90 + i) = 0
          · obtain ⟨C', f, o⟩ := free 3 (lies (.inl g0)) (by decide)
            simp only [g0, if_true, lies (.inl g0), rf_n, f, ev_b, S5 i hi, ev_is]
            exact ⟨_, _, _, rfl, rfl, o⟩
          · simp only [g0, if_false]; exact ⟨_, _, _, rfl, rfl, oC.id h'⟩
        · have a2' : a2 = 2 := by
            obtain ⟨j, hj, rfl⟩ := s_get (n := 3) (by omega) h1 (Int32.lt_of_le_of_lt h2 (by decide))
            have : j ≠ 0 := fun h => a0 (by rw [h]; rfl)
            have : j ≠ 1 := fun h => a1 (by rw [h]; rfl)
            have : j = 2 := by omega
            rw [this]; rfl
          subst a2'
          simp only [a1, if_false, if_true]
          by_cases g3 : ga σ 1 (90 + i) = 3
          · obtain ⟨C', f, o⟩ := free 0 (lies (.inr g3)) (by decide)
            simp only [g3, if_true, lies (.inr g3), rf_n, f, ev_b, S5 i hi, ev_is]
            exact ⟨_, _, _, rfl, rfl, o⟩
          · simp only [g3, if_false]; exact ⟨_, _, _, rfl, rfl, oC.id h'⟩
  · unfold fX0_end fX3_end
    rw [isShell_out h.v0 hn hv]
    simp only [ev_is _ _ _ h.kB, ev_b, shellAt_out h hv]
    exact ⟨_, _, _, rfl, rfl, oC.id h⟩
end
end
section
/-! STAGE 2: eat; rows for the two lists -/
section
variable {bx : Nat} {sh cr hb : Nat → Nat} {nS nC nH : Nat} {C : xk_C} {σ : gm_S}
theorem xr3 (h : cR bx sh cr hb nS nC nH C σ) : xk_gr C 3 (some bx) = some (some (bx + 3)) := by rw [g_r h.kB rfl, h.1.1.2.1.2.2.1]
theorem xi3 (h : cR bx sh cr hb nS nC nH C σ) : xk_is C 21 (some (bx + 3)) = some (bx + 3) := g_is h.1.1.2.2.1.2.2.1
theorem xs3 (h : cR bx sh cr hb nS nC nH C σ) : fJ2_size (bx + 3) C = some (nI nC) := h.1.2.2.1.size
theorem xg3 (h : cR bx sh cr hb nS nC nH C σ) {i : Nat} (hi : i < nC) : fJ2_get (bx + 3) C (nI i) = some (some (cr i)) := h.1.2.2.1.get hi
theorem xc6 (h : cR bx sh cr hb nS nC nH C σ) {i : Nat} (hi : i < nC) : xk_ck C 6 (some (cr i)) = some () := g_ck (h.1.2.2.2.2.1.1 i hi)
theorem xq6 (h : cR bx sh cr hb nS nC nH C σ) {i : Nat} (hi : i < nC) : xk_is C 6 (some (cr i)) = some (cr i) := g_is (h.1.2.2.2.2.1.1 i hi)
theorem xr0 (h : cR bx sh cr hb nS nC nH C σ) : xk_gr C 0 (some bx) = some (some (bx + 1)) := by rw [g_r h.kB rfl, h.1.1.2.1.1]
theorem xi0 (h : cR bx sh cr hb nS nC nH C σ) : xk_is C 21 (some (bx + 1)) = some (bx + 1) := g_is h.1.1.2.2.1.1
theorem xs0 (h : cR bx sh cr hb nS nC nH C σ) : fJ2_size (bx + 1) C = some (nI nS) := h.1.2.1.size
theorem xg0 (h : cR bx sh cr hb nS nC nH C σ) {i : Nat} (hi : i < nS) : fJ2_get (bx + 1) C (nI i) = some (some (sh i)) := h.1.2.1.get hi
theorem xc5 (h : cR bx sh cr hb nS nC nH C σ) {i : Nat} (hi : i < nS) : xk_ck C 5 (some (sh i)) = some () := g_ck (h.1.2.2.2.1.1 i hi)
theorem xq5 (h : cR bx sh cr hb nS nC nH C σ) {i : Nat} (hi : i < nS) : xk_is C 5 (some (sh i)) = some (sh i) := g_is (h.1.2.2.2.1.1 i hi)
theorem x46 (h : cR bx sh cr hb nS nC nH C σ) {i : Nat} (hi : i < nC) : xk_gi C 46 (some (cr i)) = some (ga σ 1 (142 + i)) := by rw [g_i (h.1.2.2.2.2.1.1 i hi) rfl, h.1.2.2.2.2.1.2.2.2.1 i hi]
theorem x47 (h : cR bx sh cr hb nS nC nH C σ) {i : Nat} (hi : i < nC) : xk_gi C 47 (some (cr i)) = some (ga σ 1 (130 + i)) := by rw [g_i (h.1.2.2.2.2.1.1 i hi) rfl, h.1.2.2.2.2.1.2.2.2.2.1 i hi]
theorem x48 (h : cR bx sh cr hb nS nC nH C σ) {i : Nat} (hi : i < nC) : xk_gi C 48 (some (cr i)) = some (ga σ 1 (190 + i)) := by rw [g_i (h.1.2.2.2.2.1.1 i hi) rfl, h.1.2.2.2.2.1.2.2.2.2.2.1 i hi]
theorem x49 (h : cR bx sh cr hb nS nC nH C σ) {i : Nat} (hi : i < nC) : xk_gi C 49 (some (cr i)) = some (ga σ 1 (202 + i)) := by rw [g_i (h.1.2.2.2.2.1.1 i hi) rfl, h.1.2.2.2.2.1.2.2.2.2.2.2.1 i hi]
theorem x53 (h : cR bx sh cr hb nS nC nH C σ) {i : Nat} (hi : i < nC) : xk_gr C 53 (some (cr i)) = some (rf sh (ga σ 1 (178 + i))) := by rw [g_r (h.1.2.2.2.2.1.1 i hi) rfl, h.1.2.2.2.2.1.2.2.2.2.2.2.2.1 i hi]
theorem x54 (h : cR bx sh cr hb nS nC nH C σ) {i : Nat} (hi : i < nC) : xk_gr C 54 (some (cr i)) = some (rf cr (ga σ 1 (214 + i))) := by rw [g_r (h.1.2.2.2.2.1.1 i hi) rfl, h.1.2.2.2.2.1.2.2.2.2.2.2.2.2.1 i hi]
theorem x55 (h : cR bx sh cr hb nS nC nH C σ) {i : Nat} (hi : i < nC) : xk_gr C 55 (some (cr i)) = some (rf hb (ga σ 1 (154 + i))) := by rw [g_r (h.1.2.2.2.2.1.1 i hi) rfl, h.1.2.2.2.2.1.2.2.2.2.2.2.2.2.2.1 i hi]
theorem x56 (h : cR bx sh cr hb nS nC nH C σ) {i : Nat} (hi : i < nC) : xk_gr C 56 (some (cr i)) = some (some bx) := by rw [g_r (h.1.2.2.2.2.1.1 i hi) rfl, h.1.2.2.2.2.1.2.2.2.2.2.2.2.2.2.2 i hi]
theorem x44 (h : cR bx sh cr hb nS nC nH C σ) {i : Nat} (hi : i < nC) : xk_gi C 44 (some (cr i)) = some (nI i) := by rw [g_i (h.1.2.2.2.2.1.1 i hi) rfl, h.1.2.2.2.2.1.2.2.1 i hi]
theorem x50 (h : cR bx sh cr hb nS nC nH C σ) {i : Nat} (hi : i < nC) : xk_gi C 50 (some (cr i)) = some (if ga σ 1 (166 + i) = 2 then 1 else 0) := by rw [g_i (h.1.2.2.2.2.1.1 i hi) rfl, h.2.1.1 i hi]
theorem x51 (h : cR bx sh cr hb nS nC nH C σ) {i : Nat} (hi : i < nC) : xk_gi C 51 (some (cr i)) = some (if ga σ 1 (226 + i) = 1 then 1 else 0) := by rw [g_i (h.1.2.2.2.2.1.1 i hi) rfl, h.2.1.2.1 i hi]
theorem x52 (h : cR bx sh cr hb nS nC nH C σ) {i : Nat} (hi : i < nC) : xk_gi C 52 (some (cr i)) = some (if ga σ 1 (226 + i) = 2 then 1 else 0) := by rw [g_i (h.1.2.2.2.2.1.1 i hi) rfl, h.2.1.2.2 i hi]
theorem x37 (h : cR bx sh cr hb nS nC nH C σ) {i : Nat} (hi : i < nS) : xk_gi C 37 (some (sh i)) = some (nI i) := by rw [g_i (h.1.2.2.2.1.1 i hi) rfl, h.1.2.2.2.1.2.2.1 i hi]
theorem x41 (h : cR bx sh cr hb nS nC nH C σ) {i : Nat} (hi : i < nS) : xk_gi C 41 (some (sh i)) = some (ga σ 1 (70 + i)) := by rw [g_i (h.1.2.2.2.1.1 i hi) rfl, h.1.2.2.2.1.2.2.2.2.2.2.1 i hi]
theorem x42 (h : cR bx sh cr hb nS nC nH C σ) {i : Nat} (hi : i < nS) : xk_gi C 42 (some (sh i)) = some (ga σ 1 (90 + i)) := by rw [g_i (h.1.2.2.2.1.1 i hi) rfl, h.1.2.2.2.1.2.2.2.2.2.2.2.1 i hi]
theorem x43 (h : cR bx sh cr hb nS nC nH C σ) {i : Nat} (hi : i < nS) : xk_gr C 43 (some (sh i)) = some (rf cr (ga σ 1 (110 + i))) := by rw [g_r (h.1.2.2.2.1.1 i hi) rfl, h.1.2.2.2.1.2.2.2.2.2.2.2.2 i hi]
/-- both loops' heads -/
theorem lp_go {i n : Nat} (hi : i < n) (hn : n ≤ 1000) : ¬ (nI n ≤ nI i) := by rw [s_le _ _ (by omega) (by omega)]; omega
theorem lp_end (n : Nat) : nI n ≤ nI n := Int32.le_refl _
theorem bare_x (h : cR bx sh cr hb nS nC nH C σ) {i : Nat} (hi : i < nC) : fX5_isBare (cr i) C = some (if ga σ 1 (166 + i) = 1 then 1 else 0) := by
  unfold fX5_isBare
  simp only [xg3 h hi, xc6 h hi, xq6 h hi, x44 h hi, x46 h hi, x47 h hi, x48 h hi, x49 h hi, x50 h hi, x51 h hi, x52 h hi, x53 h hi, x54 h hi, x55 h hi, x56 h hi, hs_x h hi, ow_x h hi, ev_b]
  rcases (h.2.2.2.2.1 i hi).2.1 with e | e | e
  · simp only [hs_1 e, e]; rfl
  · simp only [hs_0 (show ¬ ga σ 1 (166 + i) = 0 by rw [e]; decide), e]; rfl
  · simp only [e]; rfl
/-- a bare crab is eaten -/
theorem eat1 (h : cR bx sh cr hb nS nC nH C σ) {c : Nat} (hc : c < nC) (e1 : ga σ 1 (166 + c) = 1) : ∃ C0 C1 C2 σ0 σ2,
    (if rf sh (ga σ 1 (178 + c)) = none then some (C, ()) else (xk_is C 5 (rf sh (ga σ 1 (178 + c)))).bind fun b => fX4_become b C 0 none) = some (C0, ()) ∧ xk_is C0 6 (some (cr c)) = some (cr c) ∧ fX5_lose (cr c) C0 = some (C1, ()) ∧ xk_pz C1 50 (some (cr c)) 1 = some C2 ∧
    (if ga σ 1 (178 + c) = -1 then some σ else fX3_lies σ (ga σ 1 (178 + c))) = some σ0 ∧ σ2 = gm_sta (gm_sta (gm_sta σ0 1 (166 + c) 2) 1 (178 + c) (-1)) 1 (190 + c) 0 ∧ oC bx sh cr hb nS nC nH C σ C2 σ2 := by
  have hA := h.1
  have hF := h.2.1
  have hI := h.2.2
  obtain ⟨⟨⟨⟨kB, nB, uB⟩, ⟨r0, r2, r3, r7, r8, r10, r11, r12, r13, r17, r18, r19, r23⟩, ⟨k1, k2, k3, k4, k5, k6, k7, k8, k14, k15, k16, k17, k18⟩, ⟨l2, l4, l5, l14, l15, l16, l17⟩⟩, L1, L3, ⟨S5, Sn, S37, S38, S39, S40, S41, S42, S43⟩, ⟨C6, Cn, C44, C46, C47, C48, C49, C53, C54, C55, C56⟩, ⟨B4, B5, B6, B7⟩, nS20, nC12⟩, ⟨F50, F51, F52⟩, ⟨⟨-, -, nH8, v0, v1, v3, v4⟩, vS, vC, vO, vN⟩⟩ := h
  rcases vN c hc with ⟨e3, -⟩ | ⟨i, hi, e3, e4, -⟩
  · rw [e3, rf_n, if_pos rfl, if_pos rfl]
    obtain ⟨C1, f, t, x, kk⟩ := lose hA hc 2
    refine ⟨C, C1, _, σ, _, rfl, g_is (C6 c hc), f, p_z (k := 6) (by rw [kk]; exact C6 c hc) rfl (.inr rfl), rfl, rfl, ⟨wA50 t.1 (cr c) 1, ⟨fun d hd => ?_, fun d hd => ?_, fun d hd => ?_⟩, ?_⟩, ⟨Fr.si t.2.1.1 _ _ _ (.inl (by decide)), t.2.1.2.1, t.2.1.2.2⟩, t.2.2⟩
    · rw [i_si]
      simp (disch := omega) only [gn, gr]
      by_cases hdc : d = c
      · subst hdc; simp
      · rw [if_neg (fun e => hdc (hA.2.2.2.2.1.inj nC12 hd hc e.2)), x _ _ (by decide), F50 d hd]; simp only [hdc, if_false]
    · rw [i_si, if_neg (fun e => absurd e.1 (by decide)), x _ _ (by decide), F51 d hd]
      simp (disch := omega) only [gn, gr]
    · rw [i_si, if_neg (fun e => absurd e.1 (by decide)), x _ _ (by decide), F52 d hd]
      simp (disch := omega) only [gn, gr]
    · refine hI.upd ((hI.jr.det0 e3 (w := 2) (by decide)).eq (fun j hj => ⟨?_, ?_⟩) (fun d hd => ⟨?_, ?_⟩)) ⟨?_, ?_, ?_, ?_⟩ (fun j hj => ⟨?_, ?_, ?_⟩) (fun d hd => ⟨?_, ?_, ?_, ?_⟩)
      all_goals simp (disch := omega) only [gn, gr, va_up]
      · by_cases hdc : d = c
        · simp only [hdc, if_true]; exact e3.symm
        · simp only [hdc, if_false]
      · exact (vC d hd).1
      · exact (vC d hd).2.2.1
      · exact (vC d hd).2.2.2.2
  · rw [e3, rf_s sh i (by omega), if_neg (by simp), if_neg (s_m1 i (by omega)), g_is (S5 i hi)]
    obtain ⟨C0, f0, t0, x0, -, kk0⟩ := become hA hi 0 (-1)
    obtain ⟨C1, f, t, x, kk⟩ := lose t0.1 hc 2
    have tt := tr.trans t0 t
    refine ⟨C0, C1, _, _, _, f0, g_is (by rw [kk0]; exact C6 c hc), f, p_z (k := 6) (by rw [kk, kk0]; exact C6 c hc) rfl (.inr rfl), ?_, rfl, ⟨wA50 t.1 (cr c) 1, ⟨fun d hd => ?_, fun d hd => ?_, fun d hd => ?_⟩, ?_⟩, ⟨Fr.si tt.2.1.1 _ _ _ (.inl (by decide)), tt.2.1.2.1, tt.2.1.2.2⟩, tt.2.2⟩
    · unfold fX3_lies
      simp only [m_wr1 _ _ i _ (by omega : 90 + i < 240), m_wr1 _ _ i _ (by omega : 110 + i < 240), ev_b]
    · rw [i_si]
      simp (disch := omega) only [gn, gr]
      by_cases hdc : d = c
      · subst hdc; simp
      · rw [if_neg (fun e => hdc (hA.2.2.2.2.1.inj nC12 hd hc e.2)), x _ _ (by decide), x0 _ _ (by decide), F50 d hd]; simp only [hdc, if_false]
    · rw [i_si, if_neg (fun e => absurd e.1 (by decide)), x _ _ (by decide), x0 _ _ (by decide), F51 d hd]
      simp (disch := omega) only [gn, gr]
    · rw [i_si, if_neg (fun e => absurd e.1 (by decide)), x _ _ (by decide), x0 _ _ (by decide), F52 d hd]
      simp (disch := omega) only [gn, gr]
    · refine hI.upd ((hI.jr.det nS20 nC12 hc hi e3 (v := 0) (w := 2) (by decide) (by decide)).eq (fun j hj => ⟨?_, ?_⟩) (fun d hd => ⟨?_, ?_⟩)) ⟨?_, ?_, ?_, ?_⟩ (fun j hj => ⟨?_, ?_, ?_⟩) (fun d hd => ⟨?_, ?_, ?_, ?_⟩)
      all_goals simp (disch := omega) only [gn, gr, va_up]
      · exact (vC d hd).1
      · exact (vC d hd).2.2.1
      · exact (vC d hd).2.2.2.2
theorem eat_l (N : Nat) (cell : Int32) : ∀ d k i (n : Int32) (C : xk_C) (σ : gm_S), i + d = nC → d < k → cR bx sh cr hb nS nC nH C σ → ∃ C' σ' r, fX0_eat_L13 N bx k C cell n (nI i) = some (C', r) ∧ fX3_eat_L13 N k σ cell n (nI i) = some (σ', r) ∧ oC bx sh cr hb nS nC nH C σ C' σ' := by
  intro d
  induction d with
  | zero =>
    intro k i n C σ hid hk h
    obtain ⟨k, rfl⟩ : ∃ k', k = k' + 1 := ⟨k - 1, by omega⟩
    have : i = nC := by omega
    subst this
    refine ⟨C, σ, n, ?_, ?_, oC.id h⟩
    · unfold fX0_eat_L13; simp only [xr3 h, xi3 h, xs3 h, xr0 h, xi0 h, xs0 h, ev_b, lp_end, if_true]
    · unfold fX3_eat_L13; simp only [ev_r1, h.v1, ev_b, lp_end, if_true]
  | succ d ih =>
    intro k i n C σ hid hk h
    obtain ⟨k, rfl⟩ : ∃ k', k = k' + 1 := ⟨k - 1, by omega⟩
    have hi : i < nC := by omega
    have hn := h.n12
    unfold fX0_eat_L13 fX3_eat_L13 fX0_eat_B75 fX3_eat_B79 fX0_eat_B89 fX3_eat_B115
    simp only [xr3 h, xi3 h, xs3 h, xr0 h, xi0 h, xs0 h, xg3 h hi, xc6 h hi, xq6 h hi, ev_b, bare_x h hi, x46 h hi, x53 h hi, ev_r1, h.v1, lp_go hi (by omega : nC ≤ 1000), if_false, m_rd1 σ _ i (by omega : 166 + i < 240), m_rd1 σ _ i (by omega : 142 + i < 240), m_rd1 σ _ i (by omega : 178 + i < 240), s_a1]
    have step : ∀ n' C1 σ1, oC bx sh cr hb nS nC nH C σ C1 σ1 → ∃ C' σ' r, fX0_eat_L13 N bx k C1 cell n' (nI (i + 1)) = some (C', r) ∧ fX3_eat_L13 N k σ1 cell n' (nI (i + 1)) = some (σ', r) ∧ oC bx sh cr hb nS nC nH C σ C' σ' := fun n' C1 σ1 o => by
      obtain ⟨C', σ', r, f1, f2, o2⟩ := ih k (i + 1) n' C1 σ1 (by omega) (by omega) o.1
      exact ⟨C', σ', r, f1, f2, o.trans o2⟩
    by_cases e1 : ga σ 1 (166 + i) = 1
    · simp only [e1, if_true, ev_10, if_false]
      by_cases e2 : ga σ 1 (142 + i) = cell
      · simp only [e2, if_true]
        obtain ⟨C0, C1, C2, σ0, σ2, g0, g1, g2, g3, g4, g5, o⟩ := eat1 h hi e1
        by_cases e3 : ga σ 1 (178 + i) = -1
        · simp only [e3, rf_n, if_true] at g0 g4 ⊢
          cases g0; cases g4
          simp only [g1, ev_b, g2, g3, m_wr1 _ _ i _ (by omega : 166 + i < 240), m_wr1 _ _ i _ (by omega : 178 + i < 240), m_wr1 _ _ i _ (by omega : 190 + i < 240)]
          rw [← g5]
          exact step (n + 1) C2 σ2 o
        · have e4 : ¬ rf sh (ga σ 1 (178 + i)) = none := by unfold rf; rw [if_neg e3]; simp
          rw [if_neg e4] at g0
          rw [if_neg e3] at g4
          simp only [e3, e4, if_false, g4, ev_b]
          cases hb5 : xk_is C 5 (rf sh (ga σ 1 (178 + i))) with
          | none => rw [hb5] at g0; cases g0
          | some b5 =>
            rw [hb5, ev_b] at g0
            simp only [ev_b, g0, g1, g2, g3, m_wr1 _ _ i _ (by omega : 166 + i < 240), m_wr1 _ _ i _ (by omega : 178 + i < 240), m_wr1 _ _ i _ (by omega : 190 + i < 240)]
            rw [← g5]
            exact step (n + 1) C2 σ2 o
      · simp only [e2, if_false]; exact step n C σ (oC.id h)
    · simp only [e1, if_false, if_true]; exact step n C σ (oC.id h)
theorem op_eat {N : Nat} (hN : 100 ≤ N) (h : cR bx sh cr hb nS nC nH C σ) (a1 : Int32) : ∃ C' σ' r, fX0_eat N bx C a1 = some (C', r) ∧ fX3_eat N σ a1 = some (σ', r) ∧ oC bx sh cr hb nS nC nH C σ C' σ' := by
  unfold fX0_eat fX3_eat
  rw [cell_eq]
  rcases cell_ok a1 with e | e
  · rw [e]; exact ⟨_, _, _, rfl, rfl, oC.id h⟩
  · rw [e]
    simp only [ev_b, ev_10, if_false]
    exact eat_l N a1 nC N 0 0 C σ (by omega) (by have := h.n12; omega) h
end
end
section
/-! STAGE 2: points, pairs, counts -/
section
variable {bx : Nat} {sh cr hb : Nat → Nat} {nS nC nH : Nat} {C : xk_C} {σ : gm_S}
theorem hs_ne {c : Nat} (h : ga σ 1 (166 + c) = 0) : ¬ hs σ c = 0 := by rw [hs_1 h]; decide
theorem hsd (h : Iv nS nC nH (ga σ 1)) {c : Nat} (hc : c < nC) (e : ga σ 1 (166 + c) = 0) : ∃ i, i < nS ∧ ga σ 1 (178 + c) = nI i ∧ ow σ c = fs σ i (ga σ 1 (130 + c)) ∧ (1 ≤ ga σ 1 (130 + c) ∧ ga σ 1 (130 + c) ≤ 40) := by
  obtain ⟨⟨h1, h2, -⟩, -, hC, -, hN⟩ := h
  rcases hN c hc with ⟨-, h1 | h1⟩ | ⟨i, hi, e2, -⟩
  · rw [h1] at e; exact absurd e (by decide)
  · rw [h1] at e; exact absurd e (by decide)
  · refine ⟨i, hi, e2, ?_, (hC c hc).1⟩
    unfold ow; rw [if_pos e, e2, s_tn i (by omega)]
theorem points_l (N : Nat) (h : cR bx sh cr hb nS nC nH C σ) : ∀ d k i (n : Int32), i + d = nC → d < k → ∃ r, fX0_points_L4 N bx C k n (nI i) = some r ∧ fX3_points_L4 N σ k n (nI i) = some r := by
  intro d
  have hn := h.n12
  induction d with
  | zero =>
    intro k i n hid hk
    obtain ⟨k, rfl⟩ : ∃ k', k = k' + 1 := ⟨k - 1, by omega⟩
    have : i = nC := by omega
    subst this
    refine ⟨n, ?_, ?_⟩
    · unfold fX0_points_L4; simp only [xr3 h, xi3 h, xs3 h, xr0 h, xi0 h, xs0 h, ev_b, lp_end, if_true]
    · unfold fX3_points_L4; simp only [ev_r1, h.v1, ev_b, lp_end, if_true]
  | succ d ih =>
    intro k i n hid hk
    obtain ⟨k, rfl⟩ : ∃ k', k = k' + 1 := ⟨k - 1, by omega⟩
    have hi : i < nC := by omega
    unfold fX0_points_L4 fX3_points_L4 fX0_points_B51 fX3_points_B32
    simp only [xr3 h, xi3 h, xs3 h, xr0 h, xi0 h, xs0 h, xg3 h hi, xc6 h hi, xq6 h hi, x44 h hi, x46 h hi, x47 h hi, x48 h hi, x49 h hi, x50 h hi, x51 h hi, x52 h hi, x53 h hi, x54 h hi, x55 h hi, x56 h hi, hs_x h hi, ow_x h hi, ev_b, ev_r1, h.v1, lp_go hi (by omega : nC ≤ 1000), if_false, hs_m σ (by omega : i < 12), ow_m h.2.2 hi, s_a1]
    by_cases e : hs σ i = 0
    · simp only [e, if_true]; exact ih k (i + 1) _ (by omega) (by omega)
    · simp only [e, if_false]; exact ih k (i + 1) _ (by omega) (by omega)
theorem op_points {N : Nat} (hN : 100 ≤ N) (h : cR bx sh cr hb nS nC nH C σ) : ∃ r, fX0_points N bx C = some r ∧ fX3_points N σ = some r :=
  points_l N h nC N 0 0 (by omega) (by have := h.n12; omega)
theorem wouldBoth_x (h : cR bx sh cr hb nS nC nH C σ) {c d : Nat} (hc : c < nC) (hd : d < nC) {i j : Nat} (hi : i < nS) (hj : j < nS) : fX0_wouldBoth C (some (cr c)) (some (sh i)) (some (cr d)) (some (sh j)) = some (if fs σ j (ga σ 1 (130 + c)) ≤ fs σ i (ga σ 1 (130 + c)) then 0 else if fs σ i (ga σ 1 (130 + d)) ≤ fs σ j (ga σ 1 (130 + d)) then 0 else 1) := by
  unfold fX0_wouldBoth
  simp only [x47 h hc, x47 h hd, xq5 h hi, xq5 h hj, fs_x h hi, fs_x h hj, ev_b]
  split
  · rfl
  · split <;> rfl
theorem pairs_in (N : Nat) (h : cR bx sh cr hb nS nC nH C σ) {a : Nat} (ha : a < nC) (Kx Km : Int32 → Int32 → Option Int32) (hK : ∀ n, ∃ r, Kx n (nI (a + 1)) = some r ∧ Km n (nI (a + 1)) = some r) : ∀ d k b (n : Int32), b + d = a → d < k → ∃ r, fX0_pairs_L17 N bx C Kx k n (nI a) (nI b) = some r ∧ fX3_pairs_L16 N σ Km k n (nI a) (nI b) = some r := by
  intro d
  have hn := h.n12
  have hn2 := h.n20
  induction d with
  | zero =>
    intro k b n hid hk
    obtain ⟨k, rfl⟩ : ∃ k', k = k' + 1 := ⟨k - 1, by omega⟩
    have : b = a := by omega
    subst this
    obtain ⟨r, h1, h2⟩ := hK n
    refine ⟨r, ?_, ?_⟩
    · unfold fX0_pairs_L17; simp only [lp_end, if_true, s_a1, h1]
    · unfold fX3_pairs_L16; simp only [lp_end, if_true, s_a1, h2]
  | succ d ih =>
    intro k b n hid hk
    obtain ⟨k, rfl⟩ : ∃ k', k = k' + 1 := ⟨k - 1, by omega⟩
    have hb : b < nC := by omega
    unfold fX0_pairs_L17 fX3_pairs_L16 fX3_pairs_B41 fX3_pairs_B42 fX3_pairs_B118 fX0_pairs_B115 fX3_pairs_B119
    simp only [xr3 h, xi3 h, xs3 h, xr0 h, xi0 h, xs0 h, xg3 h ha, xc6 h ha, xq6 h ha, xg3 h hb, xc6 h hb, xq6 h hb, hs_x h ha, hs_x h hb, x53 h ha, x53 h hb, ev_b, lp_go (show b < a by omega) (by omega : a ≤ 1000), if_false, hs_m σ (by omega : a < 12), hs_m σ (by omega : b < 12), m_rd1 σ _ a (by omega : 178 + a < 240), m_rd1 σ _ b (by omega : 178 + b < 240), m_rd1 σ _ a (by omega : 130 + a < 240), m_rd1 σ _ b (by omega : 130 + b < 240), ow_m h.2.2 ha, ow_m h.2.2 hb, s_a1]
    have z0 : ∀ n : Int32, n + 0 = n := fun n => Int32.add_zero n
    by_cases e : ga σ 1 (166 + a) = 0
    · by_cases f : ga σ 1 (166 + b) = 0
      · obtain ⟨i, hi, i1, i2, i3⟩ := hsd h.2.2 ha e
        obtain ⟨j, hj, j1, j2, j3⟩ := hsd h.2.2 hb f
        simp only [hs_1 e, hs_1 f, ev_10, if_false, i1, j1, rf_s sh i (by omega : i < 2147483648), rf_s sh j (by omega : j < 2147483648), wouldBoth_x h ha hb hi hj, fs_m h.2.2 hj i3, fs_m h.2.2 hi j3, i2, j2, ev_b, show ((0 : Int32) = 0) = True from eq_self _, if_true]
        by_cases c1 : fs σ j (ga σ 1 (130 + a)) ≤ fs σ i (ga σ 1 (130 + a))
        · simp only [c1, if_true, z0]; exact ih k (b + 1) _ (by omega) (by omega)
        · by_cases c2 : fs σ i (ga σ 1 (130 + b)) ≤ fs σ j (ga σ 1 (130 + b))
          · simp only [c1, c2, if_true, if_false, z0]; exact ih k (b + 1) _ (by omega) (by omega)
          · simp only [c1, c2, if_false, ev_10]; exact ih k (b + 1) _ (by omega) (by omega)
      · simp only [hs_1 e, hs_0 f, ev_10, if_false, if_true, z0]; exact ih k (b + 1) _ (by omega) (by omega)
    · simp only [hs_0 e, if_true, z0]; exact ih k (b + 1) _ (by omega) (by omega)
theorem pairs_l (N : Nat) (hN : 100 ≤ N) (h : cR bx sh cr hb nS nC nH C σ) : ∀ d k i (n : Int32), i + d = nC → d < k → ∃ r, fX0_pairs_L4 N bx C k n (nI i) = some r ∧ fX3_pairs_L4 N σ k n (nI i) = some r := by
  intro d
  have hn := h.n12
  induction d with
  | zero =>
    intro k i n hid hk
    obtain ⟨k, rfl⟩ : ∃ k', k = k' + 1 := ⟨k - 1, by omega⟩
    have : i = nC := by omega
    subst this
    refine ⟨n, ?_, ?_⟩
    · unfold fX0_pairs_L4; simp only [xr3 h, xi3 h, xs3 h, xr0 h, xi0 h, xs0 h, ev_b, lp_end, if_true]
    · unfold fX3_pairs_L4; simp only [ev_r1, h.v1, ev_b, lp_end, if_true]
  | succ d ih =>
    intro k i n hid hk
    obtain ⟨k, rfl⟩ : ∃ k', k = k' + 1 := ⟨k - 1, by omega⟩
    have hi : i < nC := by omega
    unfold fX0_pairs_L4 fX3_pairs_L4
    simp only [xr3 h, xi3 h, xs3 h, xr0 h, xi0 h, xs0 h, ev_b, ev_r1, h.v1, lp_go hi (by omega : nC ≤ 1000), if_false]
    exact pairs_in N h hi _ _ (fun n => ih k (i + 1) n (by omega) (by omega)) i N 0 n (by omega) (by omega)
theorem op_pairs {N : Nat} (hN : 100 ≤ N) (h : cR bx sh cr hb nS nC nH C σ) : ∃ r, fX0_pairs N bx C = some r ∧ fX3_pairs N σ = some r :=
  pairs_l N hN h nC N 0 0 (by omega) (by have := h.n12; omega)
/-! counts -/
theorem cnt_l (N : Nat) (h : cR bx sh cr hb nS nC nH C σ) (w : Int32) (Lx : Nat → Int32 → Int32 → Option Int32)
    (hE : ∀ k n, Lx (k + 1) n (nI nC) = some n)
    (hG : ∀ k n i, i < nC → Lx (k + 1) n (nI i) = Lx k (n + (if ga σ 1 (166 + i) = w then 1 else 0)) (nI (i + 1))) : ∀ d k i (n : Int32), i + d = nC → d < k → ∃ r, Lx k n (nI i) = some r ∧ fX3_counted_L4 N σ k w n (nI i) = some r := by
  intro d
  have hn := h.n12
  induction d with
  | zero =>
    intro k i n hid hk
    obtain ⟨k, rfl⟩ : ∃ k', k = k' + 1 := ⟨k - 1, by omega⟩
    have : i = nC := by omega
    subst this
    refine ⟨n, hE k n, ?_⟩
    unfold fX3_counted_L4; simp only [ev_r1, h.v1, ev_b, lp_end, if_true]
  | succ d ih =>
    intro k i n hid hk
    obtain ⟨k, rfl⟩ : ∃ k', k = k' + 1 := ⟨k - 1, by omega⟩
    have hi : i < nC := by omega
    rw [hG k n i hi]
    unfold fX3_counted_L4 fX3_counted_B34
    simp only [ev_b, ev_r1, h.v1, lp_go hi (by omega : nC ≤ 1000), if_false, m_rd1 σ _ i (by omega : 166 + i < 240), s_a1]
    by_cases e : ga σ 1 (166 + i) = w
    · simp only [e, if_true]; exact ih k (i + 1) _ (by omega) (by omega)
    · simp only [e, if_false]; exact ih k (i + 1) _ (by omega) (by omega)
theorem cnt0 {N : Nat} (hN : 100 ≤ N) (h : cR bx sh cr hb nS nC nH C σ) : ∃ r, fX0_count_L95 N bx C N 0 0 = some r ∧ fX3_counted N σ 0 = some r := by
  have hn := h.n12
  refine cnt_l N h 0 _ (fun k n => ?_) (fun k n i hi => ?_) nC N 0 0 (by omega) (by omega)
  · unfold fX0_count_L95; simp only [xr3 h, xi3 h, xs3 h, xr0 h, xi0 h, xs0 h, ev_b, lp_end, if_true]
  · conv => lhs; unfold fX0_count_L95
    unfold fX0_count_B129
    simp only [xr3 h, xi3 h, xs3 h, xr0 h, xi0 h, xs0 h, xg3 h hi, xc6 h hi, xq6 h hi, hs_x h hi, ev_b, lp_go hi (by omega : nC ≤ 1000), if_false, s_a1]
    unfold hs
    by_cases e : ga σ 1 (166 + i) = 0
    · simp only [e, if_true, ev_10, if_false]
    · simp only [e, if_false, if_true]
theorem cnt1 {N : Nat} (hN : 100 ≤ N) (h : cR bx sh cr hb nS nC nH C σ) : ∃ r, fX0_count_L141 N bx C N 0 0 = some r ∧ fX3_counted N σ 1 = some r := by
  have hn := h.n12
  refine cnt_l N h 1 _ (fun k n => ?_) (fun k n i hi => ?_) nC N 0 0 (by omega) (by omega)
  · unfold fX0_count_L141; simp only [xr3 h, xi3 h, xs3 h, xr0 h, xi0 h, xs0 h, ev_b, lp_end, if_true]
  · conv => lhs; unfold fX0_count_L141
    unfold fX0_count_B175
    simp only [xr3 h, xi3 h, xs3 h, xr0 h, xi0 h, xs0 h, xg3 h hi, xc6 h hi, xq6 h hi, bare_x h hi, ev_b, lp_go hi (by omega : nC ≤ 1000), if_false, s_a1]
    by_cases e : ga σ 1 (166 + i) = 1
    · simp only [e, if_true, ev_10, if_false]
    · simp only [e, if_false, if_true]
theorem cnt2 {N : Nat} (hN : 100 ≤ N) (h : cR bx sh cr hb nS nC nH C σ) : ∃ r, fX0_count_L187 N bx C N 0 0 = some r ∧ fX3_counted N σ 2 = some r := by
  have hn := h.n12
  refine cnt_l N h 2 _ (fun k n => ?_) (fun k n i hi => ?_) nC N 0 0 (by omega) (by omega)
  · unfold fX0_count_L187; simp only [xr3 h, xi3 h, xs3 h, xr0 h, xi0 h, xs0 h, ev_b, lp_end, if_true]
  · conv => lhs; unfold fX0_count_L187
    unfold fX0_count_B221
    simp only [xr3 h, xi3 h, xs3 h, xr0 h, xi0 h, xs0 h, xg3 h hi, xc6 h hi, x50 h hi, ev_b, lp_go hi (by omega : nC ≤ 1000), if_false, s_a1]
    by_cases e : ga σ 1 (166 + i) = 2
    · simp only [e, if_true, ev_10, if_false]
    · simp only [e, if_false, if_true]
end
end
section
/-! STAGE 2: who waits, who is ahead, a crab's way -/
section
variable {bx : Nat} {sh cr hb : Nat → Nat} {nS nC nH : Nat} {C : xk_C} {σ : gm_S}
def wt (σ : gm_S) (c : Nat) : Int32 := if ga σ 1 (166 + c) = 0 then (if ga σ 1 (226 + c) = 1 then 1 else 0) else 0
theorem wt_x (h : cR bx sh cr hb nS nC nH C σ) {c : Nat} (hc : c < nC) : fX5_isWaiting (cr c) C = some (wt σ c) := by
  unfold fX5_isWaiting wt
  simp only [xq6 h hc, hs_x h hc, x51 h hc, ev_b]
  by_cases e : ga σ 1 (166 + c) = 0
  · simp only [hs_1 e, e, if_true, ev_10, if_false]
    by_cases f : ga σ 1 (226 + c) = 1
    · simp only [f, if_true, ev_10, if_false]
    · simp only [f, if_false, if_true]
  · simp only [hs_0 e, e, if_true, if_false]
theorem wt_m (σ : gm_S) {c : Nat} (hc : c < 12) : fX3_waits σ (nI c) = some (wt σ c) := by
  unfold fX3_waits wt
  simp only [hs_m σ hc, m_rd1 σ _ c (by omega : 226 + c < 240), ev_b]
  by_cases e : ga σ 1 (166 + c) = 0
  · simp only [hs_1 e, e, if_true, ev_10, if_false]
    split <;> rfl
  · simp only [hs_0 e, e, if_true, if_false]
def ah (σ : gm_S) (c d : Nat) : Int32 := if ga σ 1 (130 + d) < ga σ 1 (130 + c) then 1 else if ga σ 1 (130 + c) = ga σ 1 (130 + d) then (if nI d ≤ nI c then 0 else 1) else 0
theorem ah_x (h : cR bx sh cr hb nS nC nH C σ) {c d : Nat} (hc : c < nC) (hd : d < nC) : fX5_isAhead (cr c) C (some (cr d)) = some (ah σ c d) := by
  unfold fX5_isAhead fX5_isAhead_B33 ah
  simp only [x47 h hc, x47 h hd, x44 h hc, x44 h hd, ev_b]
  split
  · rfl
  · split
    · split <;> rfl
    · rfl
theorem ah_m (σ : gm_S) {c d : Nat} (hc : c < 12) (hd : d < 12) : fX3_isAhead σ (nI c) (nI d) = some (ah σ c d) := by
  unfold fX3_isAhead fX3_isAhead_B51 ah
  simp only [m_rd1 σ _ c (by omega : 130 + c < 240), m_rd1 σ _ d (by omega : 130 + d < 240), ev_b]
  split
  · rfl
  · split
    · split <;> rfl
    · rfl
theorem kind1 (N : Nat) (h : cR bx sh cr hb nS nC nH C σ) (c : Nat) : ∀ d k i, i + d = nC → d < k → fX3_kindOf_L61 N σ k (nI c) 1 (nI i) = some 4 := by
  intro d
  have hn := h.n12
  induction d with
  | zero =>
    intro k i hid hk
    obtain ⟨k, rfl⟩ : ∃ k', k = k' + 1 := ⟨k - 1, by omega⟩
    have : i = nC := by omega
    subst this
    unfold fX3_kindOf_L61; simp only [ev_r1, h.v1, ev_b, lp_end, if_true, ev_10, if_false]
  | succ d ih =>
    intro k i hid hk
    obtain ⟨k, rfl⟩ : ∃ k', k = k' + 1 := ⟨k - 1, by omega⟩
    unfold fX3_kindOf_L61 fX3_kindOf_B120 fX3_kindOf_B125
    simp only [ev_r1, h.v1, ev_b, lp_go (by omega : i < nC) (by omega : nC ≤ 1000), ev_10, if_false, s_a1]
    exact ih k (i + 1) (by omega) (by omega)
theorem rowed_l (N : Nat) (hN : 100 ≤ N) (h : cR bx sh cr hb nS nC nH C σ) {c : Nat} (hc : c < nC) : ∀ d k i, i + d = nC → d < k → ∃ r, fX0_isRowed_L2 N bx C k (some (cr c)) (nI i) = some r ∧ fX3_kindOf_L61 N σ k (nI c) 0 (nI i) = some (if r = 0 then 3 else 4) := by
  intro d
  have hn := h.n12
  induction d with
  | zero =>
    intro k i hid hk
    obtain ⟨k, rfl⟩ : ∃ k', k = k' + 1 := ⟨k - 1, by omega⟩
    have : i = nC := by omega
    subst this
    refine ⟨0, ?_, ?_⟩
    · unfold fX0_isRowed_L2; simp only [xr3 h, xi3 h, xs3 h, xr0 h, xi0 h, xs0 h, ev_b, lp_end, if_true]
    · unfold fX3_kindOf_L61; simp only [ev_r1, h.v1, ev_b, lp_end, if_true]
  | succ d ih =>
    intro k i hid hk
    obtain ⟨k, rfl⟩ : ∃ k', k = k' + 1 := ⟨k - 1, by omega⟩
    have hi : i < nC := by omega
    have IH := ih k (i + 1) (by omega) (by omega)
    unfold fX0_isRowed_L2 fX3_kindOf_L61 fX3_kindOf_B120 fX3_kindOf_B124 fX3_kindOf_B125 fX0_isRowed_B58
    have ee : (some (cr i) = some (cr c)) = (i = c) := by
      apply propext; constructor
      · intro e; exact h.1.2.2.2.2.1.inj hn hi hc (Option.some.inj e)
      · intro e; rw [e]
    have en : (nI i = nI c) = (i = c) := propext (s_eq _ _ (by omega) (by omega))
    simp only [xr3 h, xi3 h, xs3 h, xr0 h, xi0 h, xs0 h, xg3 h hi, xc6 h hi, xq6 h hi, ev_b, ev_r1, h.v1, lp_go hi (by omega : nC ≤ 1000), if_false, if_true, s_a1, ee, en, wt_x h hi, wt_m σ (by omega : i < 12), x46 h hi, x46 h hc, m_rd1 σ _ i (by omega : 142 + i < 240), m_rd1 σ _ c (by omega : 142 + c < 240), ah_x h hi hc, ah_m σ (by omega : i < 12) (by omega : c < 12)]
    by_cases e : i = c
    · simp only [e, if_true]; rw [e] at IH; exact IH
    simp only [e, if_false]
    by_cases e1 : wt σ i = 0
    · simp only [e1, if_true]; exact IH
    simp only [e1, if_false]
    by_cases e2 : ga σ 1 (142 + i) = ga σ 1 (142 + c)
    · simp only [e2, if_true]
      by_cases e3 : ah σ i c = 0
      · simp only [e3, if_true]; exact IH
      · simp only [e3, if_false]
        exact ⟨1, rfl, kind1 N h c d k (i + 1) (by omega) (by omega)⟩
    · simp only [e2, if_false]; exact IH
/-- the crabs' ways -/
def cW (bx : Nat) (cr : Nat → Nat) (nC : Nat) (C : xk_C) : Prop := ∀ i, i < nC → ∃ w, xk_r C 45 (cr i) = some w ∧ w < xk_n C ∧ xk_k C w = 35 ∧ xk_l C w = 7 ∧ ∀ t, t < 7 → ∃ a, xk_q C w t = some a ∧ a < xk_n C ∧ xk_k C a = 7 + t ∧ xk_r C 57 a = some (cr i) ∧ ∀ f, 58 ≤ f → f ≤ 64 → xk_has (7 + t) f = true → xk_r C f a = some bx
theorem cW.fr {fi fr : List Nat} {E : Nat → Nat → Bool} {C' : xk_C} (h : cW bx cr nC C) (hn : ∀ i, i < nC → cr i < xk_n C) (F : Fr fi fr E C C') (h45 : 45 ∉ fr) (hf : ∀ f, 57 ≤ f → f ≤ 64 → f ∉ fr) (hE : ∀ a, a < xk_n C → E 35 a = false) : cW bx cr nC C' := by
  intro i hi
  obtain ⟨w, h1, h2, h3, h4, h5⟩ := h i hi
  refine ⟨w, (F.r (hn i hi) h45).trans h1, F.lt h2, (F.k h2).trans h3, (F.l h2).trans h4, fun t ht => ?_⟩
  obtain ⟨a, a1, a2, a3, a4, a5⟩ := h5 t ht
  exact ⟨a, (F.q h2 (by rw [h3]; exact hE w h2) t).trans a1, F.lt a2, (F.k a2).trans a3, (F.r a2 (hf 57 (by omega) (by omega))).trans a4, fun f f1 f2 f3 => (F.r a2 (hf f (by omega) f2)).trans (a5 f f1 f2 f3)⟩
/-- a crab's way, both sides -/
theorem way_l {N : Nat} (hN : 100 ≤ N) (h : cR bx sh cr hb nS nC nH C σ) (hW : cW bx cr nC C) {c : Nat} (hc : c < nC) : ∃ t a, t < 7 ∧ 1 ≤ t ∧ fX5_way N (cr c) C = some (some a) ∧ fX3_kindOf N σ (nI c) = some (nI t) ∧ a < xk_n C ∧ xk_k C a = 7 + t ∧ xk_r C 57 a = some (cr c) ∧ ∀ f, 58 ≤ f → f ≤ 64 → xk_has (7 + t) f = true → xk_r C f a = some bx := by
  obtain ⟨w, h1, h2, h3, h4, h5⟩ := hW c hc
  have hn := h.n12
  have x45 : xk_gr C 45 (some (cr c)) = some (some w) := by rw [g_r (h.1.2.2.2.2.1.1 c hc) rfl, h1]
  have key : ∀ t, t < 7 → 1 ≤ t → (fX5_way N (cr c) C = xk_lq C 5 (some w) (nI t) ∧ fX3_kindOf N σ (nI c) = some (nI t)) → ∃ t a, t < 7 ∧ 1 ≤ t ∧ fX5_way N (cr c) C = some (some a) ∧ fX3_kindOf N σ (nI c) = some (nI t) ∧ a < xk_n C ∧ xk_k C a = 7 + t ∧ xk_r C 57 a = some (cr c) ∧ ∀ f, 58 ≤ f → f ≤ 64 → xk_has (7 + t) f = true → xk_r C f a = some bx := by
    intro t ht ht1 ⟨e1, e2⟩
    obtain ⟨a, a1, a2⟩ := h5 t ht
    refine ⟨t, a, ht, ht1, ?_, e2, a2⟩
    rw [e1, g_lq (t := 5) h3 (by omega) (by omega), a1]
  have bs : ∀ o : Option (Option Nat), (o.bind fun v => some v) = o := fun o => by cases o <;> rfl
  unfold fX5_way fX3_kindOf fX5_way_B74 fX5_way_B56 at *
  simp only [x50 h hc, x51 h hc, x52 h hc, x45, x56 h hc, ev_is _ _ _ h.kB, xq6 h hc, hs_x h hc, ev_b, hs_m σ (by omega : c < 12), wt_m σ (by omega : c < 12), m_rd1 σ _ c (by omega : 166 + c < 240), m_rd1 σ _ c (by omega : 226 + c < 240), bs] at key ⊢
  rcases (h.2.2.2.2.1 c hc).2.1 with e | e | e
  · have w0 : wt σ c = if ga σ 1 (226 + c) = 1 then 1 else 0 := by unfold wt; rw [if_pos e]
    simp only [hs_1 e, e, show ¬ ((0 : Int32) = 2) from by decide, if_true, if_false, ev_10, w0] at key ⊢
    rcases (h.2.2.2.2.1 c hc).2.2.1 with f | f | f
    · simp only [f, show ¬ ((0 : Int32) = 1) from by decide, show ¬ ((0 : Int32) = 2) from by decide, if_true, if_false] at key ⊢
      exact key 1 (by omega) (by omega) ⟨rfl, rfl⟩
    · obtain ⟨r, r1, r2⟩ := rowed_l N hN h hc nC N 0 (by omega) (by omega)
      have r1' : fX0_isRowed N bx C (some (cr c)) = some r := r1
      have r2' : fX3_kindOf_L61 N σ N (nI c) 0 0 = some (if r = 0 then 3 else 4) := r2
      simp only [f, ev_10, if_true, if_false, r1', r2', ev_b] at key ⊢
      by_cases er : r = 0
      · simp only [er, if_true] at key ⊢; exact key 3 (by omega) (by omega) ⟨rfl, rfl⟩
      · simp only [er, if_false] at key ⊢; exact key 4 (by omega) (by omega) ⟨rfl, rfl⟩
    · simp only [f, show ¬ ((2 : Int32) = 1) from by decide, show ¬ ((1 : Int32) = 0) from by decide, if_true, if_false] at key ⊢
      exact key 5 (by omega) (by omega) ⟨rfl, rfl⟩
  · simp only [hs_0 (show ¬ ga σ 1 (166 + c) = 0 by rw [e]; decide), e, show ¬ ((1 : Int32) = 2) from by decide, if_true, if_false] at key ⊢
    exact key 2 (by omega) (by omega) ⟨rfl, rfl⟩
  · simp only [hs_0 (show ¬ ga σ 1 (166 + c) = 0 by rw [e]; decide), e, show ¬ ((1 : Int32) = 0) from by decide, if_true, if_false] at key ⊢
    exact key 6 (by omega) (by omega) ⟨rfl, rfl⟩
end
end
