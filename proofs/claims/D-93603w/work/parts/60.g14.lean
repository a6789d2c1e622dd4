set_option maxRecDepth 16384
section
/-! STAGE 2: the reader: one test -/
def OT (bx : Nat) (C0 : xk_C) (σ0 : gm_S) (h L ha T W F nK : Nat) (gT : Nat → Nat) (op at_ : Nat) (cd : List Int32) (lv : List (Nat × Nat)) (C : xk_C) (rx : Option (xk_C × (Nat ⊕ Option Nat))) (rm : Option gm_S) : Prop :=
  (∃ C' σ' a cdn lsn at', rx = some (C', .inr (some a)) ∧ rm = some σ' ∧ RS bx C0 σ0 h L ha T W F nK gT op at' (cd ++ cdn) (lv ++ lsn) C' σ' ∧ (at_ < at' ∧ cdn.length + at_ ≤ at') ∧ tr2 C' cdn.length a cdn lsn ∧ Fr [33, 34, 101, 103] [102] lsE C C' ∧ xk_n C' + 2 * at_ ≤ xk_n C + 2 * at' ∧ xk_s C' + 600 * at_ ≤ xk_s C + 600 * at') ∨
  OB C0 σ0 h L at_ C rx rm
theorem pL.cg {C : xk_C} {a n : Nat} {g g' : Nat → Nat} (h : pL C a n g) (e : ∀ i, i < n → g' i = g i) : pL C a n g' := by
  obtain ⟨k, ha, hs, hg, z, he, hen, hek, hnl, hl, hd, hq⟩ := h
  exact ⟨k, ha, hs, fun i hi => by rw [e i hi]; exact hg i hi, z, he, hen, hek, hnl, hl, hd, fun i hi => by rw [e i hi]; exact hq i hi⟩
section
variable {bx : Nat} {C0 C C' : xk_C} {σ0 σ σ' : gm_S} {h L ha T W F nK op at_ : Nat} {gT : Nat → Nat} {cd : List Int32} {lv : List (Nat × Nat)}
/-- a number of a test that isn't among them yet -/
theorem RS.num (R : RS bx C0 σ0 h L ha T W F nK gT op at_ cd lv C σ) {f : Nat} (hf : xk_n C0 ≤ f) (hb : bx + 8 < xk_n C) (hl : ∀ x, x ∈ lv → x.1 ≠ f) (v : Int32) : RS bx C0 σ0 h L ha T W F nK gT op at_ cd lv (xk_si C 80 f v) σ := by
  obtain ⟨⟨F0, M, m1, m2⟩, ⟨r35, i33, i34⟩, ⟨a1, a2, a3, a4, a5, a6, a7⟩, b, ⟨c1, c2⟩, d, g, e⟩ := R
  have F1 : Fr [80] [] (fun _ _ => false) C (xk_si C 80 f v) := Fr.refl.si _ _ _ (.inl (by decide))
  refine ⟨⟨F0.si _ _ _ (.inr hf), M, m1, m2⟩, ⟨r35, (F1.i hb (by decide)).trans i33, fun ho => (F1.i hb (by decide)).trans (i34 ho)⟩, ⟨a1, a2, a3, a4, a5, (F1.i a2 (by decide)).trans a6, a7⟩, b, ⟨c1.fr F1 (by decide) (by decide) (fun _ _ => rfl), c2.fr F1 (by decide) (by decide) (fun _ _ => rfl)⟩, ⟨fun x hx => ?_, d.2⟩, g, e⟩
  obtain ⟨d1, d2, d3, d4⟩ := d.1 x hx
  exact ⟨d1, d2, d3, by rw [i_si, if_neg (fun z => hl x hx z.2)]; exact d4⟩
/-- a new test joins the habit's tests -/
theorem RS.add (Z : RZ bx C0 σ0 h L) (R : RS bx C0 σ0 h L ha T W F nK gT op at_ cd lv C σ) {f v : Nat} (hf : xk_n C0 ≤ f) (hfn : f < xk_n C) (kf : xk_k C f = 17) (i80 : xk_i C 80 f = nI v) (hl : ∀ x, x ∈ lv → x.1 < f) (h3 : 3 * (lv.length + 1) ≤ at_) : ∃ C', fJ2_add F C (some f) = some (C', 1) ∧ RS bx C0 σ0 h L ha T W F nK gT op at_ cd (lv ++ [(f, v)]) C' σ ∧ Fr [101, 103] [102] lsE C C' ∧ xk_n C' ≤ xk_n C + 1 ∧ xk_s C' ≤ xk_s C + 1501 := by
  have nb := R.nb Z
  obtain ⟨⟨F0, M, m1, m2⟩, ⟨r35, i33, i34⟩, ⟨a1, a2, a3, a4, a5, a6, a7⟩, ⟨b1, b2, b3, b4, b5, b6, b7⟩, ⟨c1, c2⟩, d, g, e1, e2, e3, e4⟩ := R
  have hU : U1 C := F0.u Z.1.2.2.1
  have hL := Z.2.2.2.1
  obtain ⟨C', g1, p, ⟨Q, n1, s1, -, keep⟩, SFi, SFr, SFe, SFq, SF5⟩ := L_add2 c2 hU (by omega) (b := f) ⟨hfn, by rw [kf]; rfl⟩
  refine ⟨C', g1, ⟨⟨?_, M, m1, m2⟩, ⟨(Q.r (by omega) (by decide)).trans r35, (Q.i (by omega) (by decide)).trans i33, fun ho => (Q.i (by omega) (by decide)).trans (i34 ho)⟩, ⟨(Q.k a2).trans a1, Q.lt a2, (Q.r a2 (by decide)).trans a3, (Q.r a2 (by decide)).trans a4, (Q.r a2 (by decide)).trans a5, (Q.i a2 (by decide)).trans a6, (Q.r a2 (by decide)).trans a7⟩, ⟨b1, b2, b3, b4, b5, fun z hz => ?_, fun z hz => by rw [Q.d]; exact b7 z ((SFr 102 T c1.2.1 b5).symm.trans hz)⟩, ⟨keep _ _ _ b5 c1, ?_⟩, ⟨fun x hx => ?_, ?_⟩, g, e1, e2, by rw [List.length_append, List.length_singleton]; omega, e4⟩, Q, n1, s1⟩
  · refine ⟨⟨Nat.le_trans F0.n Q.n, Nat.le_trans F0.s Q.s⟩, ?_, fun u => Q.u (F0.u u), fun a ha0 => ?_⟩
    · obtain ⟨z1, z2, z3, z4⟩ := F0.2.1
      obtain ⟨y1, y2, y3, y4⟩ := Q.2.1
      exact ⟨y1.trans z1, y2.trans z2, y3.trans z3, y4.trans z4⟩
    · have han : a < xk_n C := F0.lt ha0
      have haF : a ≠ F := by omega
      obtain ⟨k0, l0, i0, r0, q0⟩ := F0.2.2.2 a ha0
      refine ⟨(Q.k han).trans k0, (Q.l han).trans l0, fun f' hf' => (SFi f' a han haF).trans (i0 f' hf'), fun f' hf' => (SFr f' a han haF).trans (r0 f' hf'), fun _ => ⟨fun j => (SFe a j han).trans ((q0 rfl).1 j), fun j => (SFq a j han (fun z => ?_)).trans ((q0 rfl).2 j)⟩⟩
      rcases b6 a z with w | w
      · exact w
      · omega
  · rw [Q.d]
    rcases SF5 z hz with w | w
    · exact b6 z w
    · exact .inr (Nat.le_trans F0.n w)
  · rw [List.length_append, List.length_singleton]
    refine p.cg (fun i hi => ?_)
    by_cases q : i = lv.length
    · subst q; rw [if_pos rfl]; simp [List.getD_eq_getElem?_getD]
    · rw [if_neg q]; simp only [List.getD_eq_getElem?_getD]; rw [List.getElem?_append_left (by omega)]
  · rcases List.mem_append.mp hx with hx | hx
    · obtain ⟨d1, d2, d3, d4⟩ := d.1 x hx
      exact ⟨(Q.k d2).trans d1, Q.lt d2, d3, (Q.i d2 (by decide)).trans d4⟩
    · rw [List.mem_singleton.mp hx]
      exact ⟨(Q.k hfn).trans kf, Q.lt hfn, hf, (Q.i hfn (by decide)).trans i80⟩
  · rw [List.pairwise_append]
    exact ⟨d.2, List.pairwise_singleton _ _, fun x hx y hy => by rw [List.mem_singleton.mp hy]; exact hl x hx⟩
/-- the reference behind a sign of comparing -/
theorem leaf_m {N : Nat} (Fm : gm_S → Option gm_S) (σ : gm_S) (w hh : Nat) (hw : hh < 3) (g14 : gs σ 14 = 0) (g13 : gs σ 13 = nI at_) : fX3_factor_B187 Fm N σ (nI w) (nI (60 + hh)) = (fX3_number N (gm_set σ 13 (nI (at_ + 1)))).bind fun r => fX3_emits r.1 (nI w + nI 8 * nI hh + nI 32 * r.2) := by
  unfold fX3_factor_B187 fX3_factor_B188 fX3_factor_B208 fX3_factor_B243
  rw [m_pz (.inl rfl), ev_b, gm_id σ 14 0 g14, if_pos g14, m_pt, ev_b, g13, s_a1]
  have o : ∀ r : Option gm_S, (r.bind fun r17 => some r17) = r := fun r => by cases r <;> rfl
  have cs : hh = 0 ∨ hh = 1 ∨ hh = 2 := by omega
  congr 1
  funext r
  rcases cs with rfl | rfl | rfl
  · rw [if_pos (by decide), o]; rfl
  · rw [if_neg (by decide), if_pos (by decide), o]; rfl
  · rw [if_neg (by decide), if_neg (by decide), o]; rfl
/-- the class behind a sign of comparing -/
theorem leaf_b {N : Nat} (hN : 10 ≤ N) (Fx : xk_C → Nat → Option (xk_C × (Nat ⊕ Option Nat))) (Fm : gm_S → Option gm_S) (Z : RZ bx C0 σ0 h L) (R : RS bx C0 σ0 h L ha T W F nK gT op at_ cd lv C σ) {w hh : Nat} (hw : w < 5) (hh3 : hh < 3) (hat : at_ < L) (h1 : cd.length + 1 ≤ at_) (h2 : 3 * lv.length + 1 ≤ at_) :
    OT bx C0 σ0 h L ha T W F nK gT op (at_ - 1) cd lv C (fX2_fact_B176 Fx N (bx + 8) C (nI (lc w)) (nI (60 + hh))) (fX3_factor_B187 Fm N σ (nI w) (nI (60 + hh))) := by
  have g14 := R.2.2.2.2.2.2.1.2.2.1
  have g13 := R.2.2.2.2.2.2.1.2.1
  have i33 := R.2.1.2.1
  have kr := R.kr Z
  have nb := R.nb Z
  have hL := Z.2.2.2.1
  rw [leaf_m Fm σ w hh hh3 g14 g13]
  unfold fX2_fact_B176
  rw [g_i kr rfl, i33, ev_b, p_i kr rfl, ev_b, s_a1]
  have R2 := R.stp Z hat
  have FB2 : Fr [33, 34, 101, 103] [102] lsE C (xk_si C 33 (bx + 8) (nI (at_ + 1))) := Fr.refl.si _ _ _ (.inl (by decide))
  have n2 : xk_n (xk_si C 33 (bx + 8) (nI (at_ + 1))) = xk_n C := rfl
  have s2 : xk_s (xk_si C 33 (bx + 8) (nI (at_ + 1))) = xk_s C := rfl
  have kr2 : xk_k (xk_si C 33 (bx + 8) (nI (at_ + 1))) (bx + 8) = 3 := kr
  generalize xk_si C 33 (bx + 8) (nI (at_ + 1)) = C2 at *
  generalize gm_set σ 13 (nI (at_ + 1)) = σ2 at *
  have e : xk_nw C2 16 = some (xk_mk C2 17 0 3) := rfl
  have Fn : Fr [] [] (fun _ _ => false) C2 (xk_mk C2 17 0 3) := Fr.refl.mk _ _ _ (by decide)
  have FB3 : Fr [33, 34, 101, 103] [102] lsE C (xk_mk C2 17 0 3) := FB2.mk _ _ _ (by decide)
  have R3 : RS bx C0 σ0 h L ha T W F nK gT op (at_ + 1) cd lv (xk_mk C2 17 0 3) σ2 := R2.fr (by omega) Fn (R2.1.1.none0 Fn) (by simp) (by simp) (fun _ _ => rfl)
  have kf3 : xk_k (xk_mk C2 17 0 3) (xk_n C2) = 17 := by rw [k_mk, if_pos rfl]
  have n3 : xk_n (xk_mk C2 17 0 3) = xk_n C2 + 1 := rfl
  have s3 : xk_s (xk_mk C2 17 0 3) = xk_s C2 + 3 := rfl
  have kr3 := R3.kr Z
  have lv2 : ∀ x, x ∈ lv → x.1 < xk_n C2 := fun x hx => (R2.2.2.2.2.2.1.1 x hx).2.1
  have n0 : xk_n C0 ≤ xk_n C2 := R2.1.1.n
  rw [e, ev_b]
  generalize xk_mk C2 17 0 3 = C3 at *
  rw [g_is kr3, ev_b]
  rcases number_l hN Z R3 with ⟨C4, σ4, v, at4, f1, f2, hv, hat4, R4, Q4, n4, s4⟩ | ⟨σ4, v, f2, C4, σ4', e4, at4, f1, f3, WR4, l1, l2, l3⟩
  · rw [f1, f2, ev_b, ev_b]
    show OT bx C0 σ0 h L ha T W F nK gT op (at_ - 1) cd lv C ((fX16_init (xk_n C2) C4 (nI (lc w)) (nI (60 + hh)) (nI v)).bind fun r46 => (xk_gr r46.1 35 (some (bx + 8))).bind fun v47 => (xk_gr r46.1 68 v47).bind fun v48 => (xk_is r46.1 21 v48).bind fun b50 => (fJ2_add b50 r46.1 (some (xk_n C2))).bind fun r49 => some (r49.1, .inr (some (xk_n C2)))) (fX3_emits σ4 (nI w + nI 8 * nI hh + nI 32 * nI v))
    have kf4 : xk_k C4 (xk_n C2) = 17 := (Q4.k (by omega)).trans kf3
    unfold fX16_init
    rw [p_i kf4 rfl, ev_b, p_i (C := xk_si C4 78 (xk_n C2) (nI (lc w))) kf4 rfl, ev_b, p_i (C := xk_si (xk_si C4 78 (xk_n C2) (nI (lc w))) 79 (xk_n C2) (nI (60 + hh))) kf4 rfl, ev_b, ev_b]
    have Q5 : Fr [78, 79] [] (fun _ _ => false) C4 (xk_si (xk_si C4 78 (xk_n C2) (nI (lc w))) 79 (xk_n C2) (nI (60 + hh))) := (Fr.refl.si _ _ _ (.inl (by decide))).si _ _ _ (.inl (by decide))
    have F5 : Fr [33, 34] [35] (fun _ _ => false) C0 (xk_si (xk_si C4 78 (xk_n C2) (nI (lc w))) 79 (xk_n C2) (nI (60 + hh))) := (R4.1.1.si _ _ _ (.inr n0)).si _ _ _ (.inr n0)
    have R5 := R4.fr (by omega) Q5 F5 (by decide) (by decide) (fun _ _ => rfl)
    have R6 := R5.num n0 (show bx + 8 < xk_n C4 by omega) (fun x hx => by have := lv2 x hx; omega) (nI v)
    have FB4 : Fr [33, 34, 101, 103] [102] lsE C C4 := FB3.trans (Q4.mono (by decide) (by decide) (fun _ _ _ => rfl))
    have FB6 : Fr [33, 34, 101, 103] [102] lsE C (xk_si (xk_si (xk_si C4 78 (xk_n C2) (nI (lc w))) 79 (xk_n C2) (nI (60 + hh))) 80 (xk_n C2) (nI v)) := ((FB4.si _ _ _ (.inr (by omega))).si _ _ _ (.inr (by omega))).si _ _ _ (.inr (by omega))
    have i78 : xk_i (xk_si (xk_si (xk_si C4 78 (xk_n C2) (nI (lc w))) 79 (xk_n C2) (nI (60 + hh))) 80 (xk_n C2) (nI v)) 78 (xk_n C2) = nI (lc w) := by rw [wi1 (f' := 80) rfl (by decide), wi1 (f' := 79) rfl (by decide), i_si, if_pos ⟨rfl, rfl⟩]
    have i79 : xk_i (xk_si (xk_si (xk_si C4 78 (xk_n C2) (nI (lc w))) 79 (xk_n C2) (nI (60 + hh))) 80 (xk_n C2) (nI v)) 79 (xk_n C2) = nI (60 + hh) := by rw [wi1 (f' := 80) rfl (by decide), i_si, if_pos ⟨rfl, rfl⟩]
    have i80 : xk_i (xk_si (xk_si (xk_si C4 78 (xk_n C2) (nI (lc w))) 79 (xk_n C2) (nI (60 + hh))) 80 (xk_n C2) (nI v)) 80 (xk_n C2) = nI v := by rw [i_si, if_pos ⟨rfl, rfl⟩]
    have kf6 : xk_k (xk_si (xk_si (xk_si C4 78 (xk_n C2) (nI (lc w))) 79 (xk_n C2) (nI (60 + hh))) 80 (xk_n C2) (nI v)) (xk_n C2) = 17 := kf4
    have n6 : xk_n (xk_si (xk_si (xk_si C4 78 (xk_n C2) (nI (lc w))) 79 (xk_n C2) (nI (60 + hh))) 80 (xk_n C2) (nI v)) = xk_n C4 := rfl
    have s6 : xk_s (xk_si (xk_si (xk_si C4 78 (xk_n C2) (nI (lc w))) 79 (xk_n C2) (nI (60 + hh))) 80 (xk_n C2) (nI v)) = xk_s C4 := rfl
    generalize xk_si (xk_si (xk_si C4 78 (xk_n C2) (nI (lc w))) 79 (xk_n C2) (nI (60 + hh))) 80 (xk_n C2) (nI v) = C6 at *
    have kr6 := R6.kr Z
    obtain ⟨C7, g1, R7, Q7, n7, s7⟩ := R6.add Z n0 (by omega) kf6 i80 lv2 (by omega)
    show OT bx C0 σ0 h L ha T W F nK gT op (at_ - 1) cd lv C ((xk_gr C6 35 (some (bx + 8))).bind fun v47 => (xk_gr C6 68 v47).bind fun v48 => (xk_is C6 21 v48).bind fun b50 => (fJ2_add b50 C6 (some (xk_n C2))).bind fun r49 => some (r49.1, .inr (some (xk_n C2)))) _
    rw [g_r kr6 rfl, R6.2.1.1, ev_b, g_r R6.2.2.1.1 rfl, R6.2.2.1.2.2.2.2.1, ev_b, g_is R6.2.2.2.2.1.2.1, ev_b, g1, ev_b]
    have ecd : nI w + nI 8 * nI hh + nI 32 * nI v = nI (w + 8 * hh + 32 * v) := by rw [s_mul, s_mul, s_add, s_add]
    rw [ecd]
    obtain ⟨σ7, g2, R8⟩ := R7.emit Z (by omega) (nI (w + 8 * hh + 32 * v))
    left
    refine ⟨C7, σ7, xk_n C2, [nI (w + 8 * hh + 32 * v)], [(xk_n C2, v)], at4, rfl, g2, R8, ⟨by omega, by simp; omega⟩, ?_, FB6.trans (Q7.mono (by decide) (by decide) (fun _ _ z => z)), by omega, by omega⟩
    exact .inl ⟨w, hh, v, (Q7.k (by omega)).trans kf6, Q7.lt (by omega), hw, hh3, hv, (Q7.i (by omega) (by decide)).trans i78, (Q7.i (by omega) (by decide)).trans i79, rfl, rfl⟩
  · rw [f1, f2, ev_b, ev_b]
    cases f3
    right
    refine ⟨C4, σ4, e4, at4, rfl, ?_, WR4, by omega, by omega, by omega⟩
    exact dead_emits WR4.2.2.2.1 _
end
end
section
/-! STAGE 2: the reader: both, some -/
theorem tr2.w {C : xk_C} {t : Nat} (ht : xk_r C 81 t = none) (b c : Option Nat) (v : Int32) : ∀ d a cd ls, tr2 C d a cd ls → tr2 (xk_si (xk_sr (xk_sr C 81 t b) 82 t c) 83 t v) d a cd ls := by
  intro d
  induction d with
  | zero => intro a cd ls h; exact h
  | succ d ih =>
    intro a cd ls h
    have ei : ∀ f x, x ≠ t ∨ f ≠ 83 → xk_i (xk_si (xk_sr (xk_sr C 81 t b) 82 t c) 83 t v) f x = xk_i C f x := fun f x hx => by rw [i_si, if_neg (by omega), i_sr, i_sr]
    have er : ∀ f x, x ≠ t ∨ (f ≠ 81 ∧ f ≠ 82) → xk_r (xk_si (xk_sr (xk_sr C 81 t b) 82 t c) 83 t v) f x = xk_r C f x := fun f x hx => by rw [r_si, r_sr, if_neg (by omega), r_sr, if_neg (by omega)]
    rcases h with ⟨w, hh, v', k, n, h1, h2, h3, h4, h5, h6, h7⟩ | ⟨b', cd', k, n, h1, h2, h3⟩ | ⟨b', c', cd1, cd2, ls1, ls2, both, k, n, h1, h2, h3, h4, h5, h6, h7⟩
    · exact .inl ⟨w, hh, v', k, n, h1, h2, h3, (ei _ _ (.inr (by decide))).trans h4, (ei _ _ (.inr (by decide))).trans h5, h6, h7⟩
    · exact .inr (.inl ⟨b', cd', k, n, (er _ _ (.inr (by decide))).trans h1, ih _ _ _ h2, h3⟩)
    · have hne : a ≠ t := fun z => by rw [z, ht] at h1; cases h1
      exact .inr (.inr ⟨b', c', cd1, cd2, ls1, ls2, both, k, n, (er _ _ (.inl hne)).trans h1, (er _ _ (.inl hne)).trans h2, (ei _ _ (.inl hne)).trans h3, ih _ _ _ h4, ih _ _ _ h5, h6, h7⟩)
theorem OB.dead {β : Type} {C0 C : xk_C} {σ0 σ σ' : gm_S} {h L at_ : Nat} {rx : Option (xk_C × (Nat ⊕ β))} (H : OB C0 σ0 h L at_ C rx (some σ)) (M : Mf [15] [] σ σ') : OB C0 σ0 h L at_ C rx (some σ') := by
  obtain ⟨C', σ1, e, at', f1, f2, f3, f4⟩ := H
  cases f2
  exact ⟨C', σ', e, at', f1, rfl, f3.dead M, f4⟩
section
variable {bx : Nat} {C0 : xk_C} {σ0 : gm_S} {h L ha T W F nK op : Nat} {gT : Nat → Nat}
/-- one operand behind the other -/
theorem loop_l {ch : Nat} (hch : ch < 128) (both : Bool) (Z : RZ bx C0 σ0 h L)
    (Gx : xk_C → Nat → Option (xk_C × (Nat ⊕ Option Nat))) (Gm : gm_S → Option gm_S)
    (hG : ∀ at_ cd lv (C : xk_C) (σ : gm_S), RS bx C0 σ0 h L ha T W F nK gT op at_ cd lv C σ → OT bx C0 σ0 h L ha T W F nK gT op at_ cd lv C (Gx C (bx + 8)) (Gm σ))
    (LX : Nat → xk_C → Option Nat → Option (xk_C × (Nat ⊕ Option Nat))) (LM : Nat → gm_S → Option gm_S)
    (hLX : ∀ k C a, LX (k + 1) C a = (xk_is C 3 (some (bx + 8))).bind fun b7 => (fX2_next b7 C).bind fun r6 => if r6 = nI ch then (xk_gi C 33 (some (bx + 8))).bind fun v8 => (xk_pi C 33 (some (bx + 8)) (v8 + 1)).bind fun σ9 => (xk_nw σ9 17).bind fun σ10 => (xk_is σ10 3 (some (bx + 8))).bind fun b12 => (Gx σ10 b12).bind fun r13 => xk_th r13 fun σ14 v15 => (fX17_init (xk_n σ9) σ14 a v15 (if both = true then 1 else 0)).bind fun r16 => LX k r16.1 (some (xk_n σ9)) else some (C, .inr a))
    (hLM : ∀ k σ, LM (k + 1) σ = if gs σ 14 = 0 then (fX3_here σ).bind fun r2 => if r2 = nI ch then (gm_pt σ 13 (gs σ 13 + 1)).bind fun σ3 => (Gm σ3).bind fun r4 => (fX3_emits r4 (if both = true then -2 else -3)).bind fun r5 => LM k r5 else some σ else some σ)
    {atS : Nat} {cd : List Int32} {lv : List (Nat × Nat)} {CS : xk_C} (hcd : cd.length ≤ atS) : ∀ n kx km at_ a cdn lsn (C : xk_C) (σ : gm_S), L < at_ + n → n < kx → n < km → RS bx C0 σ0 h L ha T W F nK gT op at_ (cd ++ cdn) (lv ++ lsn) C σ → atS < at_ → cdn.length + atS ≤ at_ → tr2 C cdn.length a cdn lsn → Fr [33, 34, 101, 103] [102] lsE CS C → xk_n C + 2 * atS ≤ xk_n CS + 2 * at_ → xk_s C + 600 * atS ≤ xk_s CS + 600 * at_ → OT bx C0 σ0 h L ha T W F nK gT op atS cd lv CS (LX kx C (some a)) (LM km σ) := by
  intro n
  induction n with
  | zero => intro kx km at_ a cdn lsn C σ hn _ _ R; have := R.2.2.2.2.2.2.2.1; omega
  | succ n ih =>
    intro kx km at_ a cdn lsn C σ hn hkx hkm R h1 h2 tr FB b1 b2
    obtain ⟨kx, rfl⟩ : ∃ j, kx = j + 1 := ⟨kx - 1, by omega⟩
    obtain ⟨km, rfl⟩ : ∃ j, km = j + 1 := ⟨km - 1, by omega⟩
    obtain ⟨x, y, f1, f2, q, hl, -, -⟩ := R.next Z
    have kr := R.kr Z
    have g14 := R.2.2.2.2.2.2.1.2.2.1
    have g13 := R.2.2.2.2.2.2.1.2.1
    have i33 := R.2.1.2.1
    have nb := R.nb Z
    rw [hLX, hLM, g_is kr, ev_b, f1, ev_b, if_pos g14, f2, ev_b]
    by_cases e : x = nI ch
    · have hat := hl ch e hch
      have e' := (q.is hch).mp e
      rw [if_pos e, if_pos e', g_i kr rfl, i33, ev_b, p_i kr rfl, ev_b, s_a1, m_pt, ev_b, g13, s_a1]
      have R1 := R.stp Z hat
      have FB1 : Fr [33, 34, 101, 103] [102] lsE C (xk_si C 33 (bx + 8) (nI (at_ + 1))) := Fr.refl.si _ _ _ (.inl (by decide))
      have n1 : xk_n (xk_si C 33 (bx + 8) (nI (at_ + 1))) = xk_n C := rfl
      have s1 : xk_s (xk_si C 33 (bx + 8) (nI (at_ + 1))) = xk_s C := rfl
      generalize xk_si C 33 (bx + 8) (nI (at_ + 1)) = C1 at *
      generalize gm_set σ 13 (nI (at_ + 1)) = σ1 at *
      have ew : xk_nw C1 17 = some (xk_mk C1 18 0 3) := rfl
      have Fn : Fr [] [] (fun _ _ => false) C1 (xk_mk C1 18 0 3) := Fr.refl.mk _ _ _ (by decide)
      have FB2 : Fr [33, 34, 101, 103] [102] lsE C (xk_mk C1 18 0 3) := FB1.mk _ _ _ (by decide)
      have R2 : RS bx C0 σ0 h L ha T W F nK gT op (at_ + 1) (cd ++ cdn) (lv ++ lsn) (xk_mk C1 18 0 3) σ1 := R1.fr (by omega) Fn (R1.1.1.none0 Fn) (by simp) (by simp) (fun _ _ => rfl)
      have kt : xk_k (xk_mk C1 18 0 3) (xk_n C1) = 18 := by rw [k_mk, if_pos rfl]
      have rt : xk_r (xk_mk C1 18 0 3) 81 (xk_n C1) = none := by rw [r_mk, if_pos rfl]
      have n2 : xk_n (xk_mk C1 18 0 3) = xk_n C1 + 1 := rfl
      have s2 : xk_s (xk_mk C1 18 0 3) = xk_s C1 + 3 := rfl
      have n0 : xk_n C0 ≤ xk_n C1 := R1.1.1.n
      rw [ew, ev_b]
      generalize xk_mk C1 18 0 3 = C2 at *
      rw [g_is (R2.kr Z), ev_b]
      rcases hG _ _ _ _ _ R2 with ⟨C4, σ4, a2, cd2, ls2, at2, f3, f4, R4, ⟨l1, l2⟩, tr2', FB4, l3, l4⟩ | ⟨C4, σ4, e4, at4, f3, f4, W4, l1, l2, l3⟩
      · rw [f3, ev_b, f4, ev_b]
        show OT bx C0 σ0 h L ha T W F nK gT op atS cd lv CS ((fX17_init (xk_n C1) C4 (some a) (some a2) (if both = true then 1 else 0)).bind fun r16 => LX kx r16.1 (some (xk_n C1))) _
        have kt4 : xk_k C4 (xk_n C1) = 18 := (FB4.k (by omega)).trans kt
        have rt4 : xk_r C4 81 (xk_n C1) = none := (FB4.r (by omega) (by decide)).trans rt
        have z01 : (if both = true then (1 : Int32) else 0) = 0 ∨ (if both = true then (1 : Int32) else 0) = 1 := by split <;> simp
        unfold fX17_init
        rw [p_r kt4 rfl, ev_b, p_r (C := xk_sr C4 81 (xk_n C1) (some a)) kt4 rfl, ev_b, p_z (C := xk_sr (xk_sr C4 81 (xk_n C1) (some a)) 82 (xk_n C1) (some a2)) kt4 rfl z01, ev_b, ev_b]
        obtain ⟨σ5, g1, R5⟩ := R4.emit Z (by rw [List.length_append, List.length_append]; omega) (if both = true then -2 else -3)
        rw [g1, ev_b]
        have Q5 : Fr [83] [81, 82] (fun _ _ => false) C4 (xk_si (xk_sr (xk_sr C4 81 (xk_n C1) (some a)) 82 (xk_n C1) (some a2)) 83 (xk_n C1) (if both = true then 1 else 0)) := ((Fr.refl.sr _ _ _ (.inl (by decide)) (by decide)).sr _ _ _ (.inl (by decide)) (by decide)).si _ _ _ (.inl (by decide))
        have F5 : Fr [33, 34] [35] (fun _ _ => false) C0 (xk_si (xk_sr (xk_sr C4 81 (xk_n C1) (some a)) 82 (xk_n C1) (some a2)) 83 (xk_n C1) (if both = true then 1 else 0)) := ((R5.1.1.sr _ _ _ (.inr n0) (by decide)).sr _ _ _ (.inr n0) (by decide)).si _ _ _ (.inr n0)
        have nb4 : bx + 8 < xk_n C4 := by have := R4.nb Z; omega
        have R6 := R5.fr nb4 Q5 F5 (by decide) (by decide) (fun _ _ => rfl)
        have FB5 : Fr [33, 34, 101, 103] [102] lsE C (xk_si (xk_sr (xk_sr C4 81 (xk_n C1) (some a)) 82 (xk_n C1) (some a2)) 83 (xk_n C1) (if both = true then 1 else 0)) := (((FB2.trans FB4).sr _ _ _ (.inr (by omega)) (by decide)).sr _ _ _ (.inr (by omega)) (by decide)).si _ _ _ (.inr (by omega))
        have tra : tr2 (xk_si (xk_sr (xk_sr C4 81 (xk_n C1) (some a)) 82 (xk_n C1) (some a2)) 83 (xk_n C1) (if both = true then 1 else 0)) cdn.length a cdn lsn := tr2.fr FB5 (by decide) (by decide) (by decide) (by decide) (by decide) (by decide) _ _ _ _ tr
        have trb := tr2.w rt4 (some a) (some a2) (if both = true then 1 else 0) _ _ _ _ tr2'
        have i83 : xk_i (xk_si (xk_sr (xk_sr C4 81 (xk_n C1) (some a)) 82 (xk_n C1) (some a2)) 83 (xk_n C1) (if both = true then 1 else 0)) 83 (xk_n C1) = if both = true then 1 else 0 := by rw [i_si, if_pos ⟨rfl, rfl⟩]
        have r82 : xk_r (xk_si (xk_sr (xk_sr C4 81 (xk_n C1) (some a)) 82 (xk_n C1) (some a2)) 83 (xk_n C1) (if both = true then 1 else 0)) 82 (xk_n C1) = some a2 := by rw [r_si, r_sr, if_pos ⟨rfl, rfl⟩]
        have r81 : xk_r (xk_si (xk_sr (xk_sr C4 81 (xk_n C1) (some a)) 82 (xk_n C1) (some a2)) 83 (xk_n C1) (if both = true then 1 else 0)) 81 (xk_n C1) = some a := by rw [r_si, r_sr, if_neg (by omega), r_sr, if_pos ⟨rfl, rfl⟩]
        have k5 : xk_k (xk_si (xk_sr (xk_sr C4 81 (xk_n C1) (some a)) 82 (xk_n C1) (some a2)) 83 (xk_n C1) (if both = true then 1 else 0)) (xk_n C1) = 18 := kt4
        have n5 : xk_n (xk_si (xk_sr (xk_sr C4 81 (xk_n C1) (some a)) 82 (xk_n C1) (some a2)) 83 (xk_n C1) (if both = true then 1 else 0)) = xk_n C4 := rfl
        have s5 : xk_s (xk_si (xk_sr (xk_sr C4 81 (xk_n C1) (some a)) 82 (xk_n C1) (some a2)) 83 (xk_n C1) (if both = true then 1 else 0)) = xk_s C4 := rfl
        have nle : xk_n C2 ≤ xk_n C4 := FB4.n
        generalize xk_si (xk_sr (xk_sr C4 81 (xk_n C1) (some a)) 82 (xk_n C1) (some a2)) 83 (xk_n C1) (if both = true then 1 else 0) = C5 at *
        have ec : cd ++ cdn ++ cd2 ++ [if both = true then -2 else -3] = cd ++ (cdn ++ cd2 ++ [if both = true then -2 else -3]) := by simp [List.append_assoc]
        have el : lv ++ lsn ++ ls2 = lv ++ (lsn ++ ls2) := by simp [List.append_assoc]
        rw [ec, el] at R6
        have hlen : (cdn ++ cd2 ++ [if both = true then (-2 : Int32) else -3]).length = cdn.length + cd2.length + 1 := by rw [List.length_append, List.length_append, List.length_singleton]
        refine ih kx km at2 (xk_n C1) (cdn ++ cd2 ++ [if both = true then -2 else -3]) (lsn ++ ls2) C5 σ5 (by omega) (by omega) (by omega) R6 (by omega) (by rw [hlen]; omega) ?_ (FB.trans FB5) (by omega) (by omega)
        rw [hlen]
        exact .inr (.inr ⟨a, a2, cdn, cd2, lsn, ls2, both, k5, by omega, r81, r82, i83, tr2.mono _ _ _ _ _ (by omega) tra, tr2.mono _ _ _ _ _ (by omega) trb, rfl, rfl⟩)
      · rw [f3, ev_b, f4, ev_b, dead_emits W4.2.2.2.1, ev_b]
        right
        refine ⟨C4, σ4, e4, at4, rfl, ?_, W4, by omega, by omega, by omega⟩
        obtain ⟨km, rfl⟩ : ∃ j, km = j + 1 := ⟨km - 1, by omega⟩
        rw [hLM, if_neg (by rw [W4.2.2.2.1]; decide)]
    · have e' : ¬ y = nI ch := fun z => e ((q.is hch).mpr z)
      rw [if_neg e, if_neg e']
      exact .inl ⟨C, σ, a, cdn, lsn, at_, rfl, rfl, R, ⟨h1, h2⟩, tr, FB, b1, b2⟩
theorem both_p {N : Nat} (hN : 200 ≤ N) (Z : RZ bx C0 σ0 h L)
    (Fx : xk_C → Nat → Option (xk_C × (Nat ⊕ Option Nat))) (Fm : gm_S → Option gm_S)
    (hF : ∀ at_ cd lv (C : xk_C) (σ : gm_S), RS bx C0 σ0 h L ha T W F nK gT op at_ cd lv C σ → OT bx C0 σ0 h L ha T W F nK gT op at_ cd lv C (Fx C (bx + 8)) (Fm σ)) :
    ∀ at_ cd lv (C : xk_C) (σ : gm_S), RS bx C0 σ0 h L ha T W F nK gT op at_ cd lv C σ → OT bx C0 σ0 h L ha T W F nK gT op at_ cd lv C (fX2_both Fx N (bx + 8) C) (fX3_every Fm N σ) := by
  intro at_ cd lv C σ R
  have hL := Z.2.2.2.1
  unfold fX2_both fX3_every
  rw [g_is (R.kr Z), ev_b]
  rcases hF _ _ _ _ _ R with ⟨C4, σ4, a2, cd2, ls2, at2, f3, f4, R4, ⟨l1, l2⟩, tr2', FB4, l3, l4⟩ | ⟨C4, σ4, e4, at4, f3, f4, W4, l1, l2, l3⟩
  · rw [f3, ev_b, f4, ev_b]
    exact loop_l (ch := 38) (by omega) true Z Fx Fm hF (fX2_both_L5 Fx N (bx + 8)) (fX3_every_L4 Fm N) (fun _ _ _ => rfl) (fun _ _ => rfl) R.2.2.2.2.2.2.2.2.1 (L + 1) N N at2 a2 cd2 ls2 C4 σ4 (by omega) (by omega) (by omega) R4 l1 l2 tr2' FB4 l3 l4
  · rw [f3, ev_b, f4, ev_b]
    obtain ⟨N, rfl⟩ : ∃ j, N = j + 1 := ⟨N - 1, by omega⟩
    right
    refine ⟨C4, σ4, e4, at4, rfl, ?_, W4, l1, l2, l3⟩
    unfold fX3_every_L4
    rw [if_neg (by rw [W4.2.2.2.1]; decide)]
theorem some_p {N : Nat} (hN : 200 ≤ N) (Z : RZ bx C0 σ0 h L)
    (Fx : xk_C → Nat → Option (xk_C × (Nat ⊕ Option Nat))) (Fm : gm_S → Option gm_S)
    (hF : ∀ at_ cd lv (C : xk_C) (σ : gm_S), RS bx C0 σ0 h L ha T W F nK gT op at_ cd lv C σ → OT bx C0 σ0 h L ha T W F nK gT op at_ cd lv C (Fx C (bx + 8)) (Fm σ)) :
    ∀ at_ cd lv (C : xk_C) (σ : gm_S), RS bx C0 σ0 h L ha T W F nK gT op at_ cd lv C σ → OT bx C0 σ0 h L ha T W F nK gT op at_ cd lv C (fX2_some Fx N (bx + 8) C) (fX3_some Fm N σ) := by
  intro at_ cd lv C σ R
  have hL := Z.2.2.2.1
  have hB := both_p (N := N) hN Z Fx Fm hF
  unfold fX2_some fX3_some
  rw [g_is (R.kr Z), ev_b]
  rcases hB _ _ _ _ _ R with ⟨C4, σ4, a2, cd2, ls2, at2, f3, f4, R4, ⟨l1, l2⟩, tr2', FB4, l3, l4⟩ | ⟨C4, σ4, e4, at4, f3, f4, W4, l1, l2, l3⟩
  · rw [f3, ev_b, f4, ev_b]
    exact loop_l (ch := 124) (by omega) false Z (fun C b => fX2_both Fx N b C) (fX3_every Fm N) hB (fX2_some_L5 Fx N (bx + 8)) (fX3_some_L4 Fm N) (fun _ _ _ => rfl) (fun _ _ => rfl) R.2.2.2.2.2.2.2.2.1 (L + 1) N N at2 a2 cd2 ls2 C4 σ4 (by omega) (by omega) (by omega) R4 l1 l2 tr2' FB4 l3 l4
  · rw [f3, ev_b, f4, ev_b]
    obtain ⟨N, rfl⟩ : ∃ j, N = j + 1 := ⟨N - 1, by omega⟩
    right
    refine ⟨C4, σ4, e4, at4, rfl, ?_, W4, l1, l2, l3⟩
    unfold fX3_some_L4
    rw [if_neg (by rw [W4.2.2.2.1]; decide)]
end
end
section
/-! STAGE 2: the reader: a fact -/
section
variable {bx : Nat} {C0 C : xk_C} {σ0 σ : gm_S} {h L ha T W F nK op at_ : Nat} {gT : Nat → Nat} {cd : List Int32} {lv : List (Nat × Nat)}
theorem dead_183 {N : Nat} (hN : 1 ≤ N) (Fm : gm_S → Option gm_S) (σ : gm_S) (x2 x3 : Int32) : ∃ σ', fX3_factor_B183 Fm N σ x2 x3 = some σ' ∧ Mf [15] [] (gm_set σ 14 1) σ' := by
  unfold fX3_factor_B183 fX3_factor_B188 fX3_factor_B208 fX3_factor_B243
  have g1 : gs (gm_set σ 14 1) 14 = 1 := by rw [gs_set, if_pos rfl]
  rw [m_pz (.inr rfl), ev_b, if_neg (by rw [g1]; decide), m_pt, ev_b]
  have M1 : Mf [15] [] (gm_set σ 14 1) (gm_set (gm_set σ 14 1) 13 (gs (gm_set σ 14 1) 13 + 0)) := dead13
  have g2 : gs (gm_set (gm_set σ 14 1) 13 (gs (gm_set σ 14 1) 13 + 0)) 14 = 1 := (M1.1 14 (by decide)).trans g1
  generalize gm_set (gm_set σ 14 1) 13 (gs (gm_set σ 14 1) 13 + 0) = σ2 at *
  obtain ⟨σ3, v, f, M⟩ := dead_number hN g2
  have g3 : gs σ3 14 = 1 := (M.1 14 (by decide)).trans g2
  rw [f, ev_b]
  refine ⟨σ3, ?_, M1.trans M⟩
  by_cases c : x3 = nI 60
  · rw [if_pos c, dead_emits g3, ev_b]
  · rw [if_neg c]
    by_cases c' : x3 = nI 61
    · rw [if_pos c', dead_emits g3, ev_b]
    · rw [if_neg c', dead_emits g3, ev_b]
theorem letter_n {y : Int32} (f2 : fX3_here σ = some y) (n : ∀ w, w < 5 → ¬ y = nI (lc w)) : fX3_letter σ = some (-1) := by
  unfold fX3_letter
  rw [f2, ev_b]
  have a0 : ¬ y = nI 102 := n 0 (by decide)
  have a1 : ¬ y = nI 103 := n 1 (by decide)
  have a2 : ¬ y = nI 115 := n 2 (by decide)
  have a3 : ¬ y = nI 111 := n 3 (by decide)
  have a4 : ¬ y = nI 110 := n 4 (by decide)
  simp only [a0, a1, a2, a3, a4, if_false, ite_self]
theorem letter_y {w : Nat} (hw : w < 5) (f2 : fX3_here σ = some (nI (lc w))) : fX3_letter σ = some (nI w) := by
  unfold fX3_letter
  rw [f2, ev_b]
  have cs : w = 0 ∨ w = 1 ∨ w = 2 ∨ w = 3 ∨ w = 4 := by omega
  rcases cs with rfl | rfl | rfl | rfl | rfl <;> rfl
theorem here_s {σ' : gm_S} (e12 : gs σ' 12 = gs σ 12) (e13 : gs σ' 13 = gs σ 13) (ea : ∀ k j, ga σ' k j = ga σ k j) : fX3_here σ' = fX3_here σ := by
  unfold fX3_here gm_rd
  simp only [e12, e13, ea]
/-- the letter's branch of the class -/
theorem fact_x2 {N w : Nat} (hw : w < 5) (Fx : xk_C → Nat → Option (xk_C × (Nat ⊕ Option Nat))) (kr : xk_k C (bx + 8) = 3) (f1 : fX2_next (bx + 8) C = some (nI (lc w))) : fX2_factB Fx N (bx + 8) C = (xk_gi C 33 (some (bx + 8))).bind fun v34 => (xk_pi C 33 (some (bx + 8)) (v34 + 1)).bind fun σ35 => (xk_is σ35 3 (some (bx + 8))).bind fun b37 => (fX2_next b37 σ35).bind fun r36 => if r36 = nI 60 then fX2_fact_B176 Fx N (bx + 8) σ35 (nI (lc w)) r36 else if r36 = nI 61 then fX2_fact_B176 Fx N (bx + 8) σ35 (nI (lc w)) r36 else if r36 = nI 62 then fX2_fact_B176 Fx N (bx + 8) σ35 (nI (lc w)) r36 else (xk_nw σ35 14).bind fun σ51 => (xk_gi σ51 33 (some (bx + 8))).bind fun v52 => (fX14_init (xk_n σ35) σ51 v52).bind fun r53 => some (r53.1, .inl (xk_n σ35)) := by
  unfold fX2_factB
  rw [g_is kr, ev_b, f1, ev_b]
  have cs : w = 0 ∨ w = 1 ∨ w = 2 ∨ w = 3 ∨ w = 4 := by omega
  rcases cs with rfl | rfl | rfl | rfl | rfl
  · rw [if_neg (by decide), if_neg (by decide), if_pos (by decide)]
  · rw [if_neg (by decide), if_neg (by decide), if_neg (by decide), if_pos (by decide)]
  · rw [if_neg (by decide), if_neg (by decide), if_neg (by decide), if_neg (by decide), if_neg (by decide), if_neg (by decide), if_pos (by decide)]
  · rw [if_neg (by decide), if_neg (by decide), if_neg (by decide), if_neg (by decide), if_neg (by decide), if_pos (by decide)]
  · rw [if_neg (by decide), if_neg (by decide), if_neg (by decide), if_neg (by decide), if_pos (by decide)]
/-- a letter -/
theorem fact_w {N : Nat} (hN : 10 ≤ N) (Fx : xk_C → Nat → Option (xk_C × (Nat ⊕ Option Nat))) (Fm : gm_S → Option gm_S) (Z : RZ bx C0 σ0 h L) (R : RS bx C0 σ0 h L ha T W F nK gT op at_ cd lv C σ) {w : Nat} (hw : w < 5) (hat : at_ < L) (f1 : fX2_next (bx + 8) C = some (nI (lc w))) (f2 : fX3_here σ = some (nI (lc w))) : OT bx C0 σ0 h L ha T W F nK gT op at_ cd lv C (fX2_factB Fx N (bx + 8) C) (fX3_factorB Fm N σ) := by
  have kr := R.kr Z
  have g14 := R.2.2.2.2.2.2.1.2.2.1
  have g13 := R.2.2.2.2.2.2.1.2.1
  have i33 := R.2.1.2.1
  have hcd := R.2.2.2.2.2.2.2.2.1
  have hlv := R.2.2.2.2.2.2.2.2.2.1
  rw [fact_x2 hw Fx kr f1, g_i kr rfl, i33, ev_b, p_i kr rfl, ev_b, s_a1]
  have hm : fX3_factorB Fm N σ = (fX3_here (gm_set σ 13 (nI (at_ + 1)))).bind fun r13 => if gs (gm_set σ 13 (nI (at_ + 1))) 14 = 0 then if r13 = nI 60 then fX3_factor_B187 Fm N (gm_set σ 13 (nI (at_ + 1))) (nI w) r13 else if r13 = nI 61 then fX3_factor_B187 Fm N (gm_set σ 13 (nI (at_ + 1))) (nI w) r13 else if r13 = nI 62 then fX3_factor_B187 Fm N (gm_set σ 13 (nI (at_ + 1))) (nI w) r13 else fX3_factor_B183 Fm N (gm_set σ 13 (nI (at_ + 1))) (nI w) r13 else fX3_factor_B183 Fm N (gm_set σ 13 (nI (at_ + 1))) (nI w) r13 := by
    unfold fX3_factorB
    have l33 : ¬ nI (lc w) = nI 33 := by
      have cs : w = 0 ∨ w = 1 ∨ w = 2 ∨ w = 3 ∨ w = 4 := by omega
      rcases cs with rfl | rfl | rfl | rfl | rfl <;> decide
    have l40 : ¬ nI (lc w) = nI 40 := by
      have cs : w = 0 ∨ w = 1 ∨ w = 2 ∨ w = 3 ∨ w = 4 := by omega
      rcases cs with rfl | rfl | rfl | rfl | rfl <;> decide
    rw [if_pos g14, f2, ev_b, if_neg l33, if_neg l40, letter_y hw f2, ev_b, if_neg (s_m1 w (by omega))]
    unfold fX3_factor_B128 fX3_factor_B148
    rw [m_pz (.inl rfl), ev_b, gm_id σ 14 0 g14, if_pos g14, m_pt, ev_b, g13, s_a1]
  rw [hm]
  have R1 := R.stp Z hat
  have FB1 : Fr [33, 34, 101, 103] [102] lsE C (xk_si C 33 (bx + 8) (nI (at_ + 1))) := Fr.refl.si _ _ _ (.inl (by decide))
  have n1 : xk_n (xk_si C 33 (bx + 8) (nI (at_ + 1))) = xk_n C := rfl
  have s1 : xk_s (xk_si C 33 (bx + 8) (nI (at_ + 1))) = xk_s C := rfl
  generalize xk_si C 33 (bx + 8) (nI (at_ + 1)) = C1 at *
  generalize gm_set σ 13 (nI (at_ + 1)) = σ1 at *
  obtain ⟨x, y, e1, e2, q, hl, -, -⟩ := R1.next Z
  have g14' := R1.2.2.2.2.2.2.1.2.2.1
  rw [g_is (R1.kr Z), ev_b, e1, ev_b, e2, ev_b, if_pos g14']
  have key : ∀ hh, hh < 3 → x = nI (60 + hh) → OT bx C0 σ0 h L ha T W F nK gT op at_ cd lv C (fX2_fact_B176 Fx N (bx + 8) C1 (nI (lc w)) x) (fX3_factor_B187 Fm N σ1 (nI w) y) := by
    intro hh hh3 ex
    have ey := (q.is (show 60 + hh < 128 by omega)).mp ex
    have hl1 := hl (60 + hh) ex (by omega)
    rw [ex, ey]
    have B := leaf_b (N := N) hN Fx Fm Z R1 (w := w) (hh := hh) hw hh3 hl1 (by omega) (by omega)
    rw [show at_ + 1 - 1 = at_ by omega] at B
    rcases B with ⟨C', σ', a, cdn, lsn, at', b1, b2, b3, b4, b5, b6, b7, b8⟩ | ⟨C', σ', e', at', b1, b2, b3, b4, b5, b6⟩
    · exact .inl ⟨C', σ', a, cdn, lsn, at', b1, b2, b3, b4, b5, FB1.trans b6, by omega, by omega⟩
    · exact .inr ⟨C', σ', e', at', b1, b2, b3, b4, by omega, by omega⟩
  by_cases c0 : x = nI 60
  · rw [if_pos c0, if_pos ((q.is (by omega)).mp c0)]; exact key 0 (by omega) c0
  · rw [if_neg c0, if_neg (fun z => c0 ((q.is (by omega)).mpr z))]
    by_cases c1 : x = nI 61
    · rw [if_pos c1, if_pos ((q.is (by omega)).mp c1)]; exact key 1 (by omega) c1
    · rw [if_neg c1, if_neg (fun z => c1 ((q.is (by omega)).mpr z))]
      by_cases c2 : x = nI 62
      · rw [if_pos c2, if_pos ((q.is (by omega)).mp c2)]; exact key 2 (by omega) c2
      · rw [if_neg c2, if_neg (fun z => c2 ((q.is (by omega)).mpr z))]
        obtain ⟨σ', f, M⟩ := dead_183 (N := N) (by omega) Fm σ1 (nI w) y
        rw [f]
        right
        obtain ⟨C', σ'', e', at', b1, b2, b3, b4, b5, b6⟩ := R1.bad (β := Option Nat) Z M
        exact ⟨C', σ'', e', at', b1, b2, b3, by omega, by omega, by omega⟩
/-- no fact at all -/
theorem fact_n {N : Nat} (hN : 10 ≤ N) (Fx : xk_C → Nat → Option (xk_C × (Nat ⊕ Option Nat))) (Fm : gm_S → Option gm_S) (Z : RZ bx C0 σ0 h L) (R : RS bx C0 σ0 h L ha T W F nK gT op at_ cd lv C σ) {x y : Int32} (q : cq x y) (f1 : fX2_next (bx + 8) C = some x) (f2 : fX3_here σ = some y) (n33 : ¬ x = nI 33) (n40 : ¬ x = nI 40) (nw : ∀ w, w < 5 → ¬ x = nI (lc w)) : OB C0 σ0 h L at_ C (fX2_factB Fx N (bx + 8) C) (fX3_factorB Fm N σ) := by
  have kr := R.kr Z
  have g14 := R.2.2.2.2.2.2.1.2.2.1
  have ll : ∀ w, w < 5 → lc w < 128 := by decide
  have a0 : ¬ x = nI 102 := nw 0 (by decide)
  have a1 : ¬ x = nI 103 := nw 1 (by decide)
  have a2 : ¬ x = nI 115 := nw 2 (by decide)
  have a3 : ¬ x = nI 111 := nw 3 (by decide)
  have a4 : ¬ x = nI 110 := nw 4 (by decide)
  have hx : fX2_factB Fx N (bx + 8) C = (xk_nw C 14).bind fun σ5 => (xk_gi σ5 33 (some (bx + 8))).bind fun v6 => (fX14_init (xk_n C) σ5 v6).bind fun r7 => some (r7.1, .inl (xk_n C)) := by
    unfold fX2_factB
    rw [g_is kr, ev_b, f1, ev_b, if_neg n33, if_neg n40, if_neg a0, if_neg a1, if_neg a4, if_neg a3, if_neg a2]
  have hm : fX3_factorB Fm N σ = fX3_factor_B128 Fm N σ (-1) 1 := by
    unfold fX3_factorB
    rw [if_pos g14, f2, ev_b, if_neg (fun z => n33 ((q.is (by omega)).mpr z)), if_neg (fun z => n40 ((q.is (by omega)).mpr z)), letter_n f2 (fun w hw z => nw w hw ((q.is (ll w hw)).mpr z)), ev_b, if_pos rfl]
  rw [hx, hm]
  unfold fX3_factor_B128 fX3_factor_B148
  have g1 : gs (gm_set σ 14 1) 14 = 1 := by rw [gs_set, if_pos rfl]
  rw [m_pz (.inr rfl), ev_b, if_neg (by rw [g1]; decide), m_pt, ev_b]
  have M1 : Mf [15] [] (gm_set σ 14 1) (gm_set (gm_set σ 14 1) 13 (gs (gm_set σ 14 1) 13 + 0)) := dead13
  have g2 : gs (gm_set (gm_set σ 14 1) 13 (gs (gm_set σ 14 1) 13 + 0)) 14 = 1 := (M1.1 14 (by decide)).trans g1
  have hh : fX3_here (gm_set (gm_set σ 14 1) 13 (gs (gm_set σ 14 1) 13 + 0)) = some y := by
    rw [← f2]
    refine here_s ?_ ?_ (fun _ _ => rfl)
    · rw [M1.1 12 (by decide), gs_set, if_neg (by decide)]
    · rw [M1.1 13 (by decide), gs_set, if_neg (by decide)]
  generalize gm_set (gm_set σ 14 1) 13 (gs (gm_set σ 14 1) 13 + 0) = σ2 at *
  rw [hh, ev_b, if_neg (by rw [g2]; decide)]
  obtain ⟨σ3, f, M⟩ := dead_183 (N := N) (by omega) Fm σ2 (-1) y
  rw [f]
  exact R.bad Z ((M1.trans (dead14 g2)).trans M)
end
end
section
/-! STAGE 2: the reader: brackets, facts -/
section
variable {bx : Nat} {C0 C : xk_C} {σ0 σ : gm_S} {h L ha T W F nK op at_ : Nat} {gT : Nat → Nat} {cd : List Int32} {lv : List (Nat × Nat)}
theorem set15 (σ : gm_S) (v : Int32) : Mf [15] [] σ (gm_set σ 15 v) := Mf.refl.set _ _ (by decide)
/-- the reference at a bracket that may open -/
theorem open_m {N : Nat} (Fm : gm_S → Option gm_S) (g14 : gs σ 14 = 0) (g13 : gs σ 13 = nI at_) (g15 : gs σ 15 = nI op) (ho : op < 5) (y : Int32) : fX3_factor_B25 Fm N σ y = (if y = nI 33 then (Fm (gm_set (gm_set σ 15 (nI (op + 1))) 13 (nI (at_ + 1)))).bind fun r8 => (fX3_emits r8 (-1)).bind fun r9 => some (gm_set r9 15 (gs r9 15 - 1)) else (fX3_some Fm N (gm_set (gm_set σ 15 (nI (op + 1))) 13 (nI (at_ + 1)))).bind fun r5 => (fX3_must r5 (nI 41)).bind fun r6 => some (gm_set r6 15 (gs r6 15 - 1))) := by
  unfold fX3_factor_B25 fX3_factor_B39 fX3_factor_B69 fX3_factor_B101
  have n5 : ¬ nI op = 5 := fun z => by have := (s_eq op 5 (by omega) (by omega)).mp z; omega
  rw [g15, if_neg n5, m_pz (.inl rfl), ev_b, gm_id σ 14 0 g14, m_pt, ev_b, g15, s_a1, if_pos (by rw [gs_set, if_neg (by decide)]; exact g14), m_pt, ev_b, show gs (gm_set σ 15 (nI (op + 1))) 13 = nI at_ by rw [gs_set, if_neg (by decide), g13], s_a1]
  rfl
/-- the reference at one bracket too many -/
theorem open_d {N : Nat} (hN : 1 ≤ N) (Fm : gm_S → Option gm_S) (hd : ∀ σ, gs σ 14 = 1 → Fm σ = some σ) (g15 : gs σ 15 = 5) (y : Int32) : ∃ σ', fX3_factor_B25 Fm N σ y = some σ' ∧ Mf [15] [] (gm_set σ 14 1) σ' := by
  unfold fX3_factor_B25 fX3_factor_B39 fX3_factor_B69 fX3_factor_B101
  have g1 : gs (gm_set (gm_set σ 14 1) 15 (gs (gm_set σ 14 1) 15 + 1)) 14 = 1 := by rw [gs_set, if_neg (by decide), gs_set, if_pos rfl]
  rw [if_pos g15, m_pz (.inr rfl), ev_b, m_pt, ev_b, if_neg (by rw [g1]; decide), m_pt, ev_b]
  have M1 : Mf [15] [] (gm_set σ 14 1) (gm_set (gm_set σ 14 1) 15 (gs (gm_set σ 14 1) 15 + 1)) := set15 _ _
  generalize gm_set (gm_set σ 14 1) 15 (gs (gm_set σ 14 1) 15 + 1) = σ2 at *
  have M2 : Mf [15] [] σ2 (gm_set σ2 13 (gs σ2 13 + 0)) := dead13
  have g3 : gs (gm_set σ2 13 (gs σ2 13 + 0)) 14 = 1 := (M2.1 14 (by decide)).trans g1
  generalize gm_set σ2 13 (gs σ2 13 + 0) = σ3 at *
  by_cases c : y = nI 33
  · rw [if_pos c, hd σ3 g3, ev_b, dead_emits g3, ev_b, m_pt, ev_b]
    exact ⟨_, rfl, (M1.trans M2).trans (set15 _ _)⟩
  · obtain ⟨σ4, f, M4⟩ := dead_must g3 (nI 41)
    rw [if_neg c, dead_some hN Fm (hd σ3 g3) g3, ev_b, f, ev_b, m_pt, ev_b]
    exact ⟨_, rfl, ((M1.trans M2).trans M4).trans (set15 _ _)⟩
theorem fact_no {N : Nat} (hN : 10 ≤ N) (Fx : xk_C → Nat → Option (xk_C × (Nat ⊕ Option Nat))) (Fm : gm_S → Option gm_S) (hd : ∀ σ, gs σ 14 = 1 → Fm σ = some σ)
    (hF : op < 5 → ∀ at_ cd lv (C : xk_C) (σ : gm_S), RS bx C0 σ0 h L ha T W F nK gT (op + 1) at_ cd lv C σ → OT bx C0 σ0 h L ha T W F nK gT (op + 1) at_ cd lv C (Fx C (bx + 8)) (Fm σ))
    (Z : RZ bx C0 σ0 h L) (ho5 : op ≤ 5) (R : RS bx C0 σ0 h L ha T W F nK gT op at_ cd lv C σ) (hat : at_ < L) (f1 : fX2_next (bx + 8) C = some (nI 33)) (f2 : fX3_here σ = some (nI 33)) : OT bx C0 σ0 h L ha T W F nK gT op at_ cd lv C (fX2_factB Fx N (bx + 8) C) (fX3_factorB Fm N σ) := by
  have kr := R.kr Z
  have g14 := R.2.2.2.2.2.2.1.2.2.1
  have g13 := R.2.2.2.2.2.2.1.2.1
  have g15 := R.2.2.2.2.2.2.1.2.2.2.1
  rw [Nat.mod_eq_of_lt (by omega)] at g15
  have hcd := R.2.2.2.2.2.2.2.2.1
  have nb := R.nb Z
  have hm : fX3_factorB Fm N σ = fX3_factor_B25 Fm N σ (nI 33) := by
    unfold fX3_factorB; rw [if_pos g14, f2, ev_b, if_pos rfl]
  unfold fX2_factB
  rw [hm, g_is kr, ev_b, f1, ev_b, if_pos rfl, ev_b]
  rcases opens_l Z R hat ho5 with ⟨ho, e1, R1⟩ | ⟨ho, e1⟩
  · rw [e1, ev_b, open_m Fm g14 g13 g15 ho, if_pos rfl]
    have FB1 : Fr [33, 34, 101, 103] [102] lsE C (xk_si (xk_si C 34 (bx + 8) (nI (op + 1))) 33 (bx + 8) (nI (at_ + 1))) := (Fr.refl.si _ _ _ (.inl (by decide))).si _ _ _ (.inl (by decide))
    have n1 : xk_n (xk_si (xk_si C 34 (bx + 8) (nI (op + 1))) 33 (bx + 8) (nI (at_ + 1))) = xk_n C := rfl
    have s1 : xk_s (xk_si (xk_si C 34 (bx + 8) (nI (op + 1))) 33 (bx + 8) (nI (at_ + 1))) = xk_s C := rfl
    generalize xk_si (xk_si C 34 (bx + 8) (nI (op + 1))) 33 (bx + 8) (nI (at_ + 1)) = C1 at *
    generalize gm_set (gm_set σ 15 (nI (op + 1))) 13 (nI (at_ + 1)) = σ1 at *
    show OT bx C0 σ0 h L ha T W F nK gT op at_ cd lv C ((xk_is C1 3 (some (bx + 8))).bind fun b9 => (Fx C1 b9).bind fun r10 => xk_th r10 fun σ11 v12 => (xk_gi σ11 34 (some (bx + 8))).bind fun v13 => (xk_pi σ11 34 (some (bx + 8)) (v13 - 1)).bind fun σ14 => (xk_nw σ14 15).bind fun σ15 => (fX15_init (xk_n σ14) σ15 v12).bind fun r16 => some (r16.1, .inr (some (xk_n σ14)))) _
    rw [g_is (R1.kr Z), ev_b]
    rcases hF ho _ _ _ _ _ R1 with ⟨C4, σ4, a2, cd2, ls2, at2, f3, f4, R4, ⟨l1, l2⟩, tr2', FB4, l3, l4⟩ | ⟨C4, σ4, e4, at4, f3, f4, W4, l1, l2, l3⟩
    · rw [f3, ev_b, f4, ev_b]
      have kr4 := R4.kr Z
      obtain ⟨σ5, g1, R5⟩ := R4.emit Z (by rw [List.length_append]; omega) (-1)
      rw [g1, ev_b]
      show OT bx C0 σ0 h L ha T W F nK gT op at_ cd lv C ((xk_gi C4 34 (some (bx + 8))).bind fun v13 => (xk_pi C4 34 (some (bx + 8)) (v13 - 1)).bind fun σ14 => (xk_nw σ14 15).bind fun σ15 => (fX15_init (xk_n σ14) σ15 (some a2)).bind fun r16 => some (r16.1, .inr (some (xk_n σ14)))) _
      have eo : nI (op + 1) - 1 = nI op := s_s1 (op + 1) (by omega)
      rw [g_i kr4 rfl, R4.2.1.2.2 (by omega), ev_b, p_i kr4 rfl, ev_b, R5.2.2.2.2.2.2.1.2.2.2.1, Nat.mod_eq_of_lt (by omega : op + 1 < 6), eo]
      have R6 := R5.opn (op' := op) (by omega)
      have FB5 : Fr [33, 34, 101, 103] [102] lsE C4 (xk_si C4 34 (bx + 8) (nI op)) := Fr.refl.si _ _ _ (.inl (by decide))
      have n5 : xk_n (xk_si C4 34 (bx + 8) (nI op)) = xk_n C4 := rfl
      have s5 : xk_s (xk_si C4 34 (bx + 8) (nI op)) = xk_s C4 := rfl
      generalize xk_si C4 34 (bx + 8) (nI op) = C5 at *
      generalize gm_set σ5 15 (nI op) = σ6 at *
      have ew : xk_nw C5 15 = some (xk_mk C5 16 0 1) := rfl
      have kt : xk_k (xk_mk C5 16 0 1) (xk_n C5) = 16 := by rw [k_mk, if_pos rfl]
      have Fn : Fr [] [] (fun _ _ => false) C5 (xk_sr (xk_mk C5 16 0 1) 77 (xk_n C5) (some a2)) := (Fr.refl.mk _ _ _ (by decide)).sr _ _ _ (.inr (Nat.le_refl _)) (by decide)
      have FB6 : Fr [33, 34, 101, 103] [102] lsE C5 (xk_sr (xk_mk C5 16 0 1) 77 (xk_n C5) (some a2)) := (Fr.refl.mk _ _ _ (by decide)).sr _ _ _ (.inr (Nat.le_refl _)) (by decide)
      have r77 : xk_r (xk_sr (xk_mk C5 16 0 1) 77 (xk_n C5) (some a2)) 77 (xk_n C5) = some a2 := by rw [r_sr, if_pos ⟨rfl, rfl⟩]
      have n6 : xk_n (xk_sr (xk_mk C5 16 0 1) 77 (xk_n C5) (some a2)) = xk_n C5 + 1 := rfl
      have s6 : xk_s (xk_sr (xk_mk C5 16 0 1) 77 (xk_n C5) (some a2)) = xk_s C5 + 1 := rfl
      have kt6 : xk_k (xk_sr (xk_mk C5 16 0 1) 77 (xk_n C5) (some a2)) (xk_n C5) = 16 := kt
      rw [ew, ev_b]
      unfold fX15_init
      rw [p_r kt rfl, ev_b, ev_b]
      have nb5 : bx + 8 < xk_n C5 := by have := R6.nb Z; omega
      have R7 := R6.fr nb5 Fn (R6.1.1.none0 Fn) (by simp) (by simp) (fun _ _ => rfl)
      generalize xk_sr (xk_mk C5 16 0 1) 77 (xk_n C5) (some a2) = C6 at *
      rw [List.append_assoc] at R7
      left
      refine ⟨C6, σ6, xk_n C5, cd2 ++ [-1], ls2, at2, rfl, rfl, R7, ⟨by omega, by rw [List.length_append, List.length_singleton]; omega⟩, ?_, ((FB1.trans FB4).trans FB5).trans FB6, by omega, by omega⟩
      rw [List.length_append, List.length_singleton]
      exact .inr (.inl ⟨a2, cd2, kt6, by omega, r77, tr2.fr (FB5.trans FB6) (by decide) (by decide) (by decide) (by decide) (by decide) (by decide) _ _ _ _ tr2', rfl⟩)
    · rw [f3, ev_b, f4, ev_b, dead_emits W4.2.2.2.1, ev_b]
      right
      refine ⟨C4, _, e4, at4, rfl, rfl, W4.dead (set15 _ _), by omega, by omega, by omega⟩
  · obtain ⟨σ', f, M⟩ := open_d (N := N) (by omega) Fm hd (by rw [g15, ho]; rfl) (nI 33)
    rw [f]
    obtain ⟨C', σ'', e', at', b1, b2, b3, b4, b5, b6⟩ := e1 σ' M
    rw [b1, ev_b]
    cases b2
    exact .inr ⟨C', σ', e', at', rfl, rfl, b3, b4, b5, b6⟩
theorem fact_br {N : Nat} (hN : 200 ≤ N) (Fx : xk_C → Nat → Option (xk_C × (Nat ⊕ Option Nat))) (Fm : gm_S → Option gm_S) (hd : ∀ σ, gs σ 14 = 1 → Fm σ = some σ)
    (hF : op < 5 → ∀ at_ cd lv (C : xk_C) (σ : gm_S), RS bx C0 σ0 h L ha T W F nK gT (op + 1) at_ cd lv C σ → OT bx C0 σ0 h L ha T W F nK gT (op + 1) at_ cd lv C (Fx C (bx + 8)) (Fm σ))
    (Z : RZ bx C0 σ0 h L) (ho5 : op ≤ 5) (R : RS bx C0 σ0 h L ha T W F nK gT op at_ cd lv C σ) (hat : at_ < L) (f1 : fX2_next (bx + 8) C = some (nI 40)) (f2 : fX3_here σ = some (nI 40)) : OT bx C0 σ0 h L ha T W F nK gT op at_ cd lv C (fX2_factB Fx N (bx + 8) C) (fX3_factorB Fm N σ) := by
  have kr := R.kr Z
  have g14 := R.2.2.2.2.2.2.1.2.2.1
  have g13 := R.2.2.2.2.2.2.1.2.1
  have g15 := R.2.2.2.2.2.2.1.2.2.2.1
  rw [Nat.mod_eq_of_lt (by omega)] at g15
  have hcd := R.2.2.2.2.2.2.2.2.1
  have nb := R.nb Z
  have hm : fX3_factorB Fm N σ = fX3_factor_B25 Fm N σ (nI 40) := by
    unfold fX3_factorB; rw [if_pos g14, f2, ev_b, if_neg (by decide), if_pos rfl]
  unfold fX2_factB
  rw [hm, g_is kr, ev_b, f1, ev_b, if_neg (by decide), if_pos rfl, ev_b]
  rcases opens_l Z R hat ho5 with ⟨ho, e1, R1⟩ | ⟨ho, e1⟩
  · rw [e1, ev_b, open_m Fm g14 g13 g15 ho, if_neg (by decide)]
    have FB1 : Fr [33, 34, 101, 103] [102] lsE C (xk_si (xk_si C 34 (bx + 8) (nI (op + 1))) 33 (bx + 8) (nI (at_ + 1))) := (Fr.refl.si _ _ _ (.inl (by decide))).si _ _ _ (.inl (by decide))
    have n1 : xk_n (xk_si (xk_si C 34 (bx + 8) (nI (op + 1))) 33 (bx + 8) (nI (at_ + 1))) = xk_n C := rfl
    have s1 : xk_s (xk_si (xk_si C 34 (bx + 8) (nI (op + 1))) 33 (bx + 8) (nI (at_ + 1))) = xk_s C := rfl
    generalize xk_si (xk_si C 34 (bx + 8) (nI (op + 1))) 33 (bx + 8) (nI (at_ + 1)) = C1 at *
    generalize gm_set (gm_set σ 15 (nI (op + 1))) 13 (nI (at_ + 1)) = σ1 at *
    show OT bx C0 σ0 h L ha T W F nK gT op at_ cd lv C ((xk_is C1 3 (some (bx + 8))).bind fun b23 => (fX2_some Fx N b23 C1).bind fun r24 => xk_th r24 fun σ25 v26 => (xk_is σ25 3 (some (bx + 8))).bind fun b28 => (fX2_sign b28 σ25 (nI 41)).bind fun r29 => xk_th r29 fun σ30 v31 => (xk_gi σ30 34 (some (bx + 8))).bind fun v32 => (xk_pi σ30 34 (some (bx + 8)) (v32 - 1)).bind fun σ33 => some (σ33, .inr v26)) _
    rw [g_is (R1.kr Z), ev_b]
    rcases some_p (N := N) hN Z Fx Fm (hF ho) _ _ _ _ _ R1 with ⟨C4, σ4, a2, cd2, ls2, at2, f3, f4, R4, ⟨l1, l2⟩, tr2', FB4, l3, l4⟩ | ⟨C4, σ4, e4, at4, f3, f4, W4, l1, l2, l3⟩
    · rw [f3, ev_b, f4, ev_b]
      show OT bx C0 σ0 h L ha T W F nK gT op at_ cd lv C ((xk_is C4 3 (some (bx + 8))).bind fun b28 => (fX2_sign b28 C4 (nI 41)).bind fun r29 => xk_th r29 fun σ30 v31 => (xk_gi σ30 34 (some (bx + 8))).bind fun v32 => (xk_pi σ30 34 (some (bx + 8)) (v32 - 1)).bind fun σ33 => some (σ33, .inr (some a2))) _
      rw [g_is (R4.kr Z), ev_b]
      rcases sign_l (c := 41) Z R4 (by omega) with ⟨ht, j1, j2, R5⟩ | ⟨C5, σ5, e5, at5, j1, j2, W5, l5, l6, l7⟩
      · rw [j1, ev_b, j2, ev_b]
        have FB5 : Fr [33, 34, 101, 103] [102] lsE C4 (xk_si C4 33 (bx + 8) (nI (at2 + 1))) := Fr.refl.si _ _ _ (.inl (by decide))
        have n5 : xk_n (xk_si C4 33 (bx + 8) (nI (at2 + 1))) = xk_n C4 := rfl
        have s5 : xk_s (xk_si C4 33 (bx + 8) (nI (at2 + 1))) = xk_s C4 := rfl
        generalize xk_si C4 33 (bx + 8) (nI (at2 + 1)) = C5 at *
        generalize gm_set σ4 13 (nI (at2 + 1)) = σ5 at *
        have kr5 := R5.kr Z
        show OT bx C0 σ0 h L ha T W F nK gT op at_ cd lv C ((xk_gi C5 34 (some (bx + 8))).bind fun v32 => (xk_pi C5 34 (some (bx + 8)) (v32 - 1)).bind fun σ33 => some (σ33, .inr (some a2))) _
        have eo : nI (op + 1) - 1 = nI op := s_s1 (op + 1) (by omega)
        rw [g_i kr5 rfl, R5.2.1.2.2 (by omega), ev_b, p_i kr5 rfl, ev_b, R5.2.2.2.2.2.2.1.2.2.2.1, Nat.mod_eq_of_lt (by omega : op + 1 < 6), eo]
        have R6 := R5.opn (op' := op) (by omega)
        have FB6 : Fr [33, 34, 101, 103] [102] lsE C5 (xk_si C5 34 (bx + 8) (nI op)) := Fr.refl.si _ _ _ (.inl (by decide))
        have n6 : xk_n (xk_si C5 34 (bx + 8) (nI op)) = xk_n C5 := rfl
        have s6 : xk_s (xk_si C5 34 (bx + 8) (nI op)) = xk_s C5 := rfl
        left
        exact ⟨_, _, a2, cd2, ls2, at2 + 1, rfl, rfl, R6, ⟨by omega, by omega⟩, tr2.fr (FB5.trans FB6) (by decide) (by decide) (by decide) (by decide) (by decide) (by decide) _ _ _ _ tr2', ((FB1.trans FB4).trans FB5).trans FB6, by omega, by omega⟩
      · rw [j1, ev_b, j2, ev_b]
        right
        exact ⟨C5, _, e5, at5, rfl, rfl, W5.dead (set15 _ _), by omega, by omega, by omega⟩
    · rw [f3, ev_b, f4, ev_b]
      obtain ⟨σ6, j, M6⟩ := dead_must W4.2.2.2.1 (nI 41)
      rw [j, ev_b]
      right
      exact ⟨C4, _, e4, at4, rfl, rfl, (W4.dead M6).dead (set15 _ _), by omega, by omega, by omega⟩
  · obtain ⟨σ', f, M⟩ := open_d (N := N) (by omega) Fm hd (by rw [g15, ho]; rfl) (nI 40)
    rw [f]
    obtain ⟨C', σ'', e', at', b1, b2, b3, b4, b5, b6⟩ := e1 σ' M
    rw [b1, ev_b]
    cases b2
    exact .inr ⟨C', σ', e', at', rfl, rfl, b3, b4, b5, b6⟩
/-- a fact, both sides -/
theorem fact_l {N : Nat} (hN : 200 ≤ N) (Z : RZ bx C0 σ0 h L) : ∀ D op at_ cd lv (C : xk_C) (σ : gm_S), 7 ≤ D + op → op ≤ 5 → RS bx C0 σ0 h L ha T W F nK gT op at_ cd lv C σ → OT bx C0 σ0 h L ha T W F nK gT op at_ cd lv C (fX2_fact N D C (bx + 8)) (fX3_factor N D σ) := by
  intro D
  induction D with
  | zero => intro op at_ cd lv C σ hD ho R; omega
  | succ D ih =>
    intro op at_ cd lv C σ hD ho R
    obtain ⟨D', rfl⟩ : ∃ j, D = j + 1 := ⟨D - 1, by omega⟩
    obtain ⟨x, y, f1, f2, q, hl, -, -⟩ := R.next Z
    rw [fX2_fact, fX3_factor]
    have hd : ∀ σ, gs σ 14 = 1 → fX3_factor N (D' + 1) σ = some σ := fun σ g => dead_factor N D' g
    have hF : op < 5 → ∀ at_ cd lv (C : xk_C) (σ : gm_S), RS bx C0 σ0 h L ha T W F nK gT (op + 1) at_ cd lv C σ → OT bx C0 σ0 h L ha T W F nK gT (op + 1) at_ cd lv C (fX2_fact N (D' + 1) C (bx + 8)) (fX3_factor N (D' + 1) σ) := fun h5 at_ cd lv C σ R => ih (op + 1) at_ cd lv C σ (by omega) (by omega) R
    by_cases c1 : x = nI 33
    · have c1' := (q.is (by omega)).mp c1
      rw [c1] at f1; rw [c1'] at f2
      exact fact_no (by omega) _ _ hd hF Z ho R (hl 33 c1 (by omega)) f1 f2
    · by_cases c2 : x = nI 40
      · have c2' := (q.is (by omega)).mp c2
        rw [c2] at f1; rw [c2'] at f2
        exact fact_br hN _ _ hd hF Z ho R (hl 40 c2 (by omega)) f1 f2
      · by_cases c3 : ∃ w, w < 5 ∧ x = nI (lc w)
        · obtain ⟨w, hw, ex⟩ := c3
          have ll : ∀ w, w < 5 → lc w < 128 := by decide
          have ey := (q.is (ll w hw)).mp ex
          have hlw := hl (lc w) ex (ll w hw)
          rw [ex] at f1; rw [ey] at f2
          exact fact_w (by omega) _ _ Z R hw hlw f1 f2
        · right
          exact fact_n (by omega) _ _ Z R q f1 f2 c1 c2 (fun w hw e => c3 ⟨w, hw, e⟩)
end
end
