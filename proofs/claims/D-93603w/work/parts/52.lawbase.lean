set_option maxRecDepth 100000
/-! THE LAW's PICTURE: the beach's heap beside the Model's state -/
/-- the beach's addresses -/
def lx_A (n0 : Nat) (w : gw_W) : Nat → Prop := fun q => n0 ≤ q ∧ ¬ gm_A w q
def lx_P (n0 : Nat) (w : gw_W) (C : xk_C) (σ : gm_S) (H : Heap) : Prop := xk_P (lx_A n0 w) w C H ∧ gm_P w σ H
theorem gm_k_ex : ∀ j, 1 ≤ j → j ≤ 16 → ∃ k, gm_off k = j ∧ 0 < gm_len k := by
  intro j h1 h2
  have : j = 1 ∨ j = 2 ∨ j = 3 ∨ j = 4 ∨ j = 5 ∨ j = 6 ∨ j = 7 ∨ j = 8 ∨ j = 9 ∨ j = 10 ∨ j = 11 ∨ j = 12 ∨ j = 13 ∨ j = 14 ∨ j = 15 ∨ j = 16 := by omega
  rcases this with rfl | rfl | rfl | rfl | rfl | rfl | rfl | rfl | rfl | rfl | rfl | rfl | rfl | rfl | rfl | rfl
  · exact ⟨1, rfl, by decide⟩
  · exact ⟨2, rfl, by decide⟩
  · exact ⟨3, rfl, by decide⟩
  · exact ⟨8, rfl, by decide⟩
  · exact ⟨9, rfl, by decide⟩
  · exact ⟨10, rfl, by decide⟩
  · exact ⟨11, rfl, by decide⟩
  · exact ⟨16, rfl, by decide⟩
  · exact ⟨17, rfl, by decide⟩
  · exact ⟨18, rfl, by decide⟩
  · exact ⟨19, rfl, by decide⟩
  · exact ⟨23, rfl, by decide⟩
  · exact ⟨27, rfl, by decide⟩
  · exact ⟨28, rfl, by decide⟩
  · exact ⟨29, rfl, by decide⟩
  · exact ⟨34, rfl, by decide⟩
/-- every cell of the Model has slots -/
theorem gm_cell {w : gw_W} {σ : gm_S} {H : Heap} (h : gm_P w σ H) {q : Nat} (hq : gm_A w q) : ∃ cell : Cell, H[q]? = some cell ∧ 0 < cell.slots.size := by
  by_cases h0 : q = gw_mo w
  · subst h0
    obtain ⟨cell, q1, q2, q3, q4⟩ := h.1
    refine ⟨cell, q1, ?_⟩
    have h2 := (Array.getElem?_eq_some_iff.mp (q4 0 (by decide))).1
    omega
  · obtain ⟨k, hk, hl⟩ := gm_k_ex (q - gw_mo w) (by have := hq.1; omega) (by have := hq.2; omega)
    have e : gm_a w k = q := by unfold gm_a; rw [hk]; have := hq.1; omega
    have h2 := h.2 k (by rw [hk]; have := hq.1; omega)
    rw [e] at h2
    exact ⟨_, h2, by rw [arrV_size]; exact hl⟩
theorem lx_fx {n0 : Nat} {w : gw_W} {C C' : xk_C} {σ : gm_S} {H H' : Heap} (h : lx_P n0 w C σ H) (h' : xk_P (lx_A n0 w) w C' H') (hq : ∀ q : Nat, q < H.size → ¬ lx_A n0 w q → H'[q]? = H[q]?) : lx_P n0 w C' σ H' :=
  ⟨h', h.2.kept fun q hA => by
    obtain ⟨cell, hc, -⟩ := gm_cell h.2 hA
    exact hq q (Array.getElem?_eq_some_iff.mp hc).1 (fun hx => hx.2 hA)⟩
theorem lx_fm {n0 : Nat} {w : gw_W} {C : xk_C} {σ σ' : gm_S} {H H' : Heap} (h : lx_P n0 w C σ H) (h' : gm_P w σ' H') (hz : H.size ≤ H'.size) (hq : ∀ q : Nat, q < H.size → ¬ gm_A w q → H'[q]? = H[q]?) (hs : H'.size ≤ n0 + (xk_n C - n0 + 0)) (hn : n0 ≤ xk_n C) : lx_P n0 w C σ' H' := by
  obtain ⟨⟨p1, p2, p3, p4, p5, p6, p7⟩, hm⟩ := h
  have hsz : H'.size = xk_n C := by omega
  have hna : ∀ a (cell : Cell), xk_k C a ≠ 0 → H[a]? = some cell → (30 ≤ xk_k C a → xk_l C a = 0 → cell.slots.size = 0) → H'[a]? = H[a]? := fun a cell hk hc h0 => by
    refine hq a (Array.getElem?_eq_some_iff.mp hc).1 (fun hA => ?_)
    rcases p4 a hk with q | q
    · exact q.2 hA
    · obtain ⟨cell2, hc2, hpos⟩ := gm_cell hm hA
      cases hc.symm.trans hc2
      have := h0 q.1 q.2
      omega
  refine ⟨⟨hsz, p2, p3, p4, fun a ci hci h3 hk => ?_, fun a t ht hk => ?_, fun a t ht ht2 hk => ?_⟩, h'⟩
  · have h5 := p5 a ci hci h3 hk
    obtain ⟨cell, hc, -⟩ := id h5
    exact h5.kept (hna a cell (by omega) hc (fun q => by omega))
  · have h6 := p6 a t ht hk
    rw [hna a _ (by omega) h6 (fun _ q => by rw [arrV_size, q])]
    exact h6
  · have h7 := p7 a t ht ht2 hk
    obtain ⟨cell, c1, c2, c3, -⟩ := h7.cell
    exact h7.kept (hna a cell (by omega) c1 (fun _ q => by rw [c3, q])) rfl (fun _ => rfl)
section LB
variable {w : gw_W} {A : Nat → Prop} {X : gx_X} {mi : gx_M} {n dc ds : Nat} {P' : Heap → Prop} {oc : Outcome} {cs ss pc : Nat} {lv : List (Option Value)} {rest : List Value} {P : Heap → Prop}
theorem lx_rcx (hX : gx_O (gw_I w A) X mi n dc ds P' oc) {n0 : Nat} {C : xk_C} {σ : gm_S} {b : Nat} (hk : xk_k C b = 1) : gx_rc X (lx_P n0 w C σ) "ShellBeach" b := fun H hP => by
  obtain ⟨cell, q1, q2, q3, -⟩ := hP.1.2.2.2.2.1 b 0 (by decide) (by decide) hk
  exact ⟨cell, q1, by rw [q3]; rfl, by rw [q2]; exact (hX.2.2.2.2.2.2.2.1.1.1 0 _ (xk_at 0 (by decide))).2.1⟩
theorem lx_rcm (hX : gx_O (gw_I w A) X mi n dc ds P' oc) {n0 : Nat} {C : xk_C} {σ : gm_S} : gx_rc X (lx_P n0 w C σ) "ShellBeachModel" (gw_mo w) := fun H hP => by
  obtain ⟨cell, q1, q2, q3, -⟩ := hP.2.1
  exact ⟨cell, q1, by rw [q3]; rfl, by rw [q2]; exact (hX.2.2.2.2.2.2.2.1.1.1 3 _ (xk_at 3 (by decide))).2.1⟩
variable {b L i : Nat} {xs : Nat → Int32} {v1 v2 : Value}
theorem lx_arg (hX : gx_O (gw_I w A) X mi n dc ds P' oc) (hx : va_X b L xs (gx_s X) (gx_s X).heap) (hb : b < (gx_s X).heap.size ∧ ¬ gx_A X b) (hlv : lv = [some (va_rf (some b)), some v1, some v2, some (.int (nI i))]) {a : Int} {j : Nat} (hL : i + j < L ∧ L < 2 ^ 31) (ha : Int32.ofInt a = nI j)
    (hd : decode mi.2.2.1 pc = .ok (.aload_n 0, 1) ∧ decode mi.2.2.1 (pc + 1) = .ok (.iload_n 3, 1) ∧ decode mi.2.2.1 (pc + 2) = .ok (.iconst a, 1) ∧ decode mi.2.2.1 (pc + 3) = .ok (.iadd, 1) ∧ decode mi.2.2.1 (pc + 4) = .ok (.iaload, 1)) (k : gx_G X P cs ss lv (pc + 5) (.int (xs (i + j)) :: rest)) : gx_G X P cs ss lv pc rest := by
  subst hlv
  refine gx_aload_n hX hd.1 rfl ?_
  refine gx_iload_n hX hd.2.1 rfl ?_
  refine gx_iconst (v := nI j) hX hd.2.2.1 ha ?_
  refine gx_iadd hX hd.2.2.2.1 ?_
  rw [nI_add]
  refine lx_sld hX hx hb (vp_in_nI hL.1 hL.2) hd.2.2.2.2 ?_
  rw [nI_clamp (Nat.lt_trans hL.1 hL.2)]
  exact k
theorem lx_argb (hX : gx_O (gw_I w A) X mi n dc ds P' oc) (hx : va_X b L xs (gx_s X) (gx_s X).heap) (hb : b < (gx_s X).heap.size ∧ ¬ gx_A X b) (hlv : lv = [some (va_rf (some b)), some v1, some v2, some (.int (nI i))]) {a : Int} {j : Nat} (hL : i + j < L ∧ L < 2 ^ 31) (ha : (Int8.ofInt a).toInt32 = nI j)
    (hd : decode mi.2.2.1 pc = .ok (.aload_n 0, 1) ∧ decode mi.2.2.1 (pc + 1) = .ok (.iload_n 3, 1) ∧ decode mi.2.2.1 (pc + 2) = .ok (.bipush a, 2) ∧ decode mi.2.2.1 (pc + 4) = .ok (.iadd, 1) ∧ decode mi.2.2.1 (pc + 5) = .ok (.iaload, 1)) (k : gx_G X P cs ss lv (pc + 6) (.int (xs (i + j)) :: rest)) : gx_G X P cs ss lv pc rest := by
  subst hlv
  refine gx_aload_n hX hd.1 rfl ?_
  refine gx_iload_n hX hd.2.1 rfl ?_
  refine gx_bipush (v := nI j) hX hd.2.2.1 ha ?_
  refine gx_iadd hX hd.2.2.2.1 ?_
  rw [nI_add]
  refine lx_sld hX hx hb (vp_in_nI hL.1 hL.2) hd.2.2.2.2 ?_
  rw [nI_clamp (Nat.lt_trans hL.1 hL.2)]
  exact k
end LB
