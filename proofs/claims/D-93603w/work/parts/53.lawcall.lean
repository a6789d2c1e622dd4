set_option maxRecDepth 100000
section LC
variable {w : gw_W} {X : gx_X} {mi : gx_M} {n : Nat} {P' : Heap → Prop} {oc : Outcome} {ss pc n0 : Nat} {lv : List (Option Value)} {rest st : List Value} {C C' : xk_C} {σ σ' : gm_S} {y : MethodName} {mi2 : gx_M} {n2 index b : Nat} {As : List Value} {r : Int32}
/-- the count of cells follows from the heap -/
theorem lx_conv {P : Heap → Prop} {a b ss : Nat} (h : ∀ H, P H → a = b) (k : gx_G X P b ss lv pc st) : gx_G X P a ss lv pc st := fun H locs ls hP hS hl => by
  rw [h H hP]
  exact k H locs ls hP hS hl
theorem lx_less {P Q : Heap → Prop} {a ss : Nat} (h : ∀ H, P H → Q H) (k : gx_G X Q a ss lv pc st) : gx_G X P a ss lv pc st := fun H locs ls hP hS hl => k H locs ls (h H hP) hS hl
/-- what the law's walk knows -/
def lx_K (w : gw_W) (X : gx_X) (mi : gx_M) (n n0 : Nat) (P' : Heap → Prop) (oc : Outcome) : Prop := gx_O (gw_I w (gx_A X)) X mi n 601024 7293033 P' oc ∧ (∀ q, gx_A X q ↔ n0 ≤ q) ∧ (gx_s X).heap.size = n0 ∧ n0 ≤ gw_mo w
theorem lx_I (K : lx_K w X mi n n0 P' oc) {A : Nat → Prop} (hA : ∀ q, A q → n0 ≤ q) : gx_Inv (gw_I w A) A ∧ ∀ U, gw_I w (gx_A X) U → gw_I w A U := ⟨gw_I.inv w A, fun U h => h.narrow (fun q hq => (K.2.1 q).mpr (hA q hq))⟩
theorem lx_cA (K : lx_K w X mi n n0 P' oc) (hM : gx_T (gw_I w (lx_A n0 w)) (lx_A n0 w) (gx_l X) y mi2 n2 (va_rf (some b) :: As) (xk_P (lx_A n0 w) w C) (xk_n C' - xk_n C) (xk_s C' - xk_s C) (xk_P (lx_A n0 w) w C') (.returned (some (.int r)))) (hG : GoodIn lw_all (wsV mi.1 index "ShellBeach" y (ws_ y mi2.2.2.1 mi2.2.2.2.1 mi2.2.2.2.2))) (hy : y.cls = "ShellBeach" ∧ gx_ds y As.length) (hn : n2 + 1 ≤ n) (hL : mi2.2.2.2.1 ≤ 21) (hk : xk_k C b = 1) (hn0 : n0 ≤ xk_n C) (hb : (xk_n C - n0 ≤ 601024 ∧ xk_n C' - n0 ≤ 601024) ∧ ss + (xk_s C' - xk_s C) ≤ 7293033)
    (hst : st = As.reverse ++ va_rf (some b) :: rest) (hW : (rest.map fun v => v.category).sum ≤ 8) (hd : decode mi.2.2.1 pc = .ok (.invokevirtual index, 3)) (hlen : mi.2.2.2.1 = lv.length) (k : gx_G X (lx_P n0 w C' σ) (xk_n C' - n0) (ss + (xk_s C' - xk_s C)) lv (pc + 3) (.int r :: rest)) : gx_G X (lx_P n0 w C σ) (xk_n C - n0) ss lv pc st := by
  refine gx_cVf (P3 := fun H => lx_P n0 w C' σ H ∧ xk_n C ≤ xk_n C') K.1 hM (fun q hq => (K.2.1 q).mpr hq.1) (lx_I K (fun q hq => hq.1)) hG hy hn hL (lx_rcx K.1 hk) (fun H h => h.1) (fun H H' h h2 hz hq _ => ⟨lx_fx h h2 hq, ?_⟩) hst hW hd (by omega) hlen ?_
  · rw [← h.1.1, ← h2.1]
    exact hz
  · exact lx_conv (fun H h => by omega) (lx_less (fun H h => h.1) k)
theorem lx_cN (K : lx_K w X mi n n0 P' oc) (hM : gx_T (gw_I w (lx_A n0 w)) (lx_A n0 w) (gx_l X) y mi2 n2 (va_rf (some b) :: As) (xk_P (lx_A n0 w) w C) 0 0 (xk_P (lx_A n0 w) w C') (.returned (some (.int r)))) (hG : GoodIn lw_all (wsV mi.1 index "ShellBeach" y (ws_ y mi2.2.2.1 mi2.2.2.2.1 mi2.2.2.2.2))) (hy : y.cls = "ShellBeach" ∧ gx_ds y As.length) (hn : n2 + 1 ≤ n) (hL : mi2.2.2.2.1 ≤ 21) (hk : xk_k C b = 1) (hn0 : n0 ≤ xk_n C) (hb : xk_n C - n0 ≤ 601024 ∧ ss ≤ 7293033)
    (hst : st = As.reverse ++ va_rf (some b) :: rest) (hW : (rest.map fun v => v.category).sum ≤ 8) (hd : decode mi.2.2.1 pc = .ok (.invokevirtual index, 3)) (hlen : mi.2.2.2.1 = lv.length) (k : gx_G X (lx_P n0 w C' σ) (xk_n C' - n0) ss lv (pc + 3) (.int r :: rest)) : gx_G X (lx_P n0 w C σ) (xk_n C - n0) ss lv pc st := by
  refine gx_cVf (P3 := fun H => lx_P n0 w C' σ H ∧ xk_n C = xk_n C') K.1 hM (fun q hq => (K.2.1 q).mpr hq.1) (lx_I K (fun q hq => hq.1)) hG hy hn hL (lx_rcx K.1 hk) (fun H h => h.1) (fun H H' h h2 hz hq hs => ⟨lx_fx h h2 hq, ?_⟩) hst hW hd (by omega) hlen ?_
  · have e1 := h.1.1
    have e2 := h2.1
    rw [K.2.2.1] at hs
    omega
  · exact lx_conv (fun H h => by have := h.2; omega) (lx_less (fun H h => h.1) k)
theorem lx_cW (K : lx_K w X mi n n0 P' oc) {hh : List (Nat × Nat × Nat × Nat)} (hM : gx_TW (gw_I w (lx_A n0 w)) (lx_A n0 w) (gx_l X) y mi2 hh n2 (va_rf (some b) :: As) (xk_P (lx_A n0 w) w C) (xk_n C' - xk_n C) (xk_s C' - xk_s C) (xk_P (lx_A n0 w) w C') (.returned (some (.int r)))) (hG : GoodIn lw_all (wsV mi.1 index "ShellBeach" y (wsW_ y mi2.2.2.1 mi2.2.2.2.1 mi2.2.2.2.2 hh))) (hy : y.cls = "ShellBeach" ∧ gx_ds y As.length) (hn : n2 + 1 ≤ n) (hL : mi2.2.2.2.1 ≤ 21) (hk : xk_k C b = 1) (hn0 : n0 ≤ xk_n C) (hb : (xk_n C - n0 ≤ 601024 ∧ xk_n C' - n0 ≤ 601024) ∧ ss + (xk_s C' - xk_s C) ≤ 7293033)
    (hst : st = As.reverse ++ va_rf (some b) :: rest) (hW : (rest.map fun v => v.category).sum ≤ 8) (hd : decode mi.2.2.1 pc = .ok (.invokevirtual index, 3)) (hlen : mi.2.2.2.1 = lv.length) (k : gx_G X (lx_P n0 w C' σ) (xk_n C' - n0) (ss + (xk_s C' - xk_s C)) lv (pc + 3) (.int r :: rest)) : gx_G X (lx_P n0 w C σ) (xk_n C - n0) ss lv pc st := by
  refine gx_cVfW (P3 := fun H => lx_P n0 w C' σ H ∧ xk_n C ≤ xk_n C') K.1 hM (fun q hq => (K.2.1 q).mpr hq.1) (lx_I K (fun q hq => hq.1)) hG hy hn hL (lx_rcx K.1 hk) (fun H h => h.1) (fun H H' h h2 hz hq _ => ⟨lx_fx h h2 hq, ?_⟩) hst hW hd (by omega) hlen ?_
  · rw [← h.1.1, ← h2.1]
    exact hz
  · exact lx_conv (fun H h => by omega) (lx_less (fun H h => h.1) k)
theorem lx_cM (K : lx_K w X mi n n0 P' oc) (hM : gx_T (gw_I w (gm_A w)) (gm_A w) (gx_l X) y mi2 n2 (va_rf (some (gw_mo w)) :: As) (gm_P w σ) 0 0 (gm_P w σ') (.returned (some (.int r)))) (hG : GoodIn lw_all (wsV mi.1 index "ShellBeachModel" y (ws_ y mi2.2.2.1 mi2.2.2.2.1 mi2.2.2.2.2))) (hy : y.cls = "ShellBeachModel" ∧ gx_ds y As.length) (hn : n2 + 1 ≤ n) (hL : mi2.2.2.2.1 ≤ 21) (hn0 : n0 ≤ xk_n C) (hb : xk_n C - n0 ≤ 601024 ∧ ss ≤ 7293033)
    (hst : st = As.reverse ++ va_rf (some (gw_mo w)) :: rest) (hW : (rest.map fun v => v.category).sum ≤ 8) (hd : decode mi.2.2.1 pc = .ok (.invokevirtual index, 3)) (hlen : mi.2.2.2.1 = lv.length) (k : gx_G X (lx_P n0 w C σ') (xk_n C - n0) ss lv (pc + 3) (.int r :: rest)) : gx_G X (lx_P n0 w C σ) (xk_n C - n0) ss lv pc st := by
  refine gx_cVf (P3 := lx_P n0 w C σ') K.1 hM (fun q hq => (K.2.1 q).mpr (Nat.le_trans K.2.2.2 hq.1)) (lx_I K (fun q hq => Nat.le_trans K.2.2.2 hq.1)) hG hy hn hL (lx_rcm K.1) (fun H h => h.2) (fun H H' h h2 hz hq hs => ?_) hst hW hd (by omega) hlen k
  rw [K.2.2.1] at hs
  exact lx_fm h h2 hz hq hs hn0
end LC
