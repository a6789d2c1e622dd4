set_option maxRecDepth 100000
abbrev iX3_mend : gx_M := (RX3, "mend", cX3_mend, 9, some .int)
theorem dsX3_mend : gx_ds yX3_mend 4 := by decide +kernel
def fX3_mend_B158 (N : Nat)  (K73 : gm_S → Int32 → Int32 → Int32 → Int32 → Int32 → Option (gm_S × Int32)) (K82 : gm_S → Int32 → Int32 → Int32 → Int32 → Int32 → Int32 → Option (gm_S × Int32)) (K96 : gm_S → Int32 → Int32 → Int32 → Int32 → Int32 → Int32 → Int32 → Option (gm_S × Int32)) (σ : gm_S) (x1 : Int32) (x2 : Int32) (x3 : Int32) (x4 : Int32) (x5 : Int32) (x6 : Int32) (x7 : Int32) : Option (gm_S × Int32) := K96 σ (x1) (x2) (x3) (x4) (x5) (x6) ((x7) + 2)
set_option maxHeartbeats 4000000 in
theorem tX3_mend_B158 {w : gw_W} {X : gx_X} {N : Nat} {r : gm_S × Int32} (hA : ∀ q, gm_A w q → gx_A X q) (hX : gx_O (gw_I w (gx_A X)) X iX3_mend 9 0 0 (gm_P w r.1) (.returned (some (.int r.2)))) {K73 : gm_S → Int32 → Int32 → Int32 → Int32 → Int32 → Option (gm_S × Int32)} {K82 : gm_S → Int32 → Int32 → Int32 → Int32 → Int32 → Int32 → Option (gm_S × Int32)} {K96 : gm_S → Int32 → Int32 → Int32 → Int32 → Int32 → Int32 → Int32 → Option (gm_S × Int32)} (hK73 : ∀ (σ : gm_S) (x1 : Int32) (x2 : Int32) (x3 : Int32) (x4 : Int32) (x5 : Int32), K73 σ x1 x2 x3 x4 x5 = some r → gx_G X (gm_P w σ) 0 0 [some (va_rf (some (gw_mo w))), some (.int (x1)), some (.int (x2)), some (.int (x3)), some (.int (x4)), some (.int (x5)), none, none, none] 73 []) (hK82 : ∀ (σ : gm_S) (x1 : Int32) (x2 : Int32) (x3 : Int32) (x4 : Int32) (x5 : Int32) (x6 : Int32), K82 σ x1 x2 x3 x4 x5 x6 = some r → gx_G X (gm_P w σ) 0 0 [some (va_rf (some (gw_mo w))), some (.int (x1)), some (.int (x2)), some (.int (x3)), some (.int (x4)), some (.int (x5)), some (.int (x6)), none, none] 82 []) (hK96 : ∀ (σ : gm_S) (x1 : Int32) (x2 : Int32) (x3 : Int32) (x4 : Int32) (x5 : Int32) (x6 : Int32) (x7 : Int32), K96 σ x1 x2 x3 x4 x5 x6 x7 = some r → gx_G X (gm_P w σ) 0 0 [some (va_rf (some (gw_mo w))), some (.int (x1)), some (.int (x2)), some (.int (x3)), some (.int (x4)), some (.int (x5)), some (.int (x6)), some (.int (x7)), none] 96 []) {σ : gm_S} {x1 : Int32} {x2 : Int32} {x3 : Int32} {x4 : Int32} {x5 : Int32} {x6 : Int32} {x7 : Int32} (h : fX3_mend_B158 N K73 K82 K96 σ x1 x2 x3 x4 x5 x6 x7 = some r) : gx_G X (gm_P w σ) 0 0 [some (va_rf (some (gw_mo w))), some (.int (x1)), some (.int (x2)), some (.int (x3)), some (.int (x4)), some (.int (x5)), some (.int (x6)), some (.int (x7)), none] 158 [] := by
  unfold fX3_mend_B158 at h
  refine gx_iinc (v := 2) hX dX3_mend_158 rfl (by decide) gx_c1i (lv' := [some (va_rf (some (gw_mo w))), some (.int (x1)), some (.int (x2)), some (.int (x3)), some (.int (x4)), some (.int (x5)), some (.int (x6)), some (.int ((x7) + 2)), none]) rfl ?_
  refine gx_goto (tgt := 96) hX dX3_mend_161 (by decide) ?_
  exact hK96 _ _ _ _ _ _ _ _ h
def fX3_mend_L96 (N : Nat)  (K73 : gm_S → Int32 → Int32 → Int32 → Int32 → Int32 → Option (gm_S × Int32)) (K82 : gm_S → Int32 → Int32 → Int32 → Int32 → Int32 → Int32 → Option (gm_S × Int32)) : Nat → gm_S → Int32 → Int32 → Int32 → Int32 → Int32 → Int32 → Int32 → Option (gm_S × Int32)
  | 0, _, _, _, _, _, _, _, _ => none
  | k + 1, σ, x1, x2, x3, x4, x5, x6, x7 => if (2) ≤ x7 then K82 σ (x1) (x2) (x3) (x4) (x5) ((x6) + 1) else (fX3_numberOf N (σ) (x1) (x6)).bind fun r7 => (fX3_isThousand  ((r7) + ((x7) * (x5)))).bind fun r8 => if r8 = 0 then fX3_mend_B158 N K73 K82 (fX3_mend_L96 N K73 K82 k) σ (x1) (x2) (x3) (x4) (x5) (x6) (x7) else (fX3_pointsBehind N (σ) (x1) (x6) ((x7) * (x5)) (x2)).bind fun r9 => if (r9.2) < x3 then fX3_mend_B158 N K73 K82 (fX3_mend_L96 N K73 K82 k) r9.1 (x1) (x2) (x3) (x4) (x5) (x6) (x7) else if x4 = 0 then some (r9.1, (x7) * (x5)) else some (r9.1, x6)
set_option maxHeartbeats 4000000 in
theorem tX3_mend_L96 {w : gw_W} {X : gx_X} {N : Nat} {r : gm_S × Int32} (hA : ∀ q, gm_A w q → gx_A X q) (hX : gx_O (gw_I w (gx_A X)) X iX3_mend 9 0 0 (gm_P w r.1) (.returned (some (.int r.2)))) {K73 : gm_S → Int32 → Int32 → Int32 → Int32 → Int32 → Option (gm_S × Int32)} {K82 : gm_S → Int32 → Int32 → Int32 → Int32 → Int32 → Int32 → Option (gm_S × Int32)} (hK73 : ∀ (σ : gm_S) (x1 : Int32) (x2 : Int32) (x3 : Int32) (x4 : Int32) (x5 : Int32), K73 σ x1 x2 x3 x4 x5 = some r → gx_G X (gm_P w σ) 0 0 [some (va_rf (some (gw_mo w))), some (.int (x1)), some (.int (x2)), some (.int (x3)), some (.int (x4)), some (.int (x5)), none, none, none] 73 []) (hK82 : ∀ (σ : gm_S) (x1 : Int32) (x2 : Int32) (x3 : Int32) (x4 : Int32) (x5 : Int32) (x6 : Int32), K82 σ x1 x2 x3 x4 x5 x6 = some r → gx_G X (gm_P w σ) 0 0 [some (va_rf (some (gw_mo w))), some (.int (x1)), some (.int (x2)), some (.int (x3)), some (.int (x4)), some (.int (x5)), some (.int (x6)), none, none] 82 []) : ∀ (k : Nat) (σ : gm_S) (x1 : Int32) (x2 : Int32) (x3 : Int32) (x4 : Int32) (x5 : Int32) (x6 : Int32) (x7 : Int32), fX3_mend_L96 N K73 K82 k σ x1 x2 x3 x4 x5 x6 x7 = some r → gx_G X (gm_P w σ) 0 0 [some (va_rf (some (gw_mo w))), some (.int (x1)), some (.int (x2)), some (.int (x3)), some (.int (x4)), some (.int (x5)), some (.int (x6)), some (.int (x7)), none] 96 [] := by
  intro k
  induction k with
  | zero =>
    intro σ x1 x2 x3 x4 x5 x6 x7 h
    unfold fX3_mend_L96 at h
    cases h
  | succ k ih =>
    intro σ x1 x2 x3 x4 x5 x6 x7 h
    unfold fX3_mend_L96 at h
    refine gx_iload hX dX3_mend_96 rfl ?_
    refine gx_iconst (v := 2) hX dX3_mend_98 (by decide) ?_
    refine gx_icmp_ge (tgt := 164) hX dX3_mend_99 (by decide) h (fun h => ?_) (fun h => ?_)
    · refine gx_iinc (v := 1) hX dX3_mend_164 rfl (by decide) gx_c1i (lv' := [some (va_rf (some (gw_mo w))), some (.int (x1)), some (.int (x2)), some (.int (x3)), some (.int (x4)), some (.int (x5)), some (.int ((x6) + 1)), some (.int (x7)), none]) rfl ?_
      refine gx_goto (tgt := 82) hX dX3_mend_167 (by decide) ?_
      refine gx_sub hX (lv' := [some (va_rf (some (gw_mo w))), some (.int (x1)), some (.int (x2)), some (.int (x3)), some (.int (x4)), some (.int (x5)), some (.int ((x6) + 1)), none, none]) ⟨Or.inr rfl, ⟨Or.inr rfl, ⟨Or.inr rfl, ⟨Or.inr rfl, ⟨Or.inr rfl, ⟨Or.inr rfl, ⟨Or.inr rfl, ⟨Or.inl rfl, ⟨Or.inr rfl, trivial⟩⟩⟩⟩⟩⟩⟩⟩⟩ ?_
      exact hK82 _ _ _ _ _ _ _ h
    · refine gx_aload_n hX dX3_mend_102 rfl ?_
      refine gx_iload_n hX dX3_mend_103 rfl ?_
      refine gx_iload hX dX3_mend_104 rfl ?_
      obtain ⟨r7, hr7, h⟩ := gx_bs h
      refine gx_cV (As := [.int (x1), .int (x6)]) (rest := []) (b := gw_mo w) hX (tX3_numberOf w _ hA (gx_l X) N (σ) (x1) (x6) hr7) (lw_V q1800 q1802 qs75 q92 q1803) ⟨rfl, dsX3_numberOf⟩ (by decide) (by decide) (gm_rc hX) rfl (gx_w8 gx_k0 (Nat.le_of_ble_eq_true rfl)) dX3_mend_106 ⟨Nat.le_refl _, Nat.le_refl _⟩ rfl ?_
      refine gx_iload hX dX3_mend_109 rfl ?_
      refine gx_iload hX dX3_mend_111 rfl ?_
      refine gx_imul hX dX3_mend_113 ?_
      refine gx_iadd hX dX3_mend_114 ?_
      obtain ⟨r8, hr8, h⟩ := gx_bs h
      refine gx_cS (As := [.int ((r7) + ((x7) * (x5)))]) (rest := []) hX (tX3_isThousand w (gx_A X) (gx_l X) (gm_P w σ) ((r7) + ((x7) * (x5))) hr8) (lw_S q1656 q1657 q92 q1658) dsX3_isThousand (by decide) (by decide) rfl (gx_w8 gx_k0 (Nat.le_of_ble_eq_true rfl)) dX3_mend_115 ⟨Nat.le_refl _, Nat.le_refl _⟩ rfl ?_
      refine gx_istore hX dX3_mend_118 (Nat.le_of_ble_eq_true rfl) gx_c1i (lv' := [some (va_rf (some (gw_mo w))), some (.int (x1)), some (.int (x2)), some (.int (x3)), some (.int (x4)), some (.int (x5)), some (.int (x6)), some (.int (x7)), some (.int (r8))]) rfl ?_
      refine gx_iload hX dX3_mend_120 rfl ?_
      refine gx_if_eq (tgt := 158) hX dX3_mend_122 (by decide) h (fun h => ?_) (fun h => ?_)
      · refine gx_sub hX (lv' := [some (va_rf (some (gw_mo w))), some (.int (x1)), some (.int (x2)), some (.int (x3)), some (.int (x4)), some (.int (x5)), some (.int (x6)), some (.int (x7)), none]) ⟨Or.inr rfl, ⟨Or.inr rfl, ⟨Or.inr rfl, ⟨Or.inr rfl, ⟨Or.inr rfl, ⟨Or.inr rfl, ⟨Or.inr rfl, ⟨Or.inr rfl, ⟨Or.inl rfl, trivial⟩⟩⟩⟩⟩⟩⟩⟩⟩ ?_
        exact tX3_mend_B158 hA hX hK73 hK82 ih h
      · refine gx_aload_n hX dX3_mend_125 rfl ?_
        refine gx_iload_n hX dX3_mend_126 rfl ?_
        refine gx_iload hX dX3_mend_127 rfl ?_
        refine gx_iload hX dX3_mend_129 rfl ?_
        refine gx_iload hX dX3_mend_131 rfl ?_
        refine gx_imul hX dX3_mend_133 ?_
        refine gx_iload_n hX dX3_mend_134 rfl ?_
        obtain ⟨r9, hr9, h⟩ := gx_bs h
        refine gx_cV (As := [.int (x1), .int (x6), .int ((x7) * (x5)), .int (x2)]) (rest := []) (b := gw_mo w) hX (tX3_pointsBehind w _ hA (gx_l X) N (σ) (x1) (x6) ((x7) * (x5)) (x2) hr9) (lw_V q1795 q1797 qs74 q92 q1798) ⟨rfl, dsX3_pointsBehind⟩ (by decide) (by decide) (gm_rc hX) rfl (gx_w8 gx_k0 (Nat.le_of_ble_eq_true rfl)) dX3_mend_135 ⟨Nat.le_refl _, Nat.le_refl _⟩ rfl ?_
        refine gx_iload_n hX dX3_mend_138 rfl ?_
        refine gx_icmp_lt (tgt := 158) hX dX3_mend_139 (by decide) h (fun h => ?_) (fun h => ?_)
        · refine gx_sub hX (lv' := [some (va_rf (some (gw_mo w))), some (.int (x1)), some (.int (x2)), some (.int (x3)), some (.int (x4)), some (.int (x5)), some (.int (x6)), some (.int (x7)), none]) ⟨Or.inr rfl, ⟨Or.inr rfl, ⟨Or.inr rfl, ⟨Or.inr rfl, ⟨Or.inr rfl, ⟨Or.inr rfl, ⟨Or.inr rfl, ⟨Or.inr rfl, ⟨Or.inl rfl, trivial⟩⟩⟩⟩⟩⟩⟩⟩⟩ ?_
          exact tX3_mend_B158 hA hX hK73 hK82 ih h
        · refine gx_iload hX dX3_mend_142 rfl ?_
          refine gx_if_ne (tgt := 155) hX dX3_mend_144 (by decide) h (fun h => ?_) (fun h => ?_)
          · refine gx_iload hX dX3_mend_147 rfl ?_
            refine gx_iload hX dX3_mend_149 rfl ?_
            refine gx_imul hX dX3_mend_151 ?_
            refine gx_goto (tgt := 157) hX dX3_mend_152 (by decide) ?_
            cases h
            exact gx_iret hX rfl dX3_mend_157 rfl ⟨rfl, rfl⟩ (fun _ h => h)
          · refine gx_iload hX dX3_mend_155 rfl ?_
            cases h
            exact gx_iret hX rfl dX3_mend_157 rfl ⟨rfl, rfl⟩ (fun _ h => h)
def fX3_mend_L82 (N : Nat)  (K73 : gm_S → Int32 → Int32 → Int32 → Int32 → Int32 → Option (gm_S × Int32)) : Nat → gm_S → Int32 → Int32 → Int32 → Int32 → Int32 → Int32 → Option (gm_S × Int32)
  | 0, _, _, _, _, _, _, _ => none
  | k + 1, σ, x1, x2, x3, x4, x5, x6 => (fX3_numberOf N (σ) (x1) (x6)).bind fun r6 => if r6 = (-1) then K73 σ (x1) (x2) (x3) (x4) ((x5) + 1) else fX3_mend_L96 N K73 (fX3_mend_L82 N K73 k) N σ (x1) (x2) (x3) (x4) (x5) (x6) ((-1))
set_option maxHeartbeats 4000000 in
theorem tX3_mend_L82 {w : gw_W} {X : gx_X} {N : Nat} {r : gm_S × Int32} (hA : ∀ q, gm_A w q → gx_A X q) (hX : gx_O (gw_I w (gx_A X)) X iX3_mend 9 0 0 (gm_P w r.1) (.returned (some (.int r.2)))) {K73 : gm_S → Int32 → Int32 → Int32 → Int32 → Int32 → Option (gm_S × Int32)} (hK73 : ∀ (σ : gm_S) (x1 : Int32) (x2 : Int32) (x3 : Int32) (x4 : Int32) (x5 : Int32), K73 σ x1 x2 x3 x4 x5 = some r → gx_G X (gm_P w σ) 0 0 [some (va_rf (some (gw_mo w))), some (.int (x1)), some (.int (x2)), some (.int (x3)), some (.int (x4)), some (.int (x5)), none, none, none] 73 []) : ∀ (k : Nat) (σ : gm_S) (x1 : Int32) (x2 : Int32) (x3 : Int32) (x4 : Int32) (x5 : Int32) (x6 : Int32), fX3_mend_L82 N K73 k σ x1 x2 x3 x4 x5 x6 = some r → gx_G X (gm_P w σ) 0 0 [some (va_rf (some (gw_mo w))), some (.int (x1)), some (.int (x2)), some (.int (x3)), some (.int (x4)), some (.int (x5)), some (.int (x6)), none, none] 82 [] := by
  intro k
  induction k with
  | zero =>
    intro σ x1 x2 x3 x4 x5 x6 h
    unfold fX3_mend_L82 at h
    cases h
  | succ k ih =>
    intro σ x1 x2 x3 x4 x5 x6 h
    unfold fX3_mend_L82 at h
    refine gx_aload_n hX dX3_mend_82 rfl ?_
    refine gx_iload_n hX dX3_mend_83 rfl ?_
    refine gx_iload hX dX3_mend_84 rfl ?_
    obtain ⟨r6, hr6, h⟩ := gx_bs h
    refine gx_cV (As := [.int (x1), .int (x6)]) (rest := []) (b := gw_mo w) hX (tX3_numberOf w _ hA (gx_l X) N (σ) (x1) (x6) hr6) (lw_V q1800 q1802 qs75 q92 q1803) ⟨rfl, dsX3_numberOf⟩ (by decide) (by decide) (gm_rc hX) rfl (gx_w8 gx_k0 (Nat.le_of_ble_eq_true rfl)) dX3_mend_86 ⟨Nat.le_refl _, Nat.le_refl _⟩ rfl ?_
    refine gx_iconst (v := (-1)) hX dX3_mend_89 (by decide) ?_
    refine gx_icmp_eq (tgt := 170) hX dX3_mend_90 (by decide) h (fun h => ?_) (fun h => ?_)
    · refine gx_iinc (v := 1) hX dX3_mend_170 rfl (by decide) gx_c1i (lv' := [some (va_rf (some (gw_mo w))), some (.int (x1)), some (.int (x2)), some (.int (x3)), some (.int (x4)), some (.int ((x5) + 1)), some (.int (x6)), none, none]) rfl ?_
      refine gx_goto (tgt := 73) hX dX3_mend_173 (by decide) ?_
      refine gx_sub hX (lv' := [some (va_rf (some (gw_mo w))), some (.int (x1)), some (.int (x2)), some (.int (x3)), some (.int (x4)), some (.int ((x5) + 1)), none, none, none]) ⟨Or.inr rfl, ⟨Or.inr rfl, ⟨Or.inr rfl, ⟨Or.inr rfl, ⟨Or.inr rfl, ⟨Or.inr rfl, ⟨Or.inl rfl, ⟨Or.inr rfl, ⟨Or.inr rfl, trivial⟩⟩⟩⟩⟩⟩⟩⟩⟩ ?_
      exact hK73 _ _ _ _ _ _ h
    · refine gx_iconst (v := (-1)) hX dX3_mend_93 (by decide) ?_
      refine gx_istore hX dX3_mend_94 (Nat.le_of_ble_eq_true rfl) gx_c1i (lv' := [some (va_rf (some (gw_mo w))), some (.int (x1)), some (.int (x2)), some (.int (x3)), some (.int (x4)), some (.int (x5)), some (.int (x6)), some (.int ((-1))), none]) rfl ?_
      exact tX3_mend_L96 hA hX hK73 ih N _ _ _ _ _ _ _ _ h
def fX3_mend_L73 (N : Nat)   : Nat → gm_S → Int32 → Int32 → Int32 → Int32 → Int32 → Option (gm_S × Int32)
  | 0, _, _, _, _, _, _ => none
  | k + 1, σ, x1, x2, x3, x4, x5 => if (5) < x5 then some (σ, (-100)) else fX3_mend_L82 N (fX3_mend_L73 N k) N σ (x1) (x2) (x3) (x4) (x5) (0)
set_option maxHeartbeats 4000000 in
theorem tX3_mend_L73 {w : gw_W} {X : gx_X} {N : Nat} {r : gm_S × Int32} (hA : ∀ q, gm_A w q → gx_A X q) (hX : gx_O (gw_I w (gx_A X)) X iX3_mend 9 0 0 (gm_P w r.1) (.returned (some (.int r.2))))  : ∀ (k : Nat) (σ : gm_S) (x1 : Int32) (x2 : Int32) (x3 : Int32) (x4 : Int32) (x5 : Int32), fX3_mend_L73 N k σ x1 x2 x3 x4 x5 = some r → gx_G X (gm_P w σ) 0 0 [some (va_rf (some (gw_mo w))), some (.int (x1)), some (.int (x2)), some (.int (x3)), some (.int (x4)), some (.int (x5)), none, none, none] 73 [] := by
  intro k
  induction k with
  | zero =>
    intro σ x1 x2 x3 x4 x5 h
    unfold fX3_mend_L73 at h
    cases h
  | succ k ih =>
    intro σ x1 x2 x3 x4 x5 h
    unfold fX3_mend_L73 at h
    refine gx_iload hX dX3_mend_73 rfl ?_
    refine gx_iconst (v := 5) hX dX3_mend_75 (by decide) ?_
    refine gx_icmp_gt (tgt := 176) hX dX3_mend_76 (by decide) h (fun h => ?_) (fun h => ?_)
    · refine gx_bipush (v := (-100)) hX dX3_mend_176 (by decide) ?_
      cases h
      exact gx_iret hX rfl dX3_mend_178 rfl ⟨rfl, rfl⟩ (fun _ h => h)
    · refine gx_iconst (v := 0) hX dX3_mend_79 (by decide) ?_
      refine gx_istore hX dX3_mend_80 (Nat.le_of_ble_eq_true rfl) gx_c1i (lv' := [some (va_rf (some (gw_mo w))), some (.int (x1)), some (.int (x2)), some (.int (x3)), some (.int (x4)), some (.int (x5)), some (.int (0)), none, none]) rfl ?_
      exact tX3_mend_L82 hA hX ih N _ _ _ _ _ _ _ h
def fX3_mend (N : Nat) (σ : gm_S) (x1 : Int32) (x2 : Int32) (x3 : Int32) (x4 : Int32) : Option (gm_S × Int32) := (fX3_isHabit (σ) (x1)).bind fun r1 => if r1 = 0 then some (σ, (-1)) else (fX3_in  (x4) (0) (1)).bind fun r2 => if r2 = 0 then some (σ, (-1)) else (fX3_in  (x2) (1) (nI 10)).bind fun r3 => if r3 = 0 then some (σ, (-2)) else (fX3_in  (x3) ((-9999)) (nI 9999)).bind fun r4 => if r4 = 0 then some (σ, (-2)) else (fX3_pointsBehind N (σ) ((-1)) (0) (0) (x2)).bind fun r5 => if (r5.2) < x3 then fX3_mend_L73 N N r5.1 (x1) (x2) (x3) (x4) (1) else if x4 = 0 then some (r5.1, 0) else some (r5.1, (-5))
set_option maxHeartbeats 4000000 in
theorem tX3_mend (w : gw_W) (A : Nat → Prop) (hA : ∀ q, gm_A w q → A q) (l : Launch) (N : Nat) (σ : gm_S) (x1 : Int32) (x2 : Int32) (x3 : Int32) (x4 : Int32) {r : gm_S × Int32} (h : fX3_mend N σ x1 x2 x3 x4 = some r) : gx_T (gw_I w A) A l yX3_mend iX3_mend 9 [va_rf (some (gw_mo w)), .int (x1), .int (x2), .int (x3), .int (x4)] (gm_P w σ) 0 0 (gm_P w r.1) (.returned (some (.int r.2))) := by
  refine gx_T.of (gw_I.inv w A) (by decide) ⟨rfl, rfl⟩ (gx_kR (gx_kI (gx_kI (gx_kI (gx_kI gx_k0))))) (Nat.le_of_ble_eq_true rfl) (fun X hl hAx hX => ?_)
  subst hl
  subst hAx
  show gx_G X (gm_P w σ) 0 0 [some (va_rf (some (gw_mo w))), some (.int (x1)), some (.int (x2)), some (.int (x3)), some (.int (x4)), none, none, none, none] 0 []
  unfold fX3_mend at h
  refine gx_aload_n hX dX3_mend_0 rfl ?_
  refine gx_iload_n hX dX3_mend_1 rfl ?_
  obtain ⟨r1, hr1, h⟩ := gx_bs h
  refine gx_cV (As := [.int (x1)]) (rest := []) (b := gw_mo w) hX (tX3_isHabit w _ hA (gx_l X) (σ) (x1) hr1) (lw_V q1490 q1492 qs36 q92 q1493) ⟨rfl, dsX3_isHabit⟩ (by decide) (by decide) (gm_rc hX) rfl (gx_w8 gx_k0 (Nat.le_of_ble_eq_true rfl)) dX3_mend_2 ⟨Nat.le_refl _, Nat.le_refl _⟩ rfl ?_
  refine gx_if_eq (tgt := 18) hX dX3_mend_5 (by decide) h (fun h => ?_) (fun h => ?_)
  · refine gx_iconst (v := (-1)) hX dX3_mend_18 (by decide) ?_
    cases h
    exact gx_iret hX rfl dX3_mend_19 rfl ⟨rfl, rfl⟩ (fun _ h => h)
  · refine gx_iload hX dX3_mend_8 rfl ?_
    refine gx_iconst (v := 0) hX dX3_mend_10 (by decide) ?_
    refine gx_iconst (v := 1) hX dX3_mend_11 (by decide) ?_
    obtain ⟨r2, hr2, h⟩ := gx_bs h
    refine gx_cS (As := [.int (x4), .int (0), .int (1)]) (rest := []) hX (tX3_in w (gx_A X) (gx_l X) (gm_P w σ) (x4) (0) (1) hr2) (lw_S q1467 q1468 q92 q1469) dsX3_in (by decide) (by decide) rfl (gx_w8 gx_k0 (Nat.le_of_ble_eq_true rfl)) dX3_mend_12 ⟨Nat.le_refl _, Nat.le_refl _⟩ rfl ?_
    refine gx_if_ne (tgt := 20) hX dX3_mend_15 (by decide) h (fun h => ?_) (fun h => ?_)
    · refine gx_iconst (v := (-1)) hX dX3_mend_18 (by decide) ?_
      cases h
      exact gx_iret hX rfl dX3_mend_19 rfl ⟨rfl, rfl⟩ (fun _ h => h)
    · refine gx_iload_n hX dX3_mend_20 rfl ?_
      refine gx_iconst (v := 1) hX dX3_mend_21 (by decide) ?_
      refine gx_bipush (v := nI 10) hX dX3_mend_22 (by decide) ?_
      obtain ⟨r3, hr3, h⟩ := gx_bs h
      refine gx_cS (As := [.int (x2), .int (1), .int (nI 10)]) (rest := []) hX (tX3_in w (gx_A X) (gx_l X) (gm_P w σ) (x2) (1) (nI 10) hr3) (lw_S q1467 q1468 q92 q1469) dsX3_in (by decide) (by decide) rfl (gx_w8 gx_k0 (Nat.le_of_ble_eq_true rfl)) dX3_mend_24 ⟨Nat.le_refl _, Nat.le_refl _⟩ rfl ?_
      refine gx_if_eq (tgt := 43) hX dX3_mend_27 (by decide) h (fun h => ?_) (fun h => ?_)
      · refine gx_bipush (v := (-2)) hX dX3_mend_43 (by decide) ?_
        cases h
        exact gx_iret hX rfl dX3_mend_45 rfl ⟨rfl, rfl⟩ (fun _ h => h)
      · refine gx_iload_n hX dX3_mend_30 rfl ?_
        refine gx_sipush (v := (-9999)) hX dX3_mend_31 (by decide) ?_
        refine gx_sipush (v := nI 9999) hX dX3_mend_34 (by decide) ?_
        obtain ⟨r4, hr4, h⟩ := gx_bs h
        refine gx_cS (As := [.int (x3), .int ((-9999)), .int (nI 9999)]) (rest := []) hX (tX3_in w (gx_A X) (gx_l X) (gm_P w σ) (x3) ((-9999)) (nI 9999) hr4) (lw_S q1467 q1468 q92 q1469) dsX3_in (by decide) (by decide) rfl (gx_w8 gx_k0 (Nat.le_of_ble_eq_true rfl)) dX3_mend_37 ⟨Nat.le_refl _, Nat.le_refl _⟩ rfl ?_
        refine gx_if_ne (tgt := 46) hX dX3_mend_40 (by decide) h (fun h => ?_) (fun h => ?_)
        · refine gx_bipush (v := (-2)) hX dX3_mend_43 (by decide) ?_
          cases h
          exact gx_iret hX rfl dX3_mend_45 rfl ⟨rfl, rfl⟩ (fun _ h => h)
        · refine gx_aload_n hX dX3_mend_46 rfl ?_
          refine gx_iconst (v := (-1)) hX dX3_mend_47 (by decide) ?_
          refine gx_iconst (v := 0) hX dX3_mend_48 (by decide) ?_
          refine gx_iconst (v := 0) hX dX3_mend_49 (by decide) ?_
          refine gx_iload_n hX dX3_mend_50 rfl ?_
          obtain ⟨r5, hr5, h⟩ := gx_bs h
          refine gx_cV (As := [.int ((-1)), .int (0), .int (0), .int (x2)]) (rest := []) (b := gw_mo w) hX (tX3_pointsBehind w _ hA (gx_l X) N (σ) ((-1)) (0) (0) (x2) hr5) (lw_V q1795 q1797 qs74 q92 q1798) ⟨rfl, dsX3_pointsBehind⟩ (by decide) (by decide) (gm_rc hX) rfl (gx_w8 gx_k0 (Nat.le_of_ble_eq_true rfl)) dX3_mend_51 ⟨Nat.le_refl _, Nat.le_refl _⟩ rfl ?_
          refine gx_iload_n hX dX3_mend_54 rfl ?_
          refine gx_icmp_lt (tgt := 70) hX dX3_mend_55 (by decide) h (fun h => ?_) (fun h => ?_)
          · refine gx_iconst (v := 1) hX dX3_mend_70 (by decide) ?_
            refine gx_istore hX dX3_mend_71 (Nat.le_of_ble_eq_true rfl) gx_c1i (lv' := [some (va_rf (some (gw_mo w))), some (.int (x1)), some (.int (x2)), some (.int (x3)), some (.int (x4)), some (.int (1)), none, none, none]) rfl ?_
            exact tX3_mend_L73 hA hX  N _ _ _ _ _ _ h
          · refine gx_iload hX dX3_mend_58 rfl ?_
            refine gx_if_ne (tgt := 67) hX dX3_mend_60 (by decide) h (fun h => ?_) (fun h => ?_)
            · refine gx_iconst (v := 0) hX dX3_mend_63 (by decide) ?_
              refine gx_goto (tgt := 69) hX dX3_mend_64 (by decide) ?_
              cases h
              exact gx_iret hX rfl dX3_mend_69 rfl ⟨rfl, rfl⟩ (fun _ h => h)
            · refine gx_bipush (v := (-5)) hX dX3_mend_67 (by decide) ?_
              cases h
              exact gx_iret hX rfl dX3_mend_69 rfl ⟨rfl, rfl⟩ (fun _ h => h)
abbrev iX3_isUnder : gx_M := (RX3, "isUnder", cX3_isUnder, 2, some .boolean)
theorem dsX3_isUnder : gx_ds yX3_isUnder 2 := by decide +kernel
def fX3_isUnder_B35    : Option (Int32) := some (1)
set_option maxHeartbeats 4000000 in
theorem tX3_isUnder_B35 {w : gw_W} {X : gx_X} {P : Heap → Prop} {r : Int32} (hX : gx_O (gw_I w (gx_A X)) X iX3_isUnder 1 0 0 (P) (.returned (some (.int r))))   (h : fX3_isUnder_B35  = some r) : gx_G X (P) 0 0 [none, none] 35 [] := by
  unfold fX3_isUnder_B35 at h
  refine gx_iconst (v := 1) hX dX3_isUnder_35 (by decide) ?_
  refine gx_goto (tgt := 40) hX dX3_isUnder_36 (by decide) ?_
  cases h
  exact gx_zret hX rfl rfl dX3_isUnder_40 rfl ⟨rfl, rfl⟩ (fun _ h => h)
def fX3_isUnder_B25   (x0 : Int32) (x1 : Int32) : Option (Int32) := if x1 = 3 then if x0 = 4 then fX3_isUnder_B35  else some (0) else some (0)
set_option maxHeartbeats 4000000 in
theorem tX3_isUnder_B25 {w : gw_W} {X : gx_X} {P : Heap → Prop} {r : Int32} (hX : gx_O (gw_I w (gx_A X)) X iX3_isUnder 1 0 0 (P) (.returned (some (.int r))))  {x0 : Int32} {x1 : Int32} (h : fX3_isUnder_B25 x0 x1 = some r) : gx_G X (P) 0 0 [some (.int (x0)), some (.int (x1))] 25 [] := by
  unfold fX3_isUnder_B25 at h
  refine gx_iload_n hX dX3_isUnder_25 rfl ?_
  refine gx_iconst (v := 3) hX dX3_isUnder_26 (by decide) ?_
  refine gx_icmp_ne (tgt := 39) hX dX3_isUnder_27 (by decide) h (fun h => ?_) (fun h => ?_)
  · refine gx_iload_n hX dX3_isUnder_30 rfl ?_
    refine gx_iconst (v := 4) hX dX3_isUnder_31 (by decide) ?_
    refine gx_icmp_ne (tgt := 39) hX dX3_isUnder_32 (by decide) h (fun h => ?_) (fun h => ?_)
    · refine gx_sub hX (lv' := [none, none]) ⟨Or.inl rfl, ⟨Or.inl rfl, trivial⟩⟩ ?_
      exact tX3_isUnder_B35 hX  h
    · refine gx_iconst (v := 0) hX dX3_isUnder_39 (by decide) ?_
      cases h
      exact gx_zret hX rfl rfl dX3_isUnder_40 rfl ⟨rfl, rfl⟩ (fun _ h => h)
  · refine gx_iconst (v := 0) hX dX3_isUnder_39 (by decide) ?_
    cases h
    exact gx_zret hX rfl rfl dX3_isUnder_40 rfl ⟨rfl, rfl⟩ (fun _ h => h)
def fX3_isUnder (x0 : Int32) (x1 : Int32) : Option (Int32) := if x1 = 0 then fX3_isUnder_B35  else if x1 = x0 then fX3_isUnder_B35  else if x1 = 1 then if (x0) ≤ 2 then fX3_isUnder_B25 (x0) (x1) else if (x0) < nI 6 then fX3_isUnder_B35  else fX3_isUnder_B25 (x0) (x1) else fX3_isUnder_B25 (x0) (x1)
set_option maxHeartbeats 4000000 in
theorem tX3_isUnder (w : gw_W) (A : Nat → Prop) (l : Launch) (P : Heap → Prop) (x0 : Int32) (x1 : Int32) {r : Int32} (h : fX3_isUnder x0 x1 = some r) : gx_T (gw_I w A) A l yX3_isUnder iX3_isUnder 1 [.int (x0), .int (x1)] (P) 0 0 (P) (.returned (some (.int r))) := by
  refine gx_T.of (gw_I.inv w A) (by decide) ⟨rfl, rfl⟩ (gx_kI (gx_kI gx_k0)) (Nat.le_of_ble_eq_true rfl) (fun X hl hAx hX => ?_)
  subst hl
  subst hAx
  show gx_G X (P) 0 0 [some (.int (x0)), some (.int (x1))] 0 []
  unfold fX3_isUnder at h
  refine gx_iload_n hX dX3_isUnder_0 rfl ?_
  refine gx_if_eq (tgt := 35) hX dX3_isUnder_1 (by decide) h (fun h => ?_) (fun h => ?_)
  · refine gx_sub hX (lv' := [none, none]) ⟨Or.inl rfl, ⟨Or.inl rfl, trivial⟩⟩ ?_
    exact tX3_isUnder_B35 hX  h
  · refine gx_iload_n hX dX3_isUnder_4 rfl ?_
    refine gx_iload_n hX dX3_isUnder_5 rfl ?_
    refine gx_icmp_eq (tgt := 35) hX dX3_isUnder_6 (by decide) h (fun h => ?_) (fun h => ?_)
    · refine gx_sub hX (lv' := [none, none]) ⟨Or.inl rfl, ⟨Or.inl rfl, trivial⟩⟩ ?_
      exact tX3_isUnder_B35 hX  h
    · refine gx_iload_n hX dX3_isUnder_9 rfl ?_
      refine gx_iconst (v := 1) hX dX3_isUnder_10 (by decide) ?_
      refine gx_icmp_ne (tgt := 25) hX dX3_isUnder_11 (by decide) h (fun h => ?_) (fun h => ?_)
      · refine gx_iload_n hX dX3_isUnder_14 rfl ?_
        refine gx_iconst (v := 2) hX dX3_isUnder_15 (by decide) ?_
        refine gx_icmp_le (tgt := 25) hX dX3_isUnder_16 (by decide) h (fun h => ?_) (fun h => ?_)
        · exact tX3_isUnder_B25 hX  h
        · refine gx_iload_n hX dX3_isUnder_19 rfl ?_
          refine gx_bipush (v := nI 6) hX dX3_isUnder_20 (by decide) ?_
          refine gx_icmp_lt (tgt := 35) hX dX3_isUnder_22 (by decide) h (fun h => ?_) (fun h => ?_)
          · refine gx_sub hX (lv' := [none, none]) ⟨Or.inl rfl, ⟨Or.inl rfl, trivial⟩⟩ ?_
            exact tX3_isUnder_B35 hX  h
          · exact tX3_isUnder_B25 hX  h
      · exact tX3_isUnder_B25 hX  h
abbrev iX3_runs : gx_M := (RX3, "runs", cX3_runs, 2, none)
theorem dsX3_runs : gx_ds yX3_runs 1 := by decide +kernel
def fX3_runs_B19   (σ : gm_S) : Option (gm_S) := (gm_pt σ 35 ((gs σ 35) + (1))).bind fun σ1 => some σ1
set_option maxHeartbeats 4000000 in
theorem tX3_runs_B19 {w : gw_W} {X : gx_X} {r : gm_S} (hA : ∀ q, gm_A w q → gx_A X q) (hX : gx_O (gw_I w (gx_A X)) X iX3_runs 1 0 0 (gm_P w r) (.returned (none)))  {σ : gm_S} (h : fX3_runs_B19 σ = some r) : gx_G X (gm_P w σ) 0 0 [some (va_rf (some (gw_mo w))), none] 19 [] := by
  unfold fX3_runs_B19 at h
  refine gx_aload_n hX dX3_runs_19 rfl ?_
  refine gx_dup hX dX3_runs_20 (gx_cat _) ?_
  refine gm_getI hX 35 (by decide) rfl q1376 rfl dX3_runs_21 ?_
  refine gx_iconst (v := 1) hX dX3_runs_24 (by decide) ?_
  refine gx_iadd hX dX3_runs_25 ?_
  refine gm_putI hX hA (k := 35) ⟨by decide, rfl⟩ q1376 ⟨rfl, rfl⟩ rfl dX3_runs_26 h (fun σ1 h => ?_)
  cases h
  exact gx_vret hX rfl dX3_runs_29 rfl ⟨rfl, rfl⟩ (fun _ h => h)
def fX3_runs (σ : gm_S) (x1 : Int32) : Option (gm_S) := if (nI 20) ≤ gs σ 35 then fX3_runs_B19 σ else (gm_wr σ 34 (gs σ 35) (x1)).bind fun σ2 => fX3_runs_B19 σ2
set_option maxHeartbeats 4000000 in
theorem tX3_runs (w : gw_W) (A : Nat → Prop) (hA : ∀ q, gm_A w q → A q) (l : Launch) (σ : gm_S) (x1 : Int32) {r : gm_S} (h : fX3_runs σ x1 = some r) : gx_T (gw_I w A) A l yX3_runs iX3_runs 1 [va_rf (some (gw_mo w)), .int (x1)] (gm_P w σ) 0 0 (gm_P w r) (.returned (none)) := by
  refine gx_T.of (gw_I.inv w A) (by decide) ⟨rfl, rfl⟩ (gx_kR (gx_kI gx_k0)) (Nat.le_of_ble_eq_true rfl) (fun X hl hAx hX => ?_)
  subst hl
  subst hAx
  show gx_G X (gm_P w σ) 0 0 [some (va_rf (some (gw_mo w))), some (.int (x1))] 0 []
  unfold fX3_runs at h
  refine gx_aload_n hX dX3_runs_0 rfl ?_
  refine gm_getI hX 35 (by decide) rfl q1376 rfl dX3_runs_1 ?_
  refine gx_bipush (v := nI 20) hX dX3_runs_4 (by decide) ?_
  refine gx_icmp_ge (tgt := 19) hX dX3_runs_6 (by decide) h (fun h => ?_) (fun h => ?_)
  · refine gx_sub hX (lv' := [some (va_rf (some (gw_mo w))), none]) ⟨Or.inr rfl, ⟨Or.inl rfl, trivial⟩⟩ ?_
    exact tX3_runs_B19 hA hX  h
  · refine gx_aload_n hX dX3_runs_9 rfl ?_
    refine gm_getA hX 34 (by decide) (by decide) q1375 rfl dX3_runs_10 ?_
    refine gx_aload_n hX dX3_runs_13 rfl ?_
    refine gm_getI hX 35 (by decide) rfl q1376 rfl dX3_runs_14 ?_
    refine gx_iload_n hX dX3_runs_17 rfl ?_
    refine gm_st hX hA (by decide) dX3_runs_18 h (fun σ2 h => ?_)
    refine gx_sub hX (lv' := [some (va_rf (some (gw_mo w))), none]) ⟨Or.inr rfl, ⟨Or.inl rfl, trivial⟩⟩ ?_
    exact tX3_runs_B19 hA hX  h
abbrev iX3_plainFits : gx_M := (RX3, "plainFits", cX3_plainFits, 2, some .int)
theorem dsX3_plainFits : gx_ds yX3_plainFits 1 := by decide +kernel
def fX3_plainFits (σ : gm_S) (x1 : Int32) : Option (gm_S × Int32) := (fX3_runs (σ) (1)).bind fun r1 => some (r1, (x1) + (gs r1 37))
set_option maxHeartbeats 4000000 in
theorem tX3_plainFits (w : gw_W) (A : Nat → Prop) (hA : ∀ q, gm_A w q → A q) (l : Launch) (σ : gm_S) (x1 : Int32) {r : gm_S × Int32} (h : fX3_plainFits σ x1 = some r) : gx_T (gw_I w A) A l yX3_plainFits iX3_plainFits 2 [va_rf (some (gw_mo w)), .int (x1)] (gm_P w σ) 0 0 (gm_P w r.1) (.returned (some (.int r.2))) := by
  refine gx_T.of (gw_I.inv w A) (by decide) ⟨rfl, rfl⟩ (gx_kR (gx_kI gx_k0)) (Nat.le_of_ble_eq_true rfl) (fun X hl hAx hX => ?_)
  subst hl
  subst hAx
  show gx_G X (gm_P w σ) 0 0 [some (va_rf (some (gw_mo w))), some (.int (x1))] 0 []
  unfold fX3_plainFits at h
  refine gx_aload_n hX dX3_plainFits_0 rfl ?_
  refine gx_iconst (v := 1) hX dX3_plainFits_1 (by decide) ?_
  obtain ⟨r1, hr1, h⟩ := gx_bs h
  refine gx_cV (As := [.int (1)]) (rest := []) (b := gw_mo w) hX (tX3_runs w _ hA (gx_l X) (σ) (1) hr1) (lw_V q1812 q1814 qs77 q92 q1815) ⟨rfl, dsX3_runs⟩ (by decide) (by decide) (gm_rc hX) rfl (gx_w8 gx_k0 (Nat.le_of_ble_eq_true rfl)) dX3_plainFits_2 ⟨Nat.le_refl _, Nat.le_refl _⟩ rfl ?_
  refine gx_iload_n hX dX3_plainFits_5 rfl ?_
  refine gx_aload_n hX dX3_plainFits_6 rfl ?_
  refine gm_getI hX 37 (by decide) rfl q1378 rfl dX3_plainFits_7 ?_
  refine gx_iadd hX dX3_plainFits_10 ?_
  cases h
  exact gx_iret hX rfl dX3_plainFits_11 rfl ⟨rfl, rfl⟩ (fun _ h => h)
abbrev iX3_fits : gx_M := (RX3, "fits", cX3_fits, 2, some .int)
theorem dsX3_fits : gx_ds yX3_fits 1 := by decide +kernel
def fX3_fits (σ : gm_S) (x1 : Int32) : Option (gm_S × Int32) := if gs σ 36 = nI 6 then (fX3_runs (σ) (nI 61)).bind fun r5 => (fX3_plainFits (r5) (x1)).bind fun r6 => some (r6.1, -(r6.2)) else (fX3_isUnder  (gs σ 36) (1)).bind fun r1 => if r1 = 0 then (fX3_plainFits (σ) (x1)).bind fun r2 => some (r2.1, r2.2) else (fX3_runs (σ) (nI 11)).bind fun r3 => (fX3_plainFits (r3) ((x1) * (2))).bind fun r4 => some (r4.1, r4.2)
set_option maxHeartbeats 4000000 in
theorem tX3_fits (w : gw_W) (A : Nat → Prop) (hA : ∀ q, gm_A w q → A q) (l : Launch) (σ : gm_S) (x1 : Int32) {r : gm_S × Int32} (h : fX3_fits σ x1 = some r) : gx_T (gw_I w A) A l yX3_fits iX3_fits 3 [va_rf (some (gw_mo w)), .int (x1)] (gm_P w σ) 0 0 (gm_P w r.1) (.returned (some (.int r.2))) := by
  refine gx_T.of (gw_I.inv w A) (by decide) ⟨rfl, rfl⟩ (gx_kR (gx_kI gx_k0)) (Nat.le_of_ble_eq_true rfl) (fun X hl hAx hX => ?_)
  subst hl
  subst hAx
  show gx_G X (gm_P w σ) 0 0 [some (va_rf (some (gw_mo w))), some (.int (x1))] 0 []
  unfold fX3_fits at h
  refine gx_aload_n hX dX3_fits_0 rfl ?_
  refine gm_getI hX 36 (by decide) rfl q1377 rfl dX3_fits_1 ?_
  refine gx_bipush (v := nI 6) hX dX3_fits_4 (by decide) ?_
  refine gx_icmp_ne (tgt := 22) hX dX3_fits_6 (by decide) h (fun h => ?_) (fun h => ?_)
  · refine gx_aload_n hX dX3_fits_9 rfl ?_
    refine gx_bipush (v := nI 61) hX dX3_fits_10 (by decide) ?_
    obtain ⟨r5, hr5, h⟩ := gx_bs h
    refine gx_cV (As := [.int (nI 61)]) (rest := []) (b := gw_mo w) hX (tX3_runs w _ hA (gx_l X) (σ) (nI 61) hr5) (lw_V q1812 q1814 qs77 q92 q1815) ⟨rfl, dsX3_runs⟩ (by decide) (by decide) (gm_rc hX) rfl (gx_w8 gx_k0 (Nat.le_of_ble_eq_true rfl)) dX3_fits_12 ⟨Nat.le_refl _, Nat.le_refl _⟩ rfl ?_
    refine gx_aload_n hX dX3_fits_15 rfl ?_
    refine gx_iload_n hX dX3_fits_16 rfl ?_
    obtain ⟨r6, hr6, h⟩ := gx_bs h
    refine gx_cV (As := [.int (x1)]) (rest := []) (b := gw_mo w) hX (tX3_plainFits w _ hA (gx_l X) (r5) (x1) hr6) (lw_V q1816 q1818 qs78 q92 q1819) ⟨rfl, dsX3_plainFits⟩ (by decide) (by decide) (gm_rc hX) rfl (gx_w8 gx_k0 (Nat.le_of_ble_eq_true rfl)) dX3_fits_17 ⟨Nat.le_refl _, Nat.le_refl _⟩ rfl ?_
    refine gx_ineg hX dX3_fits_20 ?_
    cases h
    exact gx_iret hX rfl dX3_fits_21 rfl ⟨rfl, rfl⟩ (fun _ h => h)
  · refine gx_aload_n hX dX3_fits_22 rfl ?_
    refine gm_getI hX 36 (by decide) rfl q1377 rfl dX3_fits_23 ?_
    refine gx_iconst (v := 1) hX dX3_fits_26 (by decide) ?_
    obtain ⟨r1, hr1, h⟩ := gx_bs h
    refine gx_cS (As := [.int (gs σ 36), .int (1)]) (rest := []) hX (tX3_isUnder w (gx_A X) (gx_l X) (gm_P w σ) (gs σ 36) (1) hr1) (lw_S q1820 q1821 q92 q1822) dsX3_isUnder (by decide) (by decide) rfl (gx_w8 gx_k0 (Nat.le_of_ble_eq_true rfl)) dX3_fits_27 ⟨Nat.le_refl _, Nat.le_refl _⟩ rfl ?_
    refine gx_if_eq (tgt := 47) hX dX3_fits_30 (by decide) h (fun h => ?_) (fun h => ?_)
    · refine gx_aload_n hX dX3_fits_47 rfl ?_
      refine gx_iload_n hX dX3_fits_48 rfl ?_
      obtain ⟨r2, hr2, h⟩ := gx_bs h
      refine gx_cV (As := [.int (x1)]) (rest := []) (b := gw_mo w) hX (tX3_plainFits w _ hA (gx_l X) (σ) (x1) hr2) (lw_V q1816 q1818 qs78 q92 q1819) ⟨rfl, dsX3_plainFits⟩ (by decide) (by decide) (gm_rc hX) rfl (gx_w8 gx_k0 (Nat.le_of_ble_eq_true rfl)) dX3_fits_49 ⟨Nat.le_refl _, Nat.le_refl _⟩ rfl ?_
      cases h
      exact gx_iret hX rfl dX3_fits_52 rfl ⟨rfl, rfl⟩ (fun _ h => h)
    · refine gx_aload_n hX dX3_fits_33 rfl ?_
      refine gx_bipush (v := nI 11) hX dX3_fits_34 (by decide) ?_
      obtain ⟨r3, hr3, h⟩ := gx_bs h
      refine gx_cV (As := [.int (nI 11)]) (rest := []) (b := gw_mo w) hX (tX3_runs w _ hA (gx_l X) (σ) (nI 11) hr3) (lw_V q1812 q1814 qs77 q92 q1815) ⟨rfl, dsX3_runs⟩ (by decide) (by decide) (gm_rc hX) rfl (gx_w8 gx_k0 (Nat.le_of_ble_eq_true rfl)) dX3_fits_36 ⟨Nat.le_refl _, Nat.le_refl _⟩ rfl ?_
      refine gx_aload_n hX dX3_fits_39 rfl ?_
      refine gx_iload_n hX dX3_fits_40 rfl ?_
      refine gx_iconst (v := 2) hX dX3_fits_41 (by decide) ?_
      refine gx_imul hX dX3_fits_42 ?_
      obtain ⟨r4, hr4, h⟩ := gx_bs h
      refine gx_cV (As := [.int ((x1) * (2))]) (rest := []) (b := gw_mo w) hX (tX3_plainFits w _ hA (gx_l X) (r3) ((x1) * (2)) hr4) (lw_V q1816 q1818 qs78 q92 q1819) ⟨rfl, dsX3_plainFits⟩ (by decide) (by decide) (gm_rc hX) rfl (gx_w8 gx_k0 (Nat.le_of_ble_eq_true rfl)) dX3_fits_43 ⟨Nat.le_refl _, Nat.le_refl _⟩ rfl ?_
      cases h
      exact gx_iret hX rfl dX3_fits_46 rfl ⟨rfl, rfl⟩ (fun _ h => h)
abbrev iX3_plainAsks : gx_M := (RX3, "plainAsks", cX3_plainAsks, 2, some .int)
theorem dsX3_plainAsks : gx_ds yX3_plainAsks 1 := by decide +kernel
def fX3_plainAsks (σ : gm_S) (x1 : Int32) : Option (gm_S × Int32) := (fX3_runs (σ) (2)).bind fun r1 => (fX3_fits (r1) (x1)).bind fun r2 => some (r2.1, (r2.2) - (gs r2.1 38))
set_option maxHeartbeats 4000000 in
theorem tX3_plainAsks (w : gw_W) (A : Nat → Prop) (hA : ∀ q, gm_A w q → A q) (l : Launch) (σ : gm_S) (x1 : Int32) {r : gm_S × Int32} (h : fX3_plainAsks σ x1 = some r) : gx_T (gw_I w A) A l yX3_plainAsks iX3_plainAsks 4 [va_rf (some (gw_mo w)), .int (x1)] (gm_P w σ) 0 0 (gm_P w r.1) (.returned (some (.int r.2))) := by
  refine gx_T.of (gw_I.inv w A) (by decide) ⟨rfl, rfl⟩ (gx_kR (gx_kI gx_k0)) (Nat.le_of_ble_eq_true rfl) (fun X hl hAx hX => ?_)
  subst hl
  subst hAx
  show gx_G X (gm_P w σ) 0 0 [some (va_rf (some (gw_mo w))), some (.int (x1))] 0 []
  unfold fX3_plainAsks at h
  refine gx_aload_n hX dX3_plainAsks_0 rfl ?_
  refine gx_iconst (v := 2) hX dX3_plainAsks_1 (by decide) ?_
  obtain ⟨r1, hr1, h⟩ := gx_bs h
  refine gx_cV (As := [.int (2)]) (rest := []) (b := gw_mo w) hX (tX3_runs w _ hA (gx_l X) (σ) (2) hr1) (lw_V q1812 q1814 qs77 q92 q1815) ⟨rfl, dsX3_runs⟩ (by decide) (by decide) (gm_rc hX) rfl (gx_w8 gx_k0 (Nat.le_of_ble_eq_true rfl)) dX3_plainAsks_2 ⟨Nat.le_refl _, Nat.le_refl _⟩ rfl ?_
  refine gx_aload_n hX dX3_plainAsks_5 rfl ?_
  refine gx_iload_n hX dX3_plainAsks_6 rfl ?_
  obtain ⟨r2, hr2, h⟩ := gx_bs h
  refine gx_cV (As := [.int (x1)]) (rest := []) (b := gw_mo w) hX (tX3_fits w _ hA (gx_l X) (r1) (x1) hr2) (lw_V q1808 q1810 qs76 q92 q1811) ⟨rfl, dsX3_fits⟩ (by decide) (by decide) (gm_rc hX) rfl (gx_w8 gx_k0 (Nat.le_of_ble_eq_true rfl)) dX3_plainAsks_7 ⟨Nat.le_refl _, Nat.le_refl _⟩ rfl ?_
  refine gx_aload_n hX dX3_plainAsks_10 rfl ?_
  refine gm_getI hX 38 (by decide) rfl q1379 rfl dX3_plainAsks_11 ?_
  refine gx_isub hX dX3_plainAsks_14 ?_
  cases h
  exact gx_iret hX rfl dX3_plainAsks_15 rfl ⟨rfl, rfl⟩ (fun _ h => h)
abbrev iX3_waitingAsks : gx_M := (RX3, "waitingAsks", cX3_waitingAsks, 2, some .int)
theorem dsX3_waitingAsks : gx_ds yX3_waitingAsks 1 := by decide +kernel
def fX3_waitingAsks (σ : gm_S) (x1 : Int32) : Option (gm_S × Int32) := (fX3_runs (σ) (nI 31)).bind fun r1 => (fX3_plainAsks (r1) (x1)).bind fun r2 => some (r2.1, (r2.2) ^^^ (3))
set_option maxHeartbeats 4000000 in
theorem tX3_waitingAsks (w : gw_W) (A : Nat → Prop) (hA : ∀ q, gm_A w q → A q) (l : Launch) (σ : gm_S) (x1 : Int32) {r : gm_S × Int32} (h : fX3_waitingAsks σ x1 = some r) : gx_T (gw_I w A) A l yX3_waitingAsks iX3_waitingAsks 5 [va_rf (some (gw_mo w)), .int (x1)] (gm_P w σ) 0 0 (gm_P w r.1) (.returned (some (.int r.2))) := by
  refine gx_T.of (gw_I.inv w A) (by decide) ⟨rfl, rfl⟩ (gx_kR (gx_kI gx_k0)) (Nat.le_of_ble_eq_true rfl) (fun X hl hAx hX => ?_)
  subst hl
  subst hAx
  show gx_G X (gm_P w σ) 0 0 [some (va_rf (some (gw_mo w))), some (.int (x1))] 0 []
  unfold fX3_waitingAsks at h
  refine gx_aload_n hX dX3_waitingAsks_0 rfl ?_
  refine gx_bipush (v := nI 31) hX dX3_waitingAsks_1 (by decide) ?_
  obtain ⟨r1, hr1, h⟩ := gx_bs h
  refine gx_cV (As := [.int (nI 31)]) (rest := []) (b := gw_mo w) hX (tX3_runs w _ hA (gx_l X) (σ) (nI 31) hr1) (lw_V q1812 q1814 qs77 q92 q1815) ⟨rfl, dsX3_runs⟩ (by decide) (by decide) (gm_rc hX) rfl (gx_w8 gx_k0 (Nat.le_of_ble_eq_true rfl)) dX3_waitingAsks_3 ⟨Nat.le_refl _, Nat.le_refl _⟩ rfl ?_
  refine gx_aload_n hX dX3_waitingAsks_6 rfl ?_
  refine gx_iload_n hX dX3_waitingAsks_7 rfl ?_
  obtain ⟨r2, hr2, h⟩ := gx_bs h
  refine gx_cV (As := [.int (x1)]) (rest := []) (b := gw_mo w) hX (tX3_plainAsks w _ hA (gx_l X) (r1) (x1) hr2) (lw_V q1831 q1833 qs81 q92 q1834) ⟨rfl, dsX3_plainAsks⟩ (by decide) (by decide) (gm_rc hX) rfl (gx_w8 gx_k0 (Nat.le_of_ble_eq_true rfl)) dX3_waitingAsks_8 ⟨Nat.le_refl _, Nat.le_refl _⟩ rfl ?_
  refine gx_iconst (v := 3) hX dX3_waitingAsks_11 (by decide) ?_
  refine gx_ixor hX dX3_waitingAsks_12 ?_
  cases h
  exact gx_iret hX rfl dX3_waitingAsks_13 rfl ⟨rfl, rfl⟩ (fun _ h => h)
abbrev iX3_askedActs : gx_M := (RX3, "askedActs", cX3_askedActs, 3, some .int)
theorem dsX3_askedActs : gx_ds yX3_askedActs 1 := by decide +kernel
def fX3_askedActs (σ : gm_S) (x1 : Int32) : Option (gm_S × Int32) := if gs σ 36 = 4 then (fX3_runs (σ) (nI 41)).bind fun r3 => (fX3_waitingAsks (r3) ((x1) + (1))).bind fun r4 => (fX3_fits (r4.1) (1)).bind fun r5 => some (r5.1, (r4.2) + (r5.2)) else if gs σ 36 = 3 then (fX3_waitingAsks (σ) (x1)).bind fun r2 => some (r2.1, r2.2) else (fX3_plainAsks (σ) (x1)).bind fun r1 => some (r1.1, r1.2)
set_option maxHeartbeats 4000000 in
theorem tX3_askedActs (w : gw_W) (A : Nat → Prop) (hA : ∀ q, gm_A w q → A q) (l : Launch) (σ : gm_S) (x1 : Int32) {r : gm_S × Int32} (h : fX3_askedActs σ x1 = some r) : gx_T (gw_I w A) A l yX3_askedActs iX3_askedActs 6 [va_rf (some (gw_mo w)), .int (x1)] (gm_P w σ) 0 0 (gm_P w r.1) (.returned (some (.int r.2))) := by
  refine gx_T.of (gw_I.inv w A) (by decide) ⟨rfl, rfl⟩ (gx_kR (gx_kI gx_k0)) (Nat.le_of_ble_eq_true rfl) (fun X hl hAx hX => ?_)
  subst hl
  subst hAx
  show gx_G X (gm_P w σ) 0 0 [some (va_rf (some (gw_mo w))), some (.int (x1)), none] 0 []
  unfold fX3_askedActs at h
  refine gx_aload_n hX dX3_askedActs_0 rfl ?_
  refine gm_getI hX 36 (by decide) rfl q1377 rfl dX3_askedActs_1 ?_
  refine gx_iconst (v := 4) hX dX3_askedActs_4 (by decide) ?_
  refine gx_icmp_ne (tgt := 30) hX dX3_askedActs_5 (by decide) h (fun h => ?_) (fun h => ?_)
  · refine gx_aload_n hX dX3_askedActs_8 rfl ?_
    refine gx_bipush (v := nI 41) hX dX3_askedActs_9 (by decide) ?_
    obtain ⟨r3, hr3, h⟩ := gx_bs h
    refine gx_cV (As := [.int (nI 41)]) (rest := []) (b := gw_mo w) hX (tX3_runs w _ hA (gx_l X) (σ) (nI 41) hr3) (lw_V q1812 q1814 qs77 q92 q1815) ⟨rfl, dsX3_runs⟩ (by decide) (by decide) (gm_rc hX) rfl (gx_w8 gx_k0 (Nat.le_of_ble_eq_true rfl)) dX3_askedActs_11 ⟨Nat.le_refl _, Nat.le_refl _⟩ rfl ?_
    refine gx_aload_n hX dX3_askedActs_14 rfl ?_
    refine gx_iload_n hX dX3_askedActs_15 rfl ?_
    refine gx_iconst (v := 1) hX dX3_askedActs_16 (by decide) ?_
    refine gx_iadd hX dX3_askedActs_17 ?_
    obtain ⟨r4, hr4, h⟩ := gx_bs h
    refine gx_cV (As := [.int ((x1) + (1))]) (rest := []) (b := gw_mo w) hX (tX3_waitingAsks w _ hA (gx_l X) (r3) ((x1) + (1)) hr4) (lw_V q1827 q1829 qs80 q92 q1830) ⟨rfl, dsX3_waitingAsks⟩ (by decide) (by decide) (gm_rc hX) rfl (gx_w8 gx_k0 (Nat.le_of_ble_eq_true rfl)) dX3_askedActs_18 ⟨Nat.le_refl _, Nat.le_refl _⟩ rfl ?_
    refine gx_istore_n hX dX3_askedActs_21 (Nat.le_of_ble_eq_true rfl) gx_c1i (lv' := [some (va_rf (some (gw_mo w))), some (.int (x1)), some (.int (r4.2))]) rfl ?_
    refine gx_iload_n hX dX3_askedActs_22 rfl ?_
    refine gx_aload_n hX dX3_askedActs_23 rfl ?_
    refine gx_iconst (v := 1) hX dX3_askedActs_24 (by decide) ?_
    obtain ⟨r5, hr5, h⟩ := gx_bs h
    refine gx_cV (As := [.int (1)]) (rest := [.int (r4.2)]) (b := gw_mo w) hX (tX3_fits w _ hA (gx_l X) (r4.1) (1) hr5) (lw_V q1808 q1810 qs76 q92 q1811) ⟨rfl, dsX3_fits⟩ (by decide) (by decide) (gm_rc hX) rfl (gx_w8 (gx_kI gx_k0) (Nat.le_of_ble_eq_true rfl)) dX3_askedActs_25 ⟨Nat.le_refl _, Nat.le_refl _⟩ rfl ?_
    refine gx_iadd hX dX3_askedActs_28 ?_
    cases h
    exact gx_iret hX rfl dX3_askedActs_29 rfl ⟨rfl, rfl⟩ (fun _ h => h)
  · refine gx_aload_n hX dX3_askedActs_30 rfl ?_
    refine gm_getI hX 36 (by decide) rfl q1377 rfl dX3_askedActs_31 ?_
    refine gx_iconst (v := 3) hX dX3_askedActs_34 (by decide) ?_
    refine gx_icmp_ne (tgt := 46) hX dX3_askedActs_35 (by decide) h (fun h => ?_) (fun h => ?_)
    · refine gx_aload_n hX dX3_askedActs_38 rfl ?_
      refine gx_iload_n hX dX3_askedActs_39 rfl ?_
      obtain ⟨r2, hr2, h⟩ := gx_bs h
      refine gx_cV (As := [.int (x1)]) (rest := []) (b := gw_mo w) hX (tX3_waitingAsks w _ hA (gx_l X) (σ) (x1) hr2) (lw_V q1827 q1829 qs80 q92 q1830) ⟨rfl, dsX3_waitingAsks⟩ (by decide) (by decide) (gm_rc hX) rfl (gx_w8 gx_k0 (Nat.le_of_ble_eq_true rfl)) dX3_askedActs_40 ⟨Nat.le_refl _, Nat.le_refl _⟩ rfl ?_
      refine gx_goto (tgt := 51) hX dX3_askedActs_43 (by decide) ?_
      cases h
      exact gx_iret hX rfl dX3_askedActs_51 rfl ⟨rfl, rfl⟩ (fun _ h => h)
    · refine gx_aload_n hX dX3_askedActs_46 rfl ?_
      refine gx_iload_n hX dX3_askedActs_47 rfl ?_
      obtain ⟨r1, hr1, h⟩ := gx_bs h
      refine gx_cV (As := [.int (x1)]) (rest := []) (b := gw_mo w) hX (tX3_plainAsks w _ hA (gx_l X) (σ) (x1) hr1) (lw_V q1831 q1833 qs81 q92 q1834) ⟨rfl, dsX3_plainAsks⟩ (by decide) (by decide) (gm_rc hX) rfl (gx_w8 gx_k0 (Nat.le_of_ble_eq_true rfl)) dX3_askedActs_48 ⟨Nat.le_refl _, Nat.le_refl _⟩ rfl ?_
      cases h
      exact gx_iret hX rfl dX3_askedActs_51 rfl ⟨rfl, rfl⟩ (fun _ h => h)
abbrev iX3_plainMoves : gx_M := (RX3, "plainMoves", cX3_plainMoves, 2, some .int)
theorem dsX3_plainMoves : gx_ds yX3_plainMoves 1 := by decide +kernel
def fX3_plainMoves (σ : gm_S) (x1 : Int32) : Option (gm_S × Int32) := (fX3_runs (σ) (3)).bind fun r1 => (fX3_askedActs (r1) (x1)).bind fun r2 => some (r2.1, (r2.2) * (2))
set_option maxHeartbeats 4000000 in
theorem tX3_plainMoves (w : gw_W) (A : Nat → Prop) (hA : ∀ q, gm_A w q → A q) (l : Launch) (σ : gm_S) (x1 : Int32) {r : gm_S × Int32} (h : fX3_plainMoves σ x1 = some r) : gx_T (gw_I w A) A l yX3_plainMoves iX3_plainMoves 7 [va_rf (some (gw_mo w)), .int (x1)] (gm_P w σ) 0 0 (gm_P w r.1) (.returned (some (.int r.2))) := by
  refine gx_T.of (gw_I.inv w A) (by decide) ⟨rfl, rfl⟩ (gx_kR (gx_kI gx_k0)) (Nat.le_of_ble_eq_true rfl) (fun X hl hAx hX => ?_)
  subst hl
  subst hAx
  show gx_G X (gm_P w σ) 0 0 [some (va_rf (some (gw_mo w))), some (.int (x1))] 0 []
  unfold fX3_plainMoves at h
  refine gx_aload_n hX dX3_plainMoves_0 rfl ?_
  refine gx_iconst (v := 3) hX dX3_plainMoves_1 (by decide) ?_
  obtain ⟨r1, hr1, h⟩ := gx_bs h
  refine gx_cV (As := [.int (3)]) (rest := []) (b := gw_mo w) hX (tX3_runs w _ hA (gx_l X) (σ) (3) hr1) (lw_V q1812 q1814 qs77 q92 q1815) ⟨rfl, dsX3_runs⟩ (by decide) (by decide) (gm_rc hX) rfl (gx_w8 gx_k0 (Nat.le_of_ble_eq_true rfl)) dX3_plainMoves_2 ⟨Nat.le_refl _, Nat.le_refl _⟩ rfl ?_
  refine gx_aload_n hX dX3_plainMoves_5 rfl ?_
  refine gx_iload_n hX dX3_plainMoves_6 rfl ?_
  obtain ⟨r2, hr2, h⟩ := gx_bs h
  refine gx_cV (As := [.int (x1)]) (rest := []) (b := gw_mo w) hX (tX3_askedActs w _ hA (gx_l X) (r1) (x1) hr2) (lw_V q1823 q1825 qs79 q92 q1826) ⟨rfl, dsX3_askedActs⟩ (by decide) (by decide) (gm_rc hX) rfl (gx_w8 gx_k0 (Nat.le_of_ble_eq_true rfl)) dX3_plainMoves_7 ⟨Nat.le_refl _, Nat.le_refl _⟩ rfl ?_
  refine gx_iconst (v := 2) hX dX3_plainMoves_10 (by decide) ?_
  refine gx_imul hX dX3_plainMoves_11 ?_
  cases h
  exact gx_iret hX rfl dX3_plainMoves_12 rfl ⟨rfl, rfl⟩ (fun _ h => h)
abbrev iX3_movesActs : gx_M := (RX3, "movesActs", cX3_movesActs, 2, some .int)
theorem dsX3_movesActs : gx_ds yX3_movesActs 1 := by decide +kernel
def fX3_movesActs (σ : gm_S) (x1 : Int32) : Option (gm_S × Int32) := if gs σ 36 = 2 then (fX3_runs (σ) (nI 21)).bind fun r4 => (fX3_plainMoves (r4) (x1)).bind fun r5 => some (r5.1, -(r5.2)) else if gs σ 36 = 5 then (fX3_runs (σ) (nI 51)).bind fun r2 => (fX3_plainMoves (r2) ((x1) - (2))).bind fun r3 => some (r3.1, r3.2) else (fX3_plainMoves (σ) (x1)).bind fun r1 => some (r1.1, r1.2)
set_option maxHeartbeats 4000000 in
theorem tX3_movesActs (w : gw_W) (A : Nat → Prop) (hA : ∀ q, gm_A w q → A q) (l : Launch) (σ : gm_S) (x1 : Int32) {r : gm_S × Int32} (h : fX3_movesActs σ x1 = some r) : gx_T (gw_I w A) A l yX3_movesActs iX3_movesActs 8 [va_rf (some (gw_mo w)), .int (x1)] (gm_P w σ) 0 0 (gm_P w r.1) (.returned (some (.int r.2))) := by
  refine gx_T.of (gw_I.inv w A) (by decide) ⟨rfl, rfl⟩ (gx_kR (gx_kI gx_k0)) (Nat.le_of_ble_eq_true rfl) (fun X hl hAx hX => ?_)
  subst hl
  subst hAx
  show gx_G X (gm_P w σ) 0 0 [some (va_rf (some (gw_mo w))), some (.int (x1))] 0 []
  unfold fX3_movesActs at h
  refine gx_aload_n hX dX3_movesActs_0 rfl ?_
  refine gm_getI hX 36 (by decide) rfl q1377 rfl dX3_movesActs_1 ?_
  refine gx_iconst (v := 2) hX dX3_movesActs_4 (by decide) ?_
  refine gx_icmp_ne (tgt := 21) hX dX3_movesActs_5 (by decide) h (fun h => ?_) (fun h => ?_)
  · refine gx_aload_n hX dX3_movesActs_8 rfl ?_
    refine gx_bipush (v := nI 21) hX dX3_movesActs_9 (by decide) ?_
    obtain ⟨r4, hr4, h⟩ := gx_bs h
    refine gx_cV (As := [.int (nI 21)]) (rest := []) (b := gw_mo w) hX (tX3_runs w _ hA (gx_l X) (σ) (nI 21) hr4) (lw_V q1812 q1814 qs77 q92 q1815) ⟨rfl, dsX3_runs⟩ (by decide) (by decide) (gm_rc hX) rfl (gx_w8 gx_k0 (Nat.le_of_ble_eq_true rfl)) dX3_movesActs_11 ⟨Nat.le_refl _, Nat.le_refl _⟩ rfl ?_
    refine gx_aload_n hX dX3_movesActs_14 rfl ?_
    refine gx_iload_n hX dX3_movesActs_15 rfl ?_
    obtain ⟨r5, hr5, h⟩ := gx_bs h
    refine gx_cV (As := [.int (x1)]) (rest := []) (b := gw_mo w) hX (tX3_plainMoves w _ hA (gx_l X) (r4) (x1) hr5) (lw_V q1839 q1841 qs83 q92 q1842) ⟨rfl, dsX3_plainMoves⟩ (by decide) (by decide) (gm_rc hX) rfl (gx_w8 gx_k0 (Nat.le_of_ble_eq_true rfl)) dX3_movesActs_16 ⟨Nat.le_refl _, Nat.le_refl _⟩ rfl ?_
    refine gx_ineg hX dX3_movesActs_19 ?_
    cases h
    exact gx_iret hX rfl dX3_movesActs_20 rfl ⟨rfl, rfl⟩ (fun _ h => h)
  · refine gx_aload_n hX dX3_movesActs_21 rfl ?_
    refine gm_getI hX 36 (by decide) rfl q1377 rfl dX3_movesActs_22 ?_
    refine gx_iconst (v := 5) hX dX3_movesActs_25 (by decide) ?_
    refine gx_icmp_ne (tgt := 43) hX dX3_movesActs_26 (by decide) h (fun h => ?_) (fun h => ?_)
    · refine gx_aload_n hX dX3_movesActs_29 rfl ?_
      refine gx_bipush (v := nI 51) hX dX3_movesActs_30 (by decide) ?_
      obtain ⟨r2, hr2, h⟩ := gx_bs h
      refine gx_cV (As := [.int (nI 51)]) (rest := []) (b := gw_mo w) hX (tX3_runs w _ hA (gx_l X) (σ) (nI 51) hr2) (lw_V q1812 q1814 qs77 q92 q1815) ⟨rfl, dsX3_runs⟩ (by decide) (by decide) (gm_rc hX) rfl (gx_w8 gx_k0 (Nat.le_of_ble_eq_true rfl)) dX3_movesActs_32 ⟨Nat.le_refl _, Nat.le_refl _⟩ rfl ?_
      refine gx_aload_n hX dX3_movesActs_35 rfl ?_
      refine gx_iload_n hX dX3_movesActs_36 rfl ?_
      refine gx_iconst (v := 2) hX dX3_movesActs_37 (by decide) ?_
      refine gx_isub hX dX3_movesActs_38 ?_
      obtain ⟨r3, hr3, h⟩ := gx_bs h
      refine gx_cV (As := [.int ((x1) - (2))]) (rest := []) (b := gw_mo w) hX (tX3_plainMoves w _ hA (gx_l X) (r2) ((x1) - (2)) hr3) (lw_V q1839 q1841 qs83 q92 q1842) ⟨rfl, dsX3_plainMoves⟩ (by decide) (by decide) (gm_rc hX) rfl (gx_w8 gx_k0 (Nat.le_of_ble_eq_true rfl)) dX3_movesActs_39 ⟨Nat.le_refl _, Nat.le_refl _⟩ rfl ?_
      cases h
      exact gx_iret hX rfl dX3_movesActs_42 rfl ⟨rfl, rfl⟩ (fun _ h => h)
    · refine gx_aload_n hX dX3_movesActs_43 rfl ?_
      refine gx_iload_n hX dX3_movesActs_44 rfl ?_
      obtain ⟨r1, hr1, h⟩ := gx_bs h
      refine gx_cV (As := [.int (x1)]) (rest := []) (b := gw_mo w) hX (tX3_plainMoves w _ hA (gx_l X) (σ) (x1) hr1) (lw_V q1839 q1841 qs83 q92 q1842) ⟨rfl, dsX3_plainMoves⟩ (by decide) (by decide) (gm_rc hX) rfl (gx_w8 gx_k0 (Nat.le_of_ble_eq_true rfl)) dX3_movesActs_45 ⟨Nat.le_refl _, Nat.le_refl _⟩ rfl ?_
      cases h
      exact gx_iret hX rfl dX3_movesActs_48 rfl ⟨rfl, rfl⟩ (fun _ h => h)
abbrev iX3_act : gx_M := (RX3, "act", cX3_act, 4, some .int)
theorem dsX3_act : gx_ds yX3_act 3 := by decide +kernel
def fX3_act (N : Nat) (σ : gm_S) (x1 : Int32) (x2 : Int32) (x3 : Int32) : Option (gm_S × Int32) := (gm_pt σ 35 (0)).bind fun σ1 => (fX3_isCrab (σ1) (x1)).bind fun r2 => if r2 = 0 then some (σ1, 0) else (fX3_in  (x2) (0) (2)).bind fun r3 => if r3 = 0 then some (σ1, 0) else (fX3_kindOf N (σ1) (x1)).bind fun r4 => (gm_pt σ1 36 (r4)).bind fun σ5 => (gm_pt σ5 37 (x1)).bind fun σ6 => (gm_rd σ6 1 ((nI 130) + (x1))).bind fun v7 => (gm_pt σ6 38 (v7)).bind fun σ8 => if x2 = 0 then (fX3_fits (σ8) (x3)).bind fun r11 => some (r11.1, r11.2) else if x2 = 1 then (fX3_askedActs (σ8) (x3)).bind fun r10 => some (r10.1, r10.2) else (fX3_movesActs (σ8) (x3)).bind fun r9 => some (r9.1, r9.2)
set_option maxHeartbeats 4000000 in
theorem tX3_act (w : gw_W) (A : Nat → Prop) (hA : ∀ q, gm_A w q → A q) (l : Launch) (N : Nat) (σ : gm_S) (x1 : Int32) (x2 : Int32) (x3 : Int32) {r : gm_S × Int32} (h : fX3_act N σ x1 x2 x3 = some r) : gx_T (gw_I w A) A l yX3_act iX3_act 9 [va_rf (some (gw_mo w)), .int (x1), .int (x2), .int (x3)] (gm_P w σ) 0 0 (gm_P w r.1) (.returned (some (.int r.2))) := by
  refine gx_T.of (gw_I.inv w A) (by decide) ⟨rfl, rfl⟩ (gx_kR (gx_kI (gx_kI (gx_kI gx_k0)))) (Nat.le_of_ble_eq_true rfl) (fun X hl hAx hX => ?_)
  subst hl
  subst hAx
  show gx_G X (gm_P w σ) 0 0 [some (va_rf (some (gw_mo w))), some (.int (x1)), some (.int (x2)), some (.int (x3))] 0 []
  unfold fX3_act at h
  refine gx_aload_n hX dX3_act_0 rfl ?_
  refine gx_iconst (v := 0) hX dX3_act_1 (by decide) ?_
  refine gm_putI hX hA (k := 35) ⟨by decide, rfl⟩ q1376 ⟨rfl, rfl⟩ rfl dX3_act_2 h (fun σ1 h => ?_)
  refine gx_aload_n hX dX3_act_5 rfl ?_
  refine gx_iload_n hX dX3_act_6 rfl ?_
  obtain ⟨r2, hr2, h⟩ := gx_bs h
  refine gx_cV (As := [.int (x1)]) (rest := []) (b := gw_mo w) hX (tX3_isCrab w _ hA (gx_l X) (σ1) (x1) hr2) (lw_V q1486 q1488 qs35 q92 q1489) ⟨rfl, dsX3_isCrab⟩ (by decide) (by decide) (gm_rc hX) rfl (gx_w8 gx_k0 (Nat.le_of_ble_eq_true rfl)) dX3_act_7 ⟨Nat.le_refl _, Nat.le_refl _⟩ rfl ?_
  refine gx_if_eq (tgt := 22) hX dX3_act_10 (by decide) h (fun h => ?_) (fun h => ?_)
  · refine gx_iconst (v := 0) hX dX3_act_22 (by decide) ?_
    cases h
    exact gx_iret hX rfl dX3_act_23 rfl ⟨rfl, rfl⟩ (fun _ h => h)
  · refine gx_iload_n hX dX3_act_13 rfl ?_
    refine gx_iconst (v := 0) hX dX3_act_14 (by decide) ?_
    refine gx_iconst (v := 2) hX dX3_act_15 (by decide) ?_
    obtain ⟨r3, hr3, h⟩ := gx_bs h
    refine gx_cS (As := [.int (x2), .int (0), .int (2)]) (rest := []) hX (tX3_in w (gx_A X) (gx_l X) (gm_P w σ1) (x2) (0) (2) hr3) (lw_S q1467 q1468 q92 q1469) dsX3_in (by decide) (by decide) rfl (gx_w8 gx_k0 (Nat.le_of_ble_eq_true rfl)) dX3_act_16 ⟨Nat.le_refl _, Nat.le_refl _⟩ rfl ?_
    refine gx_if_ne (tgt := 24) hX dX3_act_19 (by decide) h (fun h => ?_) (fun h => ?_)
    · refine gx_iconst (v := 0) hX dX3_act_22 (by decide) ?_
      cases h
      exact gx_iret hX rfl dX3_act_23 rfl ⟨rfl, rfl⟩ (fun _ h => h)
    · refine gx_aload_n hX dX3_act_24 rfl ?_
      refine gx_aload_n hX dX3_act_25 rfl ?_
      refine gx_iload_n hX dX3_act_26 rfl ?_
      obtain ⟨r4, hr4, h⟩ := gx_bs h
      refine gx_cV (As := [.int (x1)]) (rest := [va_rf (some (gw_mo w))]) (b := gw_mo w) hX (tX3_kindOf w _ hA (gx_l X) N (σ1) (x1) hr4) (lw_V q1506 q1508 qs37 q92 q1509) ⟨rfl, dsX3_kindOf⟩ (by decide) (by decide) (gm_rc hX) rfl (gx_w8 (gx_kR gx_k0) (Nat.le_of_ble_eq_true rfl)) dX3_act_27 ⟨Nat.le_refl _, Nat.le_refl _⟩ rfl ?_
      refine gm_putI hX hA (k := 36) ⟨by decide, rfl⟩ q1377 ⟨rfl, rfl⟩ rfl dX3_act_30 h (fun σ5 h => ?_)
      refine gx_aload_n hX dX3_act_33 rfl ?_
      refine gx_iload_n hX dX3_act_34 rfl ?_
      refine gm_putI hX hA (k := 37) ⟨by decide, rfl⟩ q1378 ⟨rfl, rfl⟩ rfl dX3_act_35 h (fun σ6 h => ?_)
      refine gx_aload_n hX dX3_act_38 rfl ?_
      refine gx_aload_n hX dX3_act_39 rfl ?_
      refine gm_getA hX 1 (by decide) (by decide) q1342 rfl dX3_act_40 ?_
      refine gx_sipush (v := nI 130) hX dX3_act_43 (by decide) ?_
      refine gx_iload_n hX dX3_act_46 rfl ?_
      refine gx_iadd hX dX3_act_47 ?_
      refine gm_ld hX (by decide) dX3_act_48 h (fun v7 h => ?_)
      refine gm_putI hX hA (k := 38) ⟨by decide, rfl⟩ q1379 ⟨rfl, rfl⟩ rfl dX3_act_49 h (fun σ8 h => ?_)
      refine gx_iload_n hX dX3_act_52 rfl ?_
      refine gx_if_ne (tgt := 64) hX dX3_act_53 (by decide) h (fun h => ?_) (fun h => ?_)
      · refine gx_aload_n hX dX3_act_56 rfl ?_
        refine gx_iload_n hX dX3_act_57 rfl ?_
        obtain ⟨r11, hr11, h⟩ := gx_bs h
        refine gx_cV (As := [.int (x3)]) (rest := []) (b := gw_mo w) hX (tX3_fits w _ hA (gx_l X) (σ8) (x3) hr11) (lw_V q1808 q1810 qs76 q92 q1811) ⟨rfl, dsX3_fits⟩ (by decide) (by decide) (gm_rc hX) rfl (gx_w8 gx_k0 (Nat.le_of_ble_eq_true rfl)) dX3_act_58 ⟨Nat.le_refl _, Nat.le_refl _⟩ rfl ?_
        refine gx_goto (tgt := 82) hX dX3_act_61 (by decide) ?_
        cases h
        exact gx_iret hX rfl dX3_act_82 rfl ⟨rfl, rfl⟩ (fun _ h => h)
      · refine gx_iload_n hX dX3_act_64 rfl ?_
        refine gx_iconst (v := 1) hX dX3_act_65 (by decide) ?_
        refine gx_icmp_ne (tgt := 77) hX dX3_act_66 (by decide) h (fun h => ?_) (fun h => ?_)
        · refine gx_aload_n hX dX3_act_69 rfl ?_
          refine gx_iload_n hX dX3_act_70 rfl ?_
          obtain ⟨r10, hr10, h⟩ := gx_bs h
          refine gx_cV (As := [.int (x3)]) (rest := []) (b := gw_mo w) hX (tX3_askedActs w _ hA (gx_l X) (σ8) (x3) hr10) (lw_V q1823 q1825 qs79 q92 q1826) ⟨rfl, dsX3_askedActs⟩ (by decide) (by decide) (gm_rc hX) rfl (gx_w8 gx_k0 (Nat.le_of_ble_eq_true rfl)) dX3_act_71 ⟨Nat.le_refl _, Nat.le_refl _⟩ rfl ?_
          refine gx_goto (tgt := 82) hX dX3_act_74 (by decide) ?_
          cases h
          exact gx_iret hX rfl dX3_act_82 rfl ⟨rfl, rfl⟩ (fun _ h => h)
        · refine gx_aload_n hX dX3_act_77 rfl ?_
          refine gx_iload_n hX dX3_act_78 rfl ?_
          obtain ⟨r9, hr9, h⟩ := gx_bs h
          refine gx_cV (As := [.int (x3)]) (rest := []) (b := gw_mo w) hX (tX3_movesActs w _ hA (gx_l X) (σ8) (x3) hr9) (lw_V q1835 q1837 qs82 q92 q1838) ⟨rfl, dsX3_movesActs⟩ (by decide) (by decide) (gm_rc hX) rfl (gx_w8 gx_k0 (Nat.le_of_ble_eq_true rfl)) dX3_act_79 ⟨Nat.le_refl _, Nat.le_refl _⟩ rfl ?_
          cases h
          exact gx_iret hX rfl dX3_act_82 rfl ⟨rfl, rfl⟩ (fun _ h => h)
abbrev iX3_trace : gx_M := (RX3, "trace", cX3_trace, 2, some .int)
theorem dsX3_trace : gx_ds yX3_trace 1 := by decide +kernel
def fX3_trace_B20 (σ : gm_S)  (x1 : Int32) (y0 : Int32) (y1 : Int32) (y2 : Int32) : Option (Int32) := (fX3_in  (y2) (y1) ((y0) - (1))).bind fun r1 => if r1 = 0 then some ((-1)) else (gm_rd σ 34 (x1)).bind fun v2 => some (v2)
set_option maxHeartbeats 4000000 in
theorem tX3_trace_B20 {w : gw_W} {X : gx_X} {σ : gm_S} {r : Int32} (hA : ∀ q, gm_A w q → gx_A X q) (hX : gx_O (gw_I w (gx_A X)) X iX3_trace 2 0 0 (gm_P w σ) (.returned (some (.int r))))  {x1 : Int32} {y0 : Int32} {y1 : Int32} {y2 : Int32} (h : fX3_trace_B20 σ x1 y0 y1 y2 = some r) : gx_G X (gm_P w σ) 0 0 [some (va_rf (some (gw_mo w))), some (.int (x1))] 20 [.int (y0), .int (y1), .int (y2)] := by
  unfold fX3_trace_B20 at h
  refine gx_iconst (v := 1) hX dX3_trace_20 (by decide) ?_
  refine gx_isub hX dX3_trace_21 ?_
  obtain ⟨r1, hr1, h⟩ := gx_bs h
  refine gx_cS (As := [.int (y2), .int (y1), .int ((y0) - (1))]) (rest := []) hX (tX3_in w (gx_A X) (gx_l X) (gm_P w σ) (y2) (y1) ((y0) - (1)) hr1) (lw_S q1467 q1468 q92 q1469) dsX3_in (by decide) (by decide) rfl (gx_w8 gx_k0 (Nat.le_of_ble_eq_true rfl)) dX3_trace_22 ⟨Nat.le_refl _, Nat.le_refl _⟩ rfl ?_
  refine gx_if_eq (tgt := 37) hX dX3_trace_25 (by decide) h (fun h => ?_) (fun h => ?_)
  · refine gx_iconst (v := (-1)) hX dX3_trace_37 (by decide) ?_
    cases h
    exact gx_iret hX rfl dX3_trace_38 rfl ⟨rfl, rfl⟩ (fun _ h => h)
  · refine gx_aload_n hX dX3_trace_28 rfl ?_
    refine gm_getA hX 34 (by decide) (by decide) q1375 rfl dX3_trace_29 ?_
    refine gx_iload_n hX dX3_trace_32 rfl ?_
    refine gm_ld hX (by decide) dX3_trace_33 h (fun v2 h => ?_)
    refine gx_goto (tgt := 38) hX dX3_trace_34 (by decide) ?_
    cases h
    exact gx_iret hX rfl dX3_trace_38 rfl ⟨rfl, rfl⟩ (fun _ h => h)
def fX3_trace (σ : gm_S) (x1 : Int32) : Option (Int32) := if (nI 20) ≤ gs σ 35 then fX3_trace_B20 σ (x1) (nI 20) (0) (x1) else fX3_trace_B20 σ (x1) (gs σ 35) (0) (x1)
set_option maxHeartbeats 4000000 in
theorem tX3_trace (w : gw_W) (A : Nat → Prop) (hA : ∀ q, gm_A w q → A q) (l : Launch) (σ : gm_S) (x1 : Int32) {r : Int32} (h : fX3_trace σ x1 = some r) : gx_T (gw_I w A) A l yX3_trace iX3_trace 2 [va_rf (some (gw_mo w)), .int (x1)] (gm_P w σ) 0 0 (gm_P w σ) (.returned (some (.int r))) := by
  refine gx_T.of (gw_I.inv w A) (by decide) ⟨rfl, rfl⟩ (gx_kR (gx_kI gx_k0)) (Nat.le_of_ble_eq_true rfl) (fun X hl hAx hX => ?_)
  subst hl
  subst hAx
  show gx_G X (gm_P w σ) 0 0 [some (va_rf (some (gw_mo w))), some (.int (x1))] 0 []
  unfold fX3_trace at h
  refine gx_iload_n hX dX3_trace_0 rfl ?_
  refine gx_iconst (v := 0) hX dX3_trace_1 (by decide) ?_
  refine gx_aload_n hX dX3_trace_2 rfl ?_
  refine gm_getI hX 35 (by decide) rfl q1376 rfl dX3_trace_3 ?_
  refine gx_bipush (v := nI 20) hX dX3_trace_6 (by decide) ?_
  refine gx_icmp_ge (tgt := 18) hX dX3_trace_8 (by decide) h (fun h => ?_) (fun h => ?_)
  · refine gx_bipush (v := nI 20) hX dX3_trace_18 (by decide) ?_
    exact tX3_trace_B20 hA hX  h
  · refine gx_aload_n hX dX3_trace_11 rfl ?_
    refine gm_getI hX 35 (by decide) rfl q1376 rfl dX3_trace_12 ?_
    refine gx_goto (tgt := 20) hX dX3_trace_15 (by decide) ?_
    exact tX3_trace_B20 hA hX  h
abbrev iX3_as : gx_M := (RX3, "as", cX3_as, 3, some .int)
theorem dsX3_as : gx_ds yX3_as 2 := by decide +kernel
def fX3_as (N : Nat) (σ : gm_S) (x1 : Int32) (x2 : Int32) : Option (Int32) := (fX3_isCrab (σ) (x1)).bind fun r1 => if r1 = 0 then some ((-1)) else (fX3_in  (x2) (0) (nI 6)).bind fun r2 => if r2 = 0 then some ((-1)) else (fX3_kindOf N (σ) (x1)).bind fun r3 => (fX3_isUnder  (r3) (x2)).bind fun r4 => if r4 = 0 then some ((-6)) else (gm_rd σ 1 ((nI 130) + (x1))).bind fun v5 => some (v5)
set_option maxHeartbeats 4000000 in
theorem tX3_as (w : gw_W) (A : Nat → Prop) (hA : ∀ q, gm_A w q → A q) (l : Launch) (N : Nat) (σ : gm_S) (x1 : Int32) (x2 : Int32) {r : Int32} (h : fX3_as N σ x1 x2 = some r) : gx_T (gw_I w A) A l yX3_as iX3_as 4 [va_rf (some (gw_mo w)), .int (x1), .int (x2)] (gm_P w σ) 0 0 (gm_P w σ) (.returned (some (.int r))) := by
  refine gx_T.of (gw_I.inv w A) (by decide) ⟨rfl, rfl⟩ (gx_kR (gx_kI (gx_kI gx_k0))) (Nat.le_of_ble_eq_true rfl) (fun X hl hAx hX => ?_)
  subst hl
  subst hAx
  show gx_G X (gm_P w σ) 0 0 [some (va_rf (some (gw_mo w))), some (.int (x1)), some (.int (x2))] 0 []
  unfold fX3_as at h
  refine gx_aload_n hX dX3_as_0 rfl ?_
  refine gx_iload_n hX dX3_as_1 rfl ?_
  obtain ⟨r1, hr1, h⟩ := gx_bs h
  refine gx_cV (As := [.int (x1)]) (rest := []) (b := gw_mo w) hX (tX3_isCrab w _ hA (gx_l X) (σ) (x1) hr1) (lw_V q1486 q1488 qs35 q92 q1489) ⟨rfl, dsX3_isCrab⟩ (by decide) (by decide) (gm_rc hX) rfl (gx_w8 gx_k0 (Nat.le_of_ble_eq_true rfl)) dX3_as_2 ⟨Nat.le_refl _, Nat.le_refl _⟩ rfl ?_
  refine gx_if_eq (tgt := 18) hX dX3_as_5 (by decide) h (fun h => ?_) (fun h => ?_)
  · refine gx_iconst (v := (-1)) hX dX3_as_18 (by decide) ?_
    cases h
    exact gx_iret hX rfl dX3_as_19 rfl ⟨rfl, rfl⟩ (fun _ h => h)
  · refine gx_iload_n hX dX3_as_8 rfl ?_
    refine gx_iconst (v := 0) hX dX3_as_9 (by decide) ?_
    refine gx_bipush (v := nI 6) hX dX3_as_10 (by decide) ?_
    obtain ⟨r2, hr2, h⟩ := gx_bs h
    refine gx_cS (As := [.int (x2), .int (0), .int (nI 6)]) (rest := []) hX (tX3_in w (gx_A X) (gx_l X) (gm_P w σ) (x2) (0) (nI 6) hr2) (lw_S q1467 q1468 q92 q1469) dsX3_in (by decide) (by decide) rfl (gx_w8 gx_k0 (Nat.le_of_ble_eq_true rfl)) dX3_as_12 ⟨Nat.le_refl _, Nat.le_refl _⟩ rfl ?_
    refine gx_if_ne (tgt := 20) hX dX3_as_15 (by decide) h (fun h => ?_) (fun h => ?_)
    · refine gx_iconst (v := (-1)) hX dX3_as_18 (by decide) ?_
      cases h
      exact gx_iret hX rfl dX3_as_19 rfl ⟨rfl, rfl⟩ (fun _ h => h)
    · refine gx_aload_n hX dX3_as_20 rfl ?_
      refine gx_iload_n hX dX3_as_21 rfl ?_
      obtain ⟨r3, hr3, h⟩ := gx_bs h
      refine gx_cV (As := [.int (x1)]) (rest := []) (b := gw_mo w) hX (tX3_kindOf w _ hA (gx_l X) N (σ) (x1) hr3) (lw_V q1506 q1508 qs37 q92 q1509) ⟨rfl, dsX3_kindOf⟩ (by decide) (by decide) (gm_rc hX) rfl (gx_w8 gx_k0 (Nat.le_of_ble_eq_true rfl)) dX3_as_22 ⟨Nat.le_refl _, Nat.le_refl _⟩ rfl ?_
      refine gx_iload_n hX dX3_as_25 rfl ?_
      obtain ⟨r4, hr4, h⟩ := gx_bs h
      refine gx_cS (As := [.int (r3), .int (x2)]) (rest := []) hX (tX3_isUnder w (gx_A X) (gx_l X) (gm_P w σ) (r3) (x2) hr4) (lw_S q1820 q1821 q92 q1822) dsX3_isUnder (by decide) (by decide) rfl (gx_w8 gx_k0 (Nat.le_of_ble_eq_true rfl)) dX3_as_26 ⟨Nat.le_refl _, Nat.le_refl _⟩ rfl ?_
      refine gx_if_eq (tgt := 45) hX dX3_as_29 (by decide) h (fun h => ?_) (fun h => ?_)
      · refine gx_bipush (v := (-6)) hX dX3_as_45 (by decide) ?_
        cases h
        exact gx_iret hX rfl dX3_as_47 rfl ⟨rfl, rfl⟩ (fun _ h => h)
      · refine gx_aload_n hX dX3_as_32 rfl ?_
        refine gm_getA hX 1 (by decide) (by decide) q1342 rfl dX3_as_33 ?_
        refine gx_sipush (v := nI 130) hX dX3_as_36 (by decide) ?_
        refine gx_iload_n hX dX3_as_39 rfl ?_
        refine gx_iadd hX dX3_as_40 ?_
        refine gm_ld hX (by decide) dX3_as_41 h (fun v5 h => ?_)
        refine gx_goto (tgt := 47) hX dX3_as_42 (by decide) ?_
        cases h
        exact gx_iret hX rfl dX3_as_47 rfl ⟨rfl, rfl⟩ (fun _ h => h)
abbrev iX3_image : gx_M := (RX3, "image", cX3_image, 2, some .int)
theorem dsX3_image : gx_ds yX3_image 0 := by decide +kernel
def fX3_image_L2 (N : Nat)   : Nat → gm_S → Int32 → Option (gm_S × Int32)
  | 0, _, _ => none
  | k + 1, σ, x1 => if (nI 240) ≤ x1 then (gm_pz σ 4 (1)).bind fun σ1 => (gm_rd σ1 1 (2)).bind fun v2 => some (σ1, v2) else (gm_rd σ 1 (x1)).bind fun v3 => (gm_wr σ 2 (x1) (v3)).bind fun σ4 => (fX3_image_L2 N k) σ4 ((x1) + 1)
set_option maxHeartbeats 4000000 in
theorem tX3_image_L2 {w : gw_W} {X : gx_X} {N : Nat} {r : gm_S × Int32} (hA : ∀ q, gm_A w q → gx_A X q) (hX : gx_O (gw_I w (gx_A X)) X iX3_image 1 0 0 (gm_P w r.1) (.returned (some (.int r.2))))  : ∀ (k : Nat) (σ : gm_S) (x1 : Int32), fX3_image_L2 N k σ x1 = some r → gx_G X (gm_P w σ) 0 0 [some (va_rf (some (gw_mo w))), some (.int (x1))] 2 [] := by
  intro k
  induction k with
  | zero =>
    intro σ x1 h
    unfold fX3_image_L2 at h
    cases h
  | succ k ih =>
    intro σ x1 h
    unfold fX3_image_L2 at h
    refine gx_iload_n hX dX3_image_2 rfl ?_
    refine gx_sipush (v := nI 240) hX dX3_image_3 (by decide) ?_
    refine gx_icmp_ge (tgt := 27) hX dX3_image_6 (by decide) h (fun h => ?_) (fun h => ?_)
    · refine gx_aload_n hX dX3_image_27 rfl ?_
      refine gx_iconst (v := 1) hX dX3_image_28 (by decide) ?_
      refine gm_putZ hX hA (k := 4) ⟨by decide, rfl⟩ q1345 ⟨rfl, rfl⟩ rfl dX3_image_29 h (fun σ1 h => ?_)
      refine gx_aload_n hX dX3_image_32 rfl ?_
      refine gm_getA hX 1 (by decide) (by decide) q1342 rfl dX3_image_33 ?_
      refine gx_iconst (v := 2) hX dX3_image_36 (by decide) ?_
      refine gm_ld hX (by decide) dX3_image_37 h (fun v2 h => ?_)
      cases h
      exact gx_iret hX rfl dX3_image_38 rfl ⟨rfl, rfl⟩ (fun _ h => h)
    · refine gx_aload_n hX dX3_image_9 rfl ?_
      refine gm_getA hX 2 (by decide) (by decide) q1343 rfl dX3_image_10 ?_
      refine gx_iload_n hX dX3_image_13 rfl ?_
      refine gx_aload_n hX dX3_image_14 rfl ?_
      refine gm_getA hX 1 (by decide) (by decide) q1342 rfl dX3_image_15 ?_
      refine gx_iload_n hX dX3_image_18 rfl ?_
      refine gm_ld hX (by decide) dX3_image_19 h (fun v3 h => ?_)
      refine gm_st hX hA (by decide) dX3_image_20 h (fun σ4 h => ?_)
      refine gx_iinc (v := 1) hX dX3_image_21 rfl (by decide) gx_c1r (lv' := [some (va_rf (some (gw_mo w))), some (.int ((x1) + 1))]) rfl ?_
      refine gx_goto (tgt := 2) hX dX3_image_24 (by decide) ?_
      exact ih _ _ h
def fX3_image (N : Nat) (σ : gm_S)  : Option (gm_S × Int32) := fX3_image_L2 N N σ (0)
set_option maxHeartbeats 4000000 in
theorem tX3_image (w : gw_W) (A : Nat → Prop) (hA : ∀ q, gm_A w q → A q) (l : Launch) (N : Nat) (σ : gm_S)  {r : gm_S × Int32} (h : fX3_image N σ = some r) : gx_T (gw_I w A) A l yX3_image iX3_image 1 [va_rf (some (gw_mo w))] (gm_P w σ) 0 0 (gm_P w r.1) (.returned (some (.int r.2))) := by
  refine gx_T.of (gw_I.inv w A) (by decide) ⟨rfl, rfl⟩ (gx_kR gx_k0) (Nat.le_of_ble_eq_true rfl) (fun X hl hAx hX => ?_)
  subst hl
  subst hAx
  show gx_G X (gm_P w σ) 0 0 [some (va_rf (some (gw_mo w))), none] 0 []
  unfold fX3_image at h
  refine gx_iconst (v := 0) hX dX3_image_0 (by decide) ?_
  refine gx_istore_n hX dX3_image_1 (Nat.le_of_ble_eq_true rfl) gx_c1r (lv' := [some (va_rf (some (gw_mo w))), some (.int (0))]) rfl ?_
  exact tX3_image_L2 hA hX  N _ _ h
abbrev iX3_undo : gx_M := (RX3, "undo", cX3_undo, 2, some .int)
theorem dsX3_undo : gx_ds yX3_undo 0 := by decide +kernel
def fX3_undo_L12 (N : Nat)   : Nat → gm_S → Int32 → Option (gm_S × Int32)
  | 0, _, _ => none
  | k + 1, σ, x1 => if (nI 240) ≤ x1 then (gm_rd σ 1 (2)).bind fun v1 => some (σ, v1) else (gm_rd σ 2 (x1)).bind fun v2 => (gm_wr σ 1 (x1) (v2)).bind fun σ3 => (fX3_undo_L12 N k) σ3 ((x1) + 1)
set_option maxHeartbeats 4000000 in
theorem tX3_undo_L12 {w : gw_W} {X : gx_X} {N : Nat} {r : gm_S × Int32} (hA : ∀ q, gm_A w q → gx_A X q) (hX : gx_O (gw_I w (gx_A X)) X iX3_undo 1 0 0 (gm_P w r.1) (.returned (some (.int r.2))))  : ∀ (k : Nat) (σ : gm_S) (x1 : Int32), fX3_undo_L12 N k σ x1 = some r → gx_G X (gm_P w σ) 0 0 [some (va_rf (some (gw_mo w))), some (.int (x1))] 12 [] := by
  intro k
  induction k with
  | zero =>
    intro σ x1 h
    unfold fX3_undo_L12 at h
    cases h
  | succ k ih =>
    intro σ x1 h
    unfold fX3_undo_L12 at h
    refine gx_iload_n hX dX3_undo_12 rfl ?_
    refine gx_sipush (v := nI 240) hX dX3_undo_13 (by decide) ?_
    refine gx_icmp_ge (tgt := 37) hX dX3_undo_16 (by decide) h (fun h => ?_) (fun h => ?_)
    · refine gx_aload_n hX dX3_undo_37 rfl ?_
      refine gm_getA hX 1 (by decide) (by decide) q1342 rfl dX3_undo_38 ?_
      refine gx_iconst (v := 2) hX dX3_undo_41 (by decide) ?_
      refine gm_ld hX (by decide) dX3_undo_42 h (fun v1 h => ?_)
      cases h
      exact gx_iret hX rfl dX3_undo_43 rfl ⟨rfl, rfl⟩ (fun _ h => h)
    · refine gx_aload_n hX dX3_undo_19 rfl ?_
      refine gm_getA hX 1 (by decide) (by decide) q1342 rfl dX3_undo_20 ?_
      refine gx_iload_n hX dX3_undo_23 rfl ?_
      refine gx_aload_n hX dX3_undo_24 rfl ?_
      refine gm_getA hX 2 (by decide) (by decide) q1343 rfl dX3_undo_25 ?_
      refine gx_iload_n hX dX3_undo_28 rfl ?_
      refine gm_ld hX (by decide) dX3_undo_29 h (fun v2 h => ?_)
      refine gm_st hX hA (by decide) dX3_undo_30 h (fun σ3 h => ?_)
      refine gx_iinc (v := 1) hX dX3_undo_31 rfl (by decide) gx_c1r (lv' := [some (va_rf (some (gw_mo w))), some (.int ((x1) + 1))]) rfl ?_
      refine gx_goto (tgt := 12) hX dX3_undo_34 (by decide) ?_
      exact ih _ _ h
def fX3_undo (N : Nat) (σ : gm_S)  : Option (gm_S × Int32) := if gs σ 4 = 0 then some (σ, (-3)) else fX3_undo_L12 N N σ (0)
set_option maxHeartbeats 4000000 in
theorem tX3_undo (w : gw_W) (A : Nat → Prop) (hA : ∀ q, gm_A w q → A q) (l : Launch) (N : Nat) (σ : gm_S)  {r : gm_S × Int32} (h : fX3_undo N σ = some r) : gx_T (gw_I w A) A l yX3_undo iX3_undo 1 [va_rf (some (gw_mo w))] (gm_P w σ) 0 0 (gm_P w r.1) (.returned (some (.int r.2))) := by
  refine gx_T.of (gw_I.inv w A) (by decide) ⟨rfl, rfl⟩ (gx_kR gx_k0) (Nat.le_of_ble_eq_true rfl) (fun X hl hAx hX => ?_)
  subst hl
  subst hAx
  show gx_G X (gm_P w σ) 0 0 [some (va_rf (some (gw_mo w))), none] 0 []
  unfold fX3_undo at h
  refine gx_aload_n hX dX3_undo_0 rfl ?_
  refine gm_getI hX 4 (by decide) rfl q1345 rfl dX3_undo_1 ?_
  refine gx_if_ne (tgt := 10) hX dX3_undo_4 (by decide) h (fun h => ?_) (fun h => ?_)
  · refine gx_bipush (v := (-3)) hX dX3_undo_7 (by decide) ?_
    cases h
    exact gx_iret hX rfl dX3_undo_9 rfl ⟨rfl, rfl⟩ (fun _ h => h)
  · refine gx_iconst (v := 0) hX dX3_undo_10 (by decide) ?_
    refine gx_istore_n hX dX3_undo_11 (Nat.le_of_ble_eq_true rfl) gx_c1r (lv' := [some (va_rf (some (gw_mo w))), some (.int (0))]) rfl ?_
    exact tX3_undo_L12 hA hX  N _ _ h
abbrev iX3_counted : gx_M := (RX3, "counted", cX3_counted, 4, some .int)
theorem dsX3_counted : gx_ds yX3_counted 1 := by decide +kernel
def fX3_counted_B34 (N : Nat) (σ : gm_S) (K4 : Int32 → Int32 → Int32 → Option (Int32)) (x1 : Int32) (x3 : Int32) (y0 : Int32) (y1 : Int32) : Option (Int32) := K4 (x1) ((y1) + (y0)) ((x3) + 1)
set_option maxHeartbeats 4000000 in
theorem tX3_counted_B34 {w : gw_W} {X : gx_X} {N : Nat} {σ : gm_S} {r : Int32} (hA : ∀ q, gm_A w q → gx_A X q) (hX : gx_O (gw_I w (gx_A X)) X iX3_counted 1 0 0 (gm_P w σ) (.returned (some (.int r)))) {K4 : Int32 → Int32 → Int32 → Option (Int32)} (hK4 : ∀ (x1 : Int32) (x2 : Int32) (x3 : Int32), K4 x1 x2 x3 = some r → gx_G X (gm_P w σ) 0 0 [some (va_rf (some (gw_mo w))), some (.int (x1)), some (.int (x2)), some (.int (x3))] 4 []) {x1 : Int32} {x3 : Int32} {y0 : Int32} {y1 : Int32} (h : fX3_counted_B34 N σ K4 x1 x3 y0 y1 = some r) : gx_G X (gm_P w σ) 0 0 [some (va_rf (some (gw_mo w))), some (.int (x1)), none, some (.int (x3))] 34 [.int (y0), .int (y1)] := by
  unfold fX3_counted_B34 at h
  refine gx_iadd hX dX3_counted_34 ?_
  refine gx_istore_n hX dX3_counted_35 (Nat.le_of_ble_eq_true rfl) gx_c1i (lv' := [some (va_rf (some (gw_mo w))), some (.int (x1)), some (.int ((y1) + (y0))), some (.int (x3))]) rfl ?_
  refine gx_iinc (v := 1) hX dX3_counted_36 rfl (by decide) gx_c1i (lv' := [some (va_rf (some (gw_mo w))), some (.int (x1)), some (.int ((y1) + (y0))), some (.int ((x3) + 1))]) rfl ?_
  refine gx_goto (tgt := 4) hX dX3_counted_39 (by decide) ?_
  exact hK4 _ _ _ h
def fX3_counted_L4 (N : Nat) (σ : gm_S)  : Nat → Int32 → Int32 → Int32 → Option (Int32)
  | 0, _, _, _ => none
  | k + 1, x1, x2, x3 => (gm_rd σ 1 (1)).bind fun v1 => if (v1) ≤ x3 then some (x2) else (gm_rd σ 1 ((nI 166) + (x3))).bind fun v2 => if v2 = x1 then fX3_counted_B34 N σ (fX3_counted_L4 N σ k) (x1) (x3) (1) (x2) else fX3_counted_B34 N σ (fX3_counted_L4 N σ k) (x1) (x3) (0) (x2)
set_option maxHeartbeats 4000000 in
theorem tX3_counted_L4 {w : gw_W} {X : gx_X} {N : Nat} {σ : gm_S} {r : Int32} (hA : ∀ q, gm_A w q → gx_A X q) (hX : gx_O (gw_I w (gx_A X)) X iX3_counted 1 0 0 (gm_P w σ) (.returned (some (.int r))))  : ∀ (k : Nat) (x1 : Int32) (x2 : Int32) (x3 : Int32), fX3_counted_L4 N σ k x1 x2 x3 = some r → gx_G X (gm_P w σ) 0 0 [some (va_rf (some (gw_mo w))), some (.int (x1)), some (.int (x2)), some (.int (x3))] 4 [] := by
  intro k
  induction k with
  | zero =>
    intro x1 x2 x3 h
    unfold fX3_counted_L4 at h
    cases h
  | succ k ih =>
    intro x1 x2 x3 h
    unfold fX3_counted_L4 at h
    refine gx_iload_n hX dX3_counted_4 rfl ?_
    refine gx_aload_n hX dX3_counted_5 rfl ?_
    refine gm_getA hX 1 (by decide) (by decide) q1342 rfl dX3_counted_6 ?_
    refine gx_iconst (v := 1) hX dX3_counted_9 (by decide) ?_
    refine gm_ld hX (by decide) dX3_counted_10 h (fun v1 h => ?_)
    refine gx_icmp_ge (tgt := 42) hX dX3_counted_11 (by decide) h (fun h => ?_) (fun h => ?_)
    · refine gx_iload_n hX dX3_counted_42 rfl ?_
      cases h
      exact gx_iret hX rfl dX3_counted_43 rfl ⟨rfl, rfl⟩ (fun _ h => h)
    · refine gx_iload_n hX dX3_counted_14 rfl ?_
      refine gx_aload_n hX dX3_counted_15 rfl ?_
      refine gm_getA hX 1 (by decide) (by decide) q1342 rfl dX3_counted_16 ?_
      refine gx_sipush (v := nI 166) hX dX3_counted_19 (by decide) ?_
      refine gx_iload_n hX dX3_counted_22 rfl ?_
      refine gx_iadd hX dX3_counted_23 ?_
      refine gm_ld hX (by decide) dX3_counted_24 h (fun v2 h => ?_)
      refine gx_iload_n hX dX3_counted_25 rfl ?_
      refine gx_icmp_ne (tgt := 33) hX dX3_counted_26 (by decide) h (fun h => ?_) (fun h => ?_)
      · refine gx_iconst (v := 1) hX dX3_counted_29 (by decide) ?_
        refine gx_goto (tgt := 34) hX dX3_counted_30 (by decide) ?_
        refine gx_sub hX (lv' := [some (va_rf (some (gw_mo w))), some (.int (x1)), none, some (.int (x3))]) ⟨Or.inr rfl, ⟨Or.inr rfl, ⟨Or.inl rfl, ⟨Or.inr rfl, trivial⟩⟩⟩⟩ ?_
        exact tX3_counted_B34 hA hX ih h
      · refine gx_iconst (v := 0) hX dX3_counted_33 (by decide) ?_
        refine gx_sub hX (lv' := [some (va_rf (some (gw_mo w))), some (.int (x1)), none, some (.int (x3))]) ⟨Or.inr rfl, ⟨Or.inr rfl, ⟨Or.inl rfl, ⟨Or.inr rfl, trivial⟩⟩⟩⟩ ?_
        exact tX3_counted_B34 hA hX ih h
def fX3_counted (N : Nat) (σ : gm_S) (x1 : Int32) : Option (Int32) := fX3_counted_L4 N σ N (x1) (0) (0)
set_option maxHeartbeats 4000000 in
theorem tX3_counted (w : gw_W) (A : Nat → Prop) (hA : ∀ q, gm_A w q → A q) (l : Launch) (N : Nat) (σ : gm_S) (x1 : Int32) {r : Int32} (h : fX3_counted N σ x1 = some r) : gx_T (gw_I w A) A l yX3_counted iX3_counted 1 [va_rf (some (gw_mo w)), .int (x1)] (gm_P w σ) 0 0 (gm_P w σ) (.returned (some (.int r))) := by
  refine gx_T.of (gw_I.inv w A) (by decide) ⟨rfl, rfl⟩ (gx_kR (gx_kI gx_k0)) (Nat.le_of_ble_eq_true rfl) (fun X hl hAx hX => ?_)
  subst hl
  subst hAx
  show gx_G X (gm_P w σ) 0 0 [some (va_rf (some (gw_mo w))), some (.int (x1)), none, none] 0 []
  unfold fX3_counted at h
  refine gx_iconst (v := 0) hX dX3_counted_0 (by decide) ?_
  refine gx_istore_n hX dX3_counted_1 (Nat.le_of_ble_eq_true rfl) gx_c1i (lv' := [some (va_rf (some (gw_mo w))), some (.int (x1)), some (.int (0)), none]) rfl ?_
  refine gx_iconst (v := 0) hX dX3_counted_2 (by decide) ?_
  refine gx_istore_n hX dX3_counted_3 (Nat.le_of_ble_eq_true rfl) gx_c1i (lv' := [some (va_rf (some (gw_mo w))), some (.int (x1)), some (.int (0)), some (.int (0))]) rfl ?_
  exact tX3_counted_L4 hA hX  N _ _ _ h
abbrev iX3_count : gx_M := (RX3, "count", cX3_count, 2, some .int)
theorem dsX3_count : gx_ds yX3_count 1 := by decide +kernel
def fX3_count (N : Nat) (σ : gm_S) (x1 : Int32) : Option (Int32) := if x1 = 0 then (gm_rd σ 1 (0)).bind fun v1 => some (v1) else if x1 = 1 then (gm_rd σ 1 (1)).bind fun v2 => some (v2) else if x1 = 2 then some (gs σ 5) else if x1 = 3 then some (gs σ 6) else if x1 = 4 then (gm_rd σ 1 (2)).bind fun v3 => some (v3) else if x1 = 5 then (fX3_counted N (σ) ((x1) - (5))).bind fun r4 => some (r4) else if x1 = nI 6 then (fX3_counted N (σ) ((x1) - (5))).bind fun r5 => some (r5) else if x1 = nI 7 then (fX3_counted N (σ) ((x1) - (5))).bind fun r6 => some (r6) else if x1 = nI 8 then some (gs σ 7) else if x1 = nI 9 then some (gs σ 35) else some ((-1))
set_option maxHeartbeats 4000000 in
theorem tX3_count (w : gw_W) (A : Nat → Prop) (hA : ∀ q, gm_A w q → A q) (l : Launch) (N : Nat) (σ : gm_S) (x1 : Int32) {r : Int32} (h : fX3_count N σ x1 = some r) : gx_T (gw_I w A) A l yX3_count iX3_count 2 [va_rf (some (gw_mo w)), .int (x1)] (gm_P w σ) 0 0 (gm_P w σ) (.returned (some (.int r))) := by
  refine gx_T.of (gw_I.inv w A) (by decide) ⟨rfl, rfl⟩ (gx_kR (gx_kI gx_k0)) (Nat.le_of_ble_eq_true rfl) (fun X hl hAx hX => ?_)
  subst hl
  subst hAx
  show gx_G X (gm_P w σ) 0 0 [some (va_rf (some (gw_mo w))), some (.int (x1))] 0 []
  unfold fX3_count at h
  refine gx_iload_n hX dX3_count_0 rfl ?_
  by_cases c0 : x1 = 0
  · rw [if_pos c0] at h
    refine gx_tsw (off := 55) (tgt := 56) hX dX3_count_1 (by decide) (by rw [c0]; decide) (by decide) ?_
    refine gx_aload_n hX dX3_count_56 rfl ?_
    refine gm_getA hX 1 (by decide) (by decide) q1342 rfl dX3_count_57 ?_
    refine gx_iconst (v := 0) hX dX3_count_60 (by decide) ?_
    refine gm_ld hX (by decide) dX3_count_61 h (fun v1 h => ?_)
    cases h
    exact gx_iret hX rfl dX3_count_62 rfl ⟨rfl, rfl⟩ (fun _ h => h)
  · rw [if_neg c0] at h
    by_cases c1 : x1 = 1
    · rw [if_pos c1] at h
      refine gx_tsw (off := 62) (tgt := 63) hX dX3_count_1 (by decide) (by rw [c1]; decide) (by decide) ?_
      refine gx_aload_n hX dX3_count_63 rfl ?_
      refine gm_getA hX 1 (by decide) (by decide) q1342 rfl dX3_count_64 ?_
      refine gx_iconst (v := 1) hX dX3_count_67 (by decide) ?_
      refine gm_ld hX (by decide) dX3_count_68 h (fun v2 h => ?_)
      cases h
      exact gx_iret hX rfl dX3_count_69 rfl ⟨rfl, rfl⟩ (fun _ h => h)
    · rw [if_neg c1] at h
      by_cases c2 : x1 = 2
      · rw [if_pos c2] at h
        refine gx_tsw (off := 69) (tgt := 70) hX dX3_count_1 (by decide) (by rw [c2]; decide) (by decide) ?_
        refine gx_aload_n hX dX3_count_70 rfl ?_
        refine gm_getI hX 5 (by decide) rfl q1346 rfl dX3_count_71 ?_
        cases h
        exact gx_iret hX rfl dX3_count_74 rfl ⟨rfl, rfl⟩ (fun _ h => h)
      · rw [if_neg c2] at h
        by_cases c3 : x1 = 3
        · rw [if_pos c3] at h
          refine gx_tsw (off := 74) (tgt := 75) hX dX3_count_1 (by decide) (by rw [c3]; decide) (by decide) ?_
          refine gx_aload_n hX dX3_count_75 rfl ?_
          refine gm_getI hX 6 (by decide) rfl q1347 rfl dX3_count_76 ?_
          cases h
          exact gx_iret hX rfl dX3_count_79 rfl ⟨rfl, rfl⟩ (fun _ h => h)
        · rw [if_neg c3] at h
          by_cases c4 : x1 = 4
          · rw [if_pos c4] at h
            refine gx_tsw (off := 79) (tgt := 80) hX dX3_count_1 (by decide) (by rw [c4]; decide) (by decide) ?_
            refine gx_aload_n hX dX3_count_80 rfl ?_
            refine gm_getA hX 1 (by decide) (by decide) q1342 rfl dX3_count_81 ?_
            refine gx_iconst (v := 2) hX dX3_count_84 (by decide) ?_
            refine gm_ld hX (by decide) dX3_count_85 h (fun v3 h => ?_)
            cases h
            exact gx_iret hX rfl dX3_count_86 rfl ⟨rfl, rfl⟩ (fun _ h => h)
          · rw [if_neg c4] at h
            by_cases c5 : x1 = 5
            · rw [if_pos c5] at h
              refine gx_tsw (off := 86) (tgt := 87) hX dX3_count_1 (by decide) (by rw [c5]; decide) (by decide) ?_
              refine gx_aload_n hX dX3_count_87 rfl ?_
              refine gx_iload_n hX dX3_count_88 rfl ?_
              refine gx_iconst (v := 5) hX dX3_count_89 (by decide) ?_
              refine gx_isub hX dX3_count_90 ?_
              obtain ⟨r4, hr4, h⟩ := gx_bs h
              refine gx_cV (As := [.int ((x1) - (5))]) (rest := []) (b := gw_mo w) hX (tX3_counted w _ hA (gx_l X) N (σ) ((x1) - (5)) hr4) (lw_V q1863 q1865 qs84 q92 q1866) ⟨rfl, dsX3_counted⟩ (by decide) (by decide) (gm_rc hX) rfl (gx_w8 gx_k0 (Nat.le_of_ble_eq_true rfl)) dX3_count_91 ⟨Nat.le_refl _, Nat.le_refl _⟩ rfl ?_
              cases h
              exact gx_iret hX rfl dX3_count_94 rfl ⟨rfl, rfl⟩ (fun _ h => h)
            · rw [if_neg c5] at h
              by_cases c6 : x1 = nI 6
              · rw [if_pos c6] at h
                refine gx_tsw (off := 86) (tgt := 87) hX dX3_count_1 (by decide) (by rw [c6]; decide) (by decide) ?_
                refine gx_aload_n hX dX3_count_87 rfl ?_
                refine gx_iload_n hX dX3_count_88 rfl ?_
                refine gx_iconst (v := 5) hX dX3_count_89 (by decide) ?_
                refine gx_isub hX dX3_count_90 ?_
                obtain ⟨r5, hr5, h⟩ := gx_bs h
                refine gx_cV (As := [.int ((x1) - (5))]) (rest := []) (b := gw_mo w) hX (tX3_counted w _ hA (gx_l X) N (σ) ((x1) - (5)) hr5) (lw_V q1863 q1865 qs84 q92 q1866) ⟨rfl, dsX3_counted⟩ (by decide) (by decide) (gm_rc hX) rfl (gx_w8 gx_k0 (Nat.le_of_ble_eq_true rfl)) dX3_count_91 ⟨Nat.le_refl _, Nat.le_refl _⟩ rfl ?_
                cases h
                exact gx_iret hX rfl dX3_count_94 rfl ⟨rfl, rfl⟩ (fun _ h => h)
              · rw [if_neg c6] at h
                by_cases c7 : x1 = nI 7
                · rw [if_pos c7] at h
                  refine gx_tsw (off := 86) (tgt := 87) hX dX3_count_1 (by decide) (by rw [c7]; decide) (by decide) ?_
                  refine gx_aload_n hX dX3_count_87 rfl ?_
                  refine gx_iload_n hX dX3_count_88 rfl ?_
                  refine gx_iconst (v := 5) hX dX3_count_89 (by decide) ?_
                  refine gx_isub hX dX3_count_90 ?_
                  obtain ⟨r6, hr6, h⟩ := gx_bs h
                  refine gx_cV (As := [.int ((x1) - (5))]) (rest := []) (b := gw_mo w) hX (tX3_counted w _ hA (gx_l X) N (σ) ((x1) - (5)) hr6) (lw_V q1863 q1865 qs84 q92 q1866) ⟨rfl, dsX3_counted⟩ (by decide) (by decide) (gm_rc hX) rfl (gx_w8 gx_k0 (Nat.le_of_ble_eq_true rfl)) dX3_count_91 ⟨Nat.le_refl _, Nat.le_refl _⟩ rfl ?_
                  cases h
                  exact gx_iret hX rfl dX3_count_94 rfl ⟨rfl, rfl⟩ (fun _ h => h)
                · rw [if_neg c7] at h
                  by_cases c8 : x1 = nI 8
                  · rw [if_pos c8] at h
                    refine gx_tsw (off := 94) (tgt := 95) hX dX3_count_1 (by decide) (by rw [c8]; decide) (by decide) ?_
                    refine gx_aload_n hX dX3_count_95 rfl ?_
                    refine gm_getI hX 7 (by decide) rfl q1348 rfl dX3_count_96 ?_
                    cases h
                    exact gx_iret hX rfl dX3_count_99 rfl ⟨rfl, rfl⟩ (fun _ h => h)
                  · rw [if_neg c8] at h
                    by_cases c9 : x1 = nI 9
                    · rw [if_pos c9] at h
                      refine gx_tsw (off := 99) (tgt := 100) hX dX3_count_1 (by decide) (by rw [c9]; decide) (by decide) ?_
                      refine gx_aload_n hX dX3_count_100 rfl ?_
                      refine gm_getI hX 35 (by decide) rfl q1376 rfl dX3_count_101 ?_
                      cases h
                      exact gx_iret hX rfl dX3_count_104 rfl ⟨rfl, rfl⟩ (fun _ h => h)
                    · rw [if_neg c9] at h
                      have e0 : (x1).toInt ≠ 0 := gx_nei c0
                      have e1 : (x1).toInt ≠ 1 := gx_nei c1
                      have e2 : (x1).toInt ≠ 2 := gx_nei c2
                      have e3 : (x1).toInt ≠ 3 := gx_nei c3
                      have e4 : (x1).toInt ≠ 4 := gx_nei c4
                      have e5 : (x1).toInt ≠ 5 := gx_nei c5
                      have e6 : (x1).toInt ≠ 6 := gx_nei c6
                      have e7 : (x1).toInt ≠ 7 := gx_nei c7
                      have e8 : (x1).toInt ≠ 8 := gx_nei c8
                      have e9 : (x1).toInt ≠ 9 := gx_nei c9
                      refine gx_tsw (off := 104) (tgt := 105) hX dX3_count_1 (by decide) (by unfold gx_to; rw [if_pos (by omega)]) (by decide) ?_
                      refine gx_iconst (v := (-1)) hX dX3_count_105 (by decide) ?_
                      cases h
                      exact gx_iret hX rfl dX3_count_106 rfl ⟨rfl, rfl⟩ (fun _ h => h)
