set_option maxRecDepth 100000
abbrev iX3_letter : gx_M := (RX3, "letter", cX3_letter, 1, some .int)
theorem dsX3_letter : gx_ds yX3_letter 0 := by decide +kernel
def fX3_letter (σ : gm_S)  : Option (Int32) := (fX3_here (σ)).bind fun r1 => if r1 = nI 102 then some (0) else if r1 = nI 103 then some (1) else if r1 = nI 104 then some ((-1)) else if r1 = nI 105 then some ((-1)) else if r1 = nI 106 then some ((-1)) else if r1 = nI 107 then some ((-1)) else if r1 = nI 108 then some ((-1)) else if r1 = nI 109 then some ((-1)) else if r1 = nI 110 then some (4) else if r1 = nI 111 then some (3) else if r1 = nI 112 then some ((-1)) else if r1 = nI 113 then some ((-1)) else if r1 = nI 114 then some ((-1)) else if r1 = nI 115 then some (2) else some ((-1))
set_option maxHeartbeats 4000000 in
theorem tX3_letter (w : gw_W) (A : Nat → Prop) (hA : ∀ q, gm_A w q → A q) (l : Launch) (σ : gm_S)  {r : Int32} (h : fX3_letter σ = some r) : gx_T (gw_I w A) A l yX3_letter iX3_letter 2 [va_rf (some (gw_mo w))] (gm_P w σ) 0 0 (gm_P w σ) (.returned (some (.int r))) := by
  refine gx_T.of (gw_I.inv w A) (by decide) ⟨rfl, rfl⟩ (gx_kR gx_k0) (Nat.le_of_ble_eq_true rfl) (fun X hl hAx hX => ?_)
  subst hl
  subst hAx
  show gx_G X (gm_P w σ) 0 0 [some (va_rf (some (gw_mo w)))] 0 []
  unfold fX3_letter at h
  refine gx_aload_n hX dX3_letter_0 rfl ?_
  obtain ⟨r1, hr1, h⟩ := gx_bs h
  refine gx_cV (As := []) (rest := []) (b := gw_mo w) hX (tX3_here w _ hA (gx_l X) (σ)  hr1) (lw_V q1566 q1568 qs46 q92 q1569) ⟨rfl, dsX3_here⟩ (by decide) (by decide) (gm_rc hX) rfl (gx_w8 gx_k0 (Nat.le_of_ble_eq_true rfl)) dX3_letter_1 ⟨Nat.le_refl _, Nat.le_refl _⟩ rfl ?_
  by_cases c0 : r1 = nI 102
  · rw [if_pos c0] at h
    refine gx_tsw (off := 72) (tgt := 76) hX dX3_letter_4 (by decide) (by rw [c0]; decide) (by decide) ?_
    refine gx_iconst (v := 0) hX dX3_letter_76 (by decide) ?_
    cases h
    exact gx_iret hX rfl dX3_letter_77 rfl ⟨rfl, rfl⟩ (fun _ h => h)
  · rw [if_neg c0] at h
    by_cases c1 : r1 = nI 103
    · rw [if_pos c1] at h
      refine gx_tsw (off := 74) (tgt := 78) hX dX3_letter_4 (by decide) (by rw [c1]; decide) (by decide) ?_
      refine gx_iconst (v := 1) hX dX3_letter_78 (by decide) ?_
      cases h
      exact gx_iret hX rfl dX3_letter_79 rfl ⟨rfl, rfl⟩ (fun _ h => h)
    · rw [if_neg c1] at h
      by_cases c2 : r1 = nI 104
      · rw [if_pos c2] at h
        refine gx_tsw (off := 82) (tgt := 86) hX dX3_letter_4 (by decide) (by rw [c2]; decide) (by decide) ?_
        refine gx_iconst (v := (-1)) hX dX3_letter_86 (by decide) ?_
        cases h
        exact gx_iret hX rfl dX3_letter_87 rfl ⟨rfl, rfl⟩ (fun _ h => h)
      · rw [if_neg c2] at h
        by_cases c3 : r1 = nI 105
        · rw [if_pos c3] at h
          refine gx_tsw (off := 82) (tgt := 86) hX dX3_letter_4 (by decide) (by rw [c3]; decide) (by decide) ?_
          refine gx_iconst (v := (-1)) hX dX3_letter_86 (by decide) ?_
          cases h
          exact gx_iret hX rfl dX3_letter_87 rfl ⟨rfl, rfl⟩ (fun _ h => h)
        · rw [if_neg c3] at h
          by_cases c4 : r1 = nI 106
          · rw [if_pos c4] at h
            refine gx_tsw (off := 82) (tgt := 86) hX dX3_letter_4 (by decide) (by rw [c4]; decide) (by decide) ?_
            refine gx_iconst (v := (-1)) hX dX3_letter_86 (by decide) ?_
            cases h
            exact gx_iret hX rfl dX3_letter_87 rfl ⟨rfl, rfl⟩ (fun _ h => h)
          · rw [if_neg c4] at h
            by_cases c5 : r1 = nI 107
            · rw [if_pos c5] at h
              refine gx_tsw (off := 82) (tgt := 86) hX dX3_letter_4 (by decide) (by rw [c5]; decide) (by decide) ?_
              refine gx_iconst (v := (-1)) hX dX3_letter_86 (by decide) ?_
              cases h
              exact gx_iret hX rfl dX3_letter_87 rfl ⟨rfl, rfl⟩ (fun _ h => h)
            · rw [if_neg c5] at h
              by_cases c6 : r1 = nI 108
              · rw [if_pos c6] at h
                refine gx_tsw (off := 82) (tgt := 86) hX dX3_letter_4 (by decide) (by rw [c6]; decide) (by decide) ?_
                refine gx_iconst (v := (-1)) hX dX3_letter_86 (by decide) ?_
                cases h
                exact gx_iret hX rfl dX3_letter_87 rfl ⟨rfl, rfl⟩ (fun _ h => h)
              · rw [if_neg c6] at h
                by_cases c7 : r1 = nI 109
                · rw [if_pos c7] at h
                  refine gx_tsw (off := 82) (tgt := 86) hX dX3_letter_4 (by decide) (by rw [c7]; decide) (by decide) ?_
                  refine gx_iconst (v := (-1)) hX dX3_letter_86 (by decide) ?_
                  cases h
                  exact gx_iret hX rfl dX3_letter_87 rfl ⟨rfl, rfl⟩ (fun _ h => h)
                · rw [if_neg c7] at h
                  by_cases c8 : r1 = nI 110
                  · rw [if_pos c8] at h
                    refine gx_tsw (off := 80) (tgt := 84) hX dX3_letter_4 (by decide) (by rw [c8]; decide) (by decide) ?_
                    refine gx_iconst (v := 4) hX dX3_letter_84 (by decide) ?_
                    cases h
                    exact gx_iret hX rfl dX3_letter_85 rfl ⟨rfl, rfl⟩ (fun _ h => h)
                  · rw [if_neg c8] at h
                    by_cases c9 : r1 = nI 111
                    · rw [if_pos c9] at h
                      refine gx_tsw (off := 78) (tgt := 82) hX dX3_letter_4 (by decide) (by rw [c9]; decide) (by decide) ?_
                      refine gx_iconst (v := 3) hX dX3_letter_82 (by decide) ?_
                      cases h
                      exact gx_iret hX rfl dX3_letter_83 rfl ⟨rfl, rfl⟩ (fun _ h => h)
                    · rw [if_neg c9] at h
                      by_cases c10 : r1 = nI 112
                      · rw [if_pos c10] at h
                        refine gx_tsw (off := 82) (tgt := 86) hX dX3_letter_4 (by decide) (by rw [c10]; decide) (by decide) ?_
                        refine gx_iconst (v := (-1)) hX dX3_letter_86 (by decide) ?_
                        cases h
                        exact gx_iret hX rfl dX3_letter_87 rfl ⟨rfl, rfl⟩ (fun _ h => h)
                      · rw [if_neg c10] at h
                        by_cases c11 : r1 = nI 113
                        · rw [if_pos c11] at h
                          refine gx_tsw (off := 82) (tgt := 86) hX dX3_letter_4 (by decide) (by rw [c11]; decide) (by decide) ?_
                          refine gx_iconst (v := (-1)) hX dX3_letter_86 (by decide) ?_
                          cases h
                          exact gx_iret hX rfl dX3_letter_87 rfl ⟨rfl, rfl⟩ (fun _ h => h)
                        · rw [if_neg c11] at h
                          by_cases c12 : r1 = nI 114
                          · rw [if_pos c12] at h
                            refine gx_tsw (off := 82) (tgt := 86) hX dX3_letter_4 (by decide) (by rw [c12]; decide) (by decide) ?_
                            refine gx_iconst (v := (-1)) hX dX3_letter_86 (by decide) ?_
                            cases h
                            exact gx_iret hX rfl dX3_letter_87 rfl ⟨rfl, rfl⟩ (fun _ h => h)
                          · rw [if_neg c12] at h
                            by_cases c13 : r1 = nI 115
                            · rw [if_pos c13] at h
                              refine gx_tsw (off := 76) (tgt := 80) hX dX3_letter_4 (by decide) (by rw [c13]; decide) (by decide) ?_
                              refine gx_iconst (v := 2) hX dX3_letter_80 (by decide) ?_
                              cases h
                              exact gx_iret hX rfl dX3_letter_81 rfl ⟨rfl, rfl⟩ (fun _ h => h)
                            · rw [if_neg c13] at h
                              have e0 : (r1).toInt ≠ 102 := gx_nei c0
                              have e1 : (r1).toInt ≠ 103 := gx_nei c1
                              have e2 : (r1).toInt ≠ 104 := gx_nei c2
                              have e3 : (r1).toInt ≠ 105 := gx_nei c3
                              have e4 : (r1).toInt ≠ 106 := gx_nei c4
                              have e5 : (r1).toInt ≠ 107 := gx_nei c5
                              have e6 : (r1).toInt ≠ 108 := gx_nei c6
                              have e7 : (r1).toInt ≠ 109 := gx_nei c7
                              have e8 : (r1).toInt ≠ 110 := gx_nei c8
                              have e9 : (r1).toInt ≠ 111 := gx_nei c9
                              have e10 : (r1).toInt ≠ 112 := gx_nei c10
                              have e11 : (r1).toInt ≠ 113 := gx_nei c11
                              have e12 : (r1).toInt ≠ 114 := gx_nei c12
                              have e13 : (r1).toInt ≠ 115 := gx_nei c13
                              refine gx_tsw (off := 82) (tgt := 86) hX dX3_letter_4 (by decide) (by unfold gx_to; rw [if_pos (by omega)]) (by decide) ?_
                              refine gx_iconst (v := (-1)) hX dX3_letter_86 (by decide) ?_
                              cases h
                              exact gx_iret hX rfl dX3_letter_87 rfl ⟨rfl, rfl⟩ (fun _ h => h)
abbrev iX3_must : gx_M := (RX3, "must", cX3_must, 2, none)
theorem dsX3_must : gx_ds yX3_must 1 := by decide +kernel
def fX3_must_B41   (σ : gm_S) (y0 : Int32) (y1 : Int32) : Option (gm_S) := (gm_pt σ 13 ((y1) + (y0))).bind fun σ2 => some σ2
set_option maxHeartbeats 4000000 in
theorem tX3_must_B41 {w : gw_W} {X : gx_X} {r : gm_S} (hA : ∀ q, gm_A w q → gx_A X q) (hX : gx_O (gw_I w (gx_A X)) X iX3_must 2 0 0 (gm_P w r) (.returned (none)))  {σ : gm_S} {y0 : Int32} {y1 : Int32} (h : fX3_must_B41 σ y0 y1 = some r) : gx_G X (gm_P w σ) 0 0 [none, none] 41 [.int (y0), .int (y1), va_rf (some (gw_mo w))] := by
  unfold fX3_must_B41 at h
  refine gx_iadd hX dX3_must_41 ?_
  refine gm_putI hX hA (k := 13) ⟨by decide, rfl⟩ q1354 ⟨rfl, rfl⟩ rfl dX3_must_42 h (fun σ2 h => ?_)
  cases h
  exact gx_vret hX rfl dX3_must_45 rfl ⟨rfl, rfl⟩ (fun _ h => h)
def fX3_must_B21   (σ : gm_S) (y0 : Int32) : Option (gm_S) := (gm_pz σ 14 (y0)).bind fun σ1 => if gs σ1 14 = 0 then fX3_must_B41 σ1 (1) (gs σ1 13) else fX3_must_B41 σ1 (0) (gs σ1 13)
set_option maxHeartbeats 4000000 in
theorem tX3_must_B21 {w : gw_W} {X : gx_X} {r : gm_S} (hA : ∀ q, gm_A w q → gx_A X q) (hX : gx_O (gw_I w (gx_A X)) X iX3_must 2 0 0 (gm_P w r) (.returned (none)))  {σ : gm_S} {y0 : Int32} (h : fX3_must_B21 σ y0 = some r) : gx_G X (gm_P w σ) 0 0 [some (va_rf (some (gw_mo w))), none] 21 [.int (y0), va_rf (some (gw_mo w))] := by
  unfold fX3_must_B21 at h
  refine gm_putZ hX hA (k := 14) ⟨by decide, rfl⟩ q1355 ⟨rfl, rfl⟩ rfl dX3_must_21 h (fun σ1 h => ?_)
  refine gx_aload_n hX dX3_must_24 rfl ?_
  refine gx_dup hX dX3_must_25 (gx_cat _) ?_
  refine gm_getI hX 13 (by decide) rfl q1354 rfl dX3_must_26 ?_
  refine gx_aload_n hX dX3_must_29 rfl ?_
  refine gm_getI hX 14 (by decide) rfl q1355 rfl dX3_must_30 ?_
  refine gx_if_eq (tgt := 40) hX dX3_must_33 (by decide) h (fun h => ?_) (fun h => ?_)
  · refine gx_iconst (v := 1) hX dX3_must_40 (by decide) ?_
    refine gx_sub hX (lv' := [none, none]) ⟨Or.inl rfl, ⟨Or.inr rfl, trivial⟩⟩ ?_
    exact tX3_must_B41 hA hX  h
  · refine gx_iconst (v := 0) hX dX3_must_36 (by decide) ?_
    refine gx_goto (tgt := 41) hX dX3_must_37 (by decide) ?_
    refine gx_sub hX (lv' := [none, none]) ⟨Or.inl rfl, ⟨Or.inr rfl, trivial⟩⟩ ?_
    exact tX3_must_B41 hA hX  h
def fX3_must_B16   (σ : gm_S) : Option (gm_S) := fX3_must_B21 σ (1)
set_option maxHeartbeats 4000000 in
theorem tX3_must_B16 {w : gw_W} {X : gx_X} {r : gm_S} (hA : ∀ q, gm_A w q → gx_A X q) (hX : gx_O (gw_I w (gx_A X)) X iX3_must 2 0 0 (gm_P w r) (.returned (none)))  {σ : gm_S} (h : fX3_must_B16 σ = some r) : gx_G X (gm_P w σ) 0 0 [some (va_rf (some (gw_mo w))), none] 16 [va_rf (some (gw_mo w))] := by
  unfold fX3_must_B16 at h
  refine gx_iconst (v := 1) hX dX3_must_16 (by decide) ?_
  refine gx_goto (tgt := 21) hX dX3_must_17 (by decide) ?_
  exact tX3_must_B21 hA hX  h
def fX3_must (σ : gm_S) (x1 : Int32) : Option (gm_S) := if gs σ 14 = 0 then (fX3_here (σ)).bind fun r3 => if r3 = x1 then fX3_must_B21 σ (0) else fX3_must_B16 σ else fX3_must_B16 σ
set_option maxHeartbeats 4000000 in
theorem tX3_must (w : gw_W) (A : Nat → Prop) (hA : ∀ q, gm_A w q → A q) (l : Launch) (σ : gm_S) (x1 : Int32) {r : gm_S} (h : fX3_must σ x1 = some r) : gx_T (gw_I w A) A l yX3_must iX3_must 2 [va_rf (some (gw_mo w)), .int (x1)] (gm_P w σ) 0 0 (gm_P w r) (.returned (none)) := by
  refine gx_T.of (gw_I.inv w A) (by decide) ⟨rfl, rfl⟩ (gx_kR (gx_kI gx_k0)) (Nat.le_of_ble_eq_true rfl) (fun X hl hAx hX => ?_)
  subst hl
  subst hAx
  show gx_G X (gm_P w σ) 0 0 [some (va_rf (some (gw_mo w))), some (.int (x1))] 0 []
  unfold fX3_must at h
  refine gx_aload_n hX dX3_must_0 rfl ?_
  refine gx_aload_n hX dX3_must_1 rfl ?_
  refine gm_getI hX 14 (by decide) rfl q1355 rfl dX3_must_2 ?_
  refine gx_if_ne (tgt := 16) hX dX3_must_5 (by decide) h (fun h => ?_) (fun h => ?_)
  · refine gx_aload_n hX dX3_must_8 rfl ?_
    obtain ⟨r3, hr3, h⟩ := gx_bs h
    refine gx_cV (As := []) (rest := [va_rf (some (gw_mo w))]) (b := gw_mo w) hX (tX3_here w _ hA (gx_l X) (σ)  hr3) (lw_V q1566 q1568 qs46 q92 q1569) ⟨rfl, dsX3_here⟩ (by decide) (by decide) (gm_rc hX) rfl (gx_w8 (gx_kR gx_k0) (Nat.le_of_ble_eq_true rfl)) dX3_must_9 ⟨Nat.le_refl _, Nat.le_refl _⟩ rfl ?_
    refine gx_iload_n hX dX3_must_12 rfl ?_
    refine gx_icmp_eq (tgt := 20) hX dX3_must_13 (by decide) h (fun h => ?_) (fun h => ?_)
    · refine gx_iconst (v := 0) hX dX3_must_20 (by decide) ?_
      refine gx_sub hX (lv' := [some (va_rf (some (gw_mo w))), none]) ⟨Or.inr rfl, ⟨Or.inl rfl, trivial⟩⟩ ?_
      exact tX3_must_B21 hA hX  h
    · refine gx_sub hX (lv' := [some (va_rf (some (gw_mo w))), none]) ⟨Or.inr rfl, ⟨Or.inl rfl, trivial⟩⟩ ?_
      exact tX3_must_B16 hA hX  h
  · refine gx_sub hX (lv' := [some (va_rf (some (gw_mo w))), none]) ⟨Or.inr rfl, ⟨Or.inl rfl, trivial⟩⟩ ?_
    exact tX3_must_B16 hA hX  h
abbrev iX3_number : gx_M := (RX3, "number", cX3_number, 3, some .int)
theorem dsX3_number : gx_ds yX3_number 0 := by decide +kernel
def fX3_number_B68 (N : Nat)  (K34 : gm_S → Int32 → Int32 → Option (gm_S × Int32)) (σ : gm_S) (x1 : Int32) (x2 : Int32) : Option (gm_S × Int32) := (fX3_here (σ)).bind fun r4 => (gm_pt σ 13 ((gs σ 13) + (1))).bind fun σ5 => K34 σ5 ((((nI 10) * (x1)) + (r4)) - (nI 48)) ((x2) + 1)
set_option maxHeartbeats 4000000 in
theorem tX3_number_B68 {w : gw_W} {X : gx_X} {N : Nat} {r : gm_S × Int32} (hA : ∀ q, gm_A w q → gx_A X q) (hX : gx_O (gw_I w (gx_A X)) X iX3_number 2 0 0 (gm_P w r.1) (.returned (some (.int r.2)))) {K34 : gm_S → Int32 → Int32 → Option (gm_S × Int32)} (hK34 : ∀ (σ : gm_S) (x1 : Int32) (x2 : Int32), K34 σ x1 x2 = some r → gx_G X (gm_P w σ) 0 0 [some (va_rf (some (gw_mo w))), some (.int (x1)), some (.int (x2))] 34 []) {σ : gm_S} {x1 : Int32} {x2 : Int32} (h : fX3_number_B68 N K34 σ x1 x2 = some r) : gx_G X (gm_P w σ) 0 0 [some (va_rf (some (gw_mo w))), some (.int (x1)), some (.int (x2))] 68 [] := by
  unfold fX3_number_B68 at h
  refine gx_bipush (v := nI 10) hX dX3_number_68 (by decide) ?_
  refine gx_iload_n hX dX3_number_70 rfl ?_
  refine gx_imul hX dX3_number_71 ?_
  refine gx_aload_n hX dX3_number_72 rfl ?_
  obtain ⟨r4, hr4, h⟩ := gx_bs h
  refine gx_cV (As := []) (rest := [.int ((nI 10) * (x1))]) (b := gw_mo w) hX (tX3_here w _ hA (gx_l X) (σ)  hr4) (lw_V q1566 q1568 qs46 q92 q1569) ⟨rfl, dsX3_here⟩ (by decide) (by decide) (gm_rc hX) rfl (gx_w8 (gx_kI gx_k0) (Nat.le_of_ble_eq_true rfl)) dX3_number_73 ⟨Nat.le_refl _, Nat.le_refl _⟩ rfl ?_
  refine gx_iadd hX dX3_number_76 ?_
  refine gx_bipush (v := nI 48) hX dX3_number_77 (by decide) ?_
  refine gx_isub hX dX3_number_79 ?_
  refine gx_istore_n hX dX3_number_80 (Nat.le_of_ble_eq_true rfl) gx_c1r (lv' := [some (va_rf (some (gw_mo w))), some (.int ((((nI 10) * (x1)) + (r4)) - (nI 48))), some (.int (x2))]) rfl ?_
  refine gx_aload_n hX dX3_number_81 rfl ?_
  refine gx_dup hX dX3_number_82 (gx_cat _) ?_
  refine gm_getI hX 13 (by decide) rfl q1354 rfl dX3_number_83 ?_
  refine gx_iconst (v := 1) hX dX3_number_86 (by decide) ?_
  refine gx_iadd hX dX3_number_87 ?_
  refine gm_putI hX hA (k := 13) ⟨by decide, rfl⟩ q1354 ⟨rfl, rfl⟩ rfl dX3_number_88 h (fun σ5 h => ?_)
  refine gx_iinc (v := 1) hX dX3_number_91 rfl (by decide) gx_c1i (lv' := [some (va_rf (some (gw_mo w))), some (.int ((((nI 10) * (x1)) + (r4)) - (nI 48))), some (.int ((x2) + 1))]) rfl ?_
  refine gx_goto (tgt := 34) hX dX3_number_94 (by decide) ?_
  exact hK34 _ _ _ h
def fX3_number_L34 (N : Nat)   : Nat → gm_S → Int32 → Int32 → Option (gm_S × Int32)
  | 0, _, _, _ => none
  | k + 1, σ, x1, x2 => if (3) ≤ x2 then some (σ, x1) else if gs σ 14 = 0 then (fX3_here (σ)).bind fun r2 => (fX3_in  (r2) (nI 48) (nI 57)).bind fun r3 => if r3 = 0 then some (σ, x1) else if x2 = 0 then fX3_number_B68 N (fX3_number_L34 N k) σ (x1) (x2) else if (x1) ≤ 0 then some (σ, x1) else fX3_number_B68 N (fX3_number_L34 N k) σ (x1) (x2) else some (σ, x1)
set_option maxHeartbeats 4000000 in
theorem tX3_number_L34 {w : gw_W} {X : gx_X} {N : Nat} {r : gm_S × Int32} (hA : ∀ q, gm_A w q → gx_A X q) (hX : gx_O (gw_I w (gx_A X)) X iX3_number 2 0 0 (gm_P w r.1) (.returned (some (.int r.2))))  : ∀ (k : Nat) (σ : gm_S) (x1 : Int32) (x2 : Int32), fX3_number_L34 N k σ x1 x2 = some r → gx_G X (gm_P w σ) 0 0 [some (va_rf (some (gw_mo w))), some (.int (x1)), some (.int (x2))] 34 [] := by
  intro k
  induction k with
  | zero =>
    intro σ x1 x2 h
    unfold fX3_number_L34 at h
    cases h
  | succ k ih =>
    intro σ x1 x2 h
    unfold fX3_number_L34 at h
    refine gx_iload_n hX dX3_number_34 rfl ?_
    refine gx_iconst (v := 3) hX dX3_number_35 (by decide) ?_
    refine gx_icmp_ge (tgt := 97) hX dX3_number_36 (by decide) h (fun h => ?_) (fun h => ?_)
    · refine gx_iload_n hX dX3_number_97 rfl ?_
      cases h
      exact gx_iret hX rfl dX3_number_98 rfl ⟨rfl, rfl⟩ (fun _ h => h)
    · refine gx_aload_n hX dX3_number_39 rfl ?_
      refine gm_getI hX 14 (by decide) rfl q1355 rfl dX3_number_40 ?_
      refine gx_if_ne (tgt := 97) hX dX3_number_43 (by decide) h (fun h => ?_) (fun h => ?_)
      · refine gx_aload_n hX dX3_number_46 rfl ?_
        obtain ⟨r2, hr2, h⟩ := gx_bs h
        refine gx_cV (As := []) (rest := []) (b := gw_mo w) hX (tX3_here w _ hA (gx_l X) (σ)  hr2) (lw_V q1566 q1568 qs46 q92 q1569) ⟨rfl, dsX3_here⟩ (by decide) (by decide) (gm_rc hX) rfl (gx_w8 gx_k0 (Nat.le_of_ble_eq_true rfl)) dX3_number_47 ⟨Nat.le_refl _, Nat.le_refl _⟩ rfl ?_
        refine gx_bipush (v := nI 48) hX dX3_number_50 (by decide) ?_
        refine gx_bipush (v := nI 57) hX dX3_number_52 (by decide) ?_
        obtain ⟨r3, hr3, h⟩ := gx_bs h
        refine gx_cS (As := [.int (r2), .int (nI 48), .int (nI 57)]) (rest := []) hX (tX3_in w (gx_A X) (gx_l X) (gm_P w σ) (r2) (nI 48) (nI 57) hr3) (lw_S q1467 q1468 q92 q1469) dsX3_in (by decide) (by decide) rfl (gx_w8 gx_k0 (Nat.le_of_ble_eq_true rfl)) dX3_number_54 ⟨Nat.le_refl _, Nat.le_refl _⟩ rfl ?_
        refine gx_if_eq (tgt := 97) hX dX3_number_57 (by decide) h (fun h => ?_) (fun h => ?_)
        · refine gx_iload_n hX dX3_number_97 rfl ?_
          cases h
          exact gx_iret hX rfl dX3_number_98 rfl ⟨rfl, rfl⟩ (fun _ h => h)
        · refine gx_iload_n hX dX3_number_60 rfl ?_
          refine gx_if_eq (tgt := 68) hX dX3_number_61 (by decide) h (fun h => ?_) (fun h => ?_)
          · exact tX3_number_B68 hA hX ih h
          · refine gx_iload_n hX dX3_number_64 rfl ?_
            refine gx_if_le (tgt := 97) hX dX3_number_65 (by decide) h (fun h => ?_) (fun h => ?_)
            · refine gx_iload_n hX dX3_number_97 rfl ?_
              cases h
              exact gx_iret hX rfl dX3_number_98 rfl ⟨rfl, rfl⟩ (fun _ h => h)
            · exact tX3_number_B68 hA hX ih h
      · refine gx_iload_n hX dX3_number_97 rfl ?_
        cases h
        exact gx_iret hX rfl dX3_number_98 rfl ⟨rfl, rfl⟩ (fun _ h => h)
def fX3_number_B27 (N : Nat)   (σ : gm_S) (y0 : Int32) : Option (gm_S × Int32) := (gm_pz σ 14 (y0)).bind fun σ1 => fX3_number_L34 N N σ1 (0) (0)
set_option maxHeartbeats 4000000 in
theorem tX3_number_B27 {w : gw_W} {X : gx_X} {N : Nat} {r : gm_S × Int32} (hA : ∀ q, gm_A w q → gx_A X q) (hX : gx_O (gw_I w (gx_A X)) X iX3_number 2 0 0 (gm_P w r.1) (.returned (some (.int r.2))))  {σ : gm_S} {y0 : Int32} (h : fX3_number_B27 N σ y0 = some r) : gx_G X (gm_P w σ) 0 0 [some (va_rf (some (gw_mo w))), none, none] 27 [.int (y0), va_rf (some (gw_mo w))] := by
  unfold fX3_number_B27 at h
  refine gm_putZ hX hA (k := 14) ⟨by decide, rfl⟩ q1355 ⟨rfl, rfl⟩ rfl dX3_number_27 h (fun σ1 h => ?_)
  refine gx_iconst (v := 0) hX dX3_number_30 (by decide) ?_
  refine gx_istore_n hX dX3_number_31 (Nat.le_of_ble_eq_true rfl) gx_c1r (lv' := [some (va_rf (some (gw_mo w))), some (.int (0)), none]) rfl ?_
  refine gx_iconst (v := 0) hX dX3_number_32 (by decide) ?_
  refine gx_istore_n hX dX3_number_33 (Nat.le_of_ble_eq_true rfl) gx_c1i (lv' := [some (va_rf (some (gw_mo w))), some (.int (0)), some (.int (0))]) rfl ?_
  exact tX3_number_L34 hA hX  N _ _ _ h
def fX3_number_B22 (N : Nat)   (σ : gm_S) : Option (gm_S × Int32) := fX3_number_B27 N σ (1)
set_option maxHeartbeats 4000000 in
theorem tX3_number_B22 {w : gw_W} {X : gx_X} {N : Nat} {r : gm_S × Int32} (hA : ∀ q, gm_A w q → gx_A X q) (hX : gx_O (gw_I w (gx_A X)) X iX3_number 2 0 0 (gm_P w r.1) (.returned (some (.int r.2))))  {σ : gm_S} (h : fX3_number_B22 N σ = some r) : gx_G X (gm_P w σ) 0 0 [some (va_rf (some (gw_mo w))), none, none] 22 [va_rf (some (gw_mo w))] := by
  unfold fX3_number_B22 at h
  refine gx_iconst (v := 1) hX dX3_number_22 (by decide) ?_
  refine gx_goto (tgt := 27) hX dX3_number_23 (by decide) ?_
  exact tX3_number_B27 hA hX  h
def fX3_number (N : Nat) (σ : gm_S)  : Option (gm_S × Int32) := if gs σ 14 = 0 then (fX3_here (σ)).bind fun r6 => (fX3_in  (r6) (nI 48) (nI 57)).bind fun r7 => if r7 = 0 then fX3_number_B22 N σ else fX3_number_B27 N σ (0) else fX3_number_B22 N σ
set_option maxHeartbeats 4000000 in
theorem tX3_number (w : gw_W) (A : Nat → Prop) (hA : ∀ q, gm_A w q → A q) (l : Launch) (N : Nat) (σ : gm_S)  {r : gm_S × Int32} (h : fX3_number N σ = some r) : gx_T (gw_I w A) A l yX3_number iX3_number 2 [va_rf (some (gw_mo w))] (gm_P w σ) 0 0 (gm_P w r.1) (.returned (some (.int r.2))) := by
  refine gx_T.of (gw_I.inv w A) (by decide) ⟨rfl, rfl⟩ (gx_kR gx_k0) (Nat.le_of_ble_eq_true rfl) (fun X hl hAx hX => ?_)
  subst hl
  subst hAx
  show gx_G X (gm_P w σ) 0 0 [some (va_rf (some (gw_mo w))), none, none] 0 []
  unfold fX3_number at h
  refine gx_aload_n hX dX3_number_0 rfl ?_
  refine gx_aload_n hX dX3_number_1 rfl ?_
  refine gm_getI hX 14 (by decide) rfl q1355 rfl dX3_number_2 ?_
  refine gx_if_ne (tgt := 22) hX dX3_number_5 (by decide) h (fun h => ?_) (fun h => ?_)
  · refine gx_aload_n hX dX3_number_8 rfl ?_
    obtain ⟨r6, hr6, h⟩ := gx_bs h
    refine gx_cV (As := []) (rest := [va_rf (some (gw_mo w))]) (b := gw_mo w) hX (tX3_here w _ hA (gx_l X) (σ)  hr6) (lw_V q1566 q1568 qs46 q92 q1569) ⟨rfl, dsX3_here⟩ (by decide) (by decide) (gm_rc hX) rfl (gx_w8 (gx_kR gx_k0) (Nat.le_of_ble_eq_true rfl)) dX3_number_9 ⟨Nat.le_refl _, Nat.le_refl _⟩ rfl ?_
    refine gx_bipush (v := nI 48) hX dX3_number_12 (by decide) ?_
    refine gx_bipush (v := nI 57) hX dX3_number_14 (by decide) ?_
    obtain ⟨r7, hr7, h⟩ := gx_bs h
    refine gx_cS (As := [.int (r6), .int (nI 48), .int (nI 57)]) (rest := [va_rf (some (gw_mo w))]) hX (tX3_in w (gx_A X) (gx_l X) (gm_P w σ) (r6) (nI 48) (nI 57) hr7) (lw_S q1467 q1468 q92 q1469) dsX3_in (by decide) (by decide) rfl (gx_w8 (gx_kR gx_k0) (Nat.le_of_ble_eq_true rfl)) dX3_number_16 ⟨Nat.le_refl _, Nat.le_refl _⟩ rfl ?_
    refine gx_if_ne (tgt := 26) hX dX3_number_19 (by decide) h (fun h => ?_) (fun h => ?_)
    · exact tX3_number_B22 hA hX  h
    · refine gx_iconst (v := 0) hX dX3_number_26 (by decide) ?_
      exact tX3_number_B27 hA hX  h
  · exact tX3_number_B22 hA hX  h
abbrev iX3_isSo : gx_M := (RX3, "isSo", cX3_isSo, 6, some .boolean)
theorem dsX3_isSo : gx_ds yX3_isSo 2 := by decide +kernel
def fX3_isSo (σ : gm_S) (x1 : Int32) (x2 : Int32) : Option (Int32) := (gx_rm (x1) (nI 8)).bind fun v1 => (gm_rd σ 16 (v1)).bind fun v2 => (gx_dv (x1) (nI 32)).bind fun v3 => (gx_dv (x1) (nI 8)).bind fun v4 => (gx_rm (v4) (4)).bind fun v5 => if v5 = 0 then if ((v3) + (x2)) ≤ v2 then some (0) else some (1) else if v5 = 1 then if v2 = (v3) + (x2) then some (1) else some (0) else if (v2) ≤ (v3) + (x2) then some (0) else some (1)
set_option maxHeartbeats 4000000 in
theorem tX3_isSo (w : gw_W) (A : Nat → Prop) (hA : ∀ q, gm_A w q → A q) (l : Launch) (σ : gm_S) (x1 : Int32) (x2 : Int32) {r : Int32} (h : fX3_isSo σ x1 x2 = some r) : gx_T (gw_I w A) A l yX3_isSo iX3_isSo 1 [va_rf (some (gw_mo w)), .int (x1), .int (x2)] (gm_P w σ) 0 0 (gm_P w σ) (.returned (some (.int r))) := by
  refine gx_T.of (gw_I.inv w A) (by decide) ⟨rfl, rfl⟩ (gx_kR (gx_kI (gx_kI gx_k0))) (Nat.le_of_ble_eq_true rfl) (fun X hl hAx hX => ?_)
  subst hl
  subst hAx
  show gx_G X (gm_P w σ) 0 0 [some (va_rf (some (gw_mo w))), some (.int (x1)), some (.int (x2)), none, none, none] 0 []
  unfold fX3_isSo at h
  refine gx_aload_n hX dX3_isSo_0 rfl ?_
  refine gm_getA hX 16 (by decide) (by decide) q1357 rfl dX3_isSo_1 ?_
  refine gx_iload_n hX dX3_isSo_4 rfl ?_
  refine gx_bipush (v := nI 8) hX dX3_isSo_5 (by decide) ?_
  refine gx_iremP hX dX3_isSo_7 h (fun v1 h => ?_)
  refine gm_ld hX (by decide) dX3_isSo_8 h (fun v2 h => ?_)
  refine gx_istore_n hX dX3_isSo_9 (Nat.le_of_ble_eq_true rfl) gx_c1i (lv' := [some (va_rf (some (gw_mo w))), some (.int (x1)), some (.int (x2)), some (.int (v2)), none, none]) rfl ?_
  refine gx_iload_n hX dX3_isSo_10 rfl ?_
  refine gx_bipush (v := nI 32) hX dX3_isSo_11 (by decide) ?_
  refine gx_idivP hX dX3_isSo_13 h (fun v3 h => ?_)
  refine gx_iload_n hX dX3_isSo_14 rfl ?_
  refine gx_iadd hX dX3_isSo_15 ?_
  refine gx_istore hX dX3_isSo_16 (Nat.le_of_ble_eq_true rfl) gx_c1i (lv' := [some (va_rf (some (gw_mo w))), some (.int (x1)), some (.int (x2)), some (.int (v2)), some (.int ((v3) + (x2))), none]) rfl ?_
  refine gx_iload_n hX dX3_isSo_18 rfl ?_
  refine gx_bipush (v := nI 8) hX dX3_isSo_19 (by decide) ?_
  refine gx_idivP hX dX3_isSo_21 h (fun v4 h => ?_)
  refine gx_iconst (v := 4) hX dX3_isSo_22 (by decide) ?_
  refine gx_iremP hX dX3_isSo_23 h (fun v5 h => ?_)
  refine gx_istore hX dX3_isSo_24 (Nat.le_of_ble_eq_true rfl) gx_c1i (lv' := [some (va_rf (some (gw_mo w))), some (.int (x1)), some (.int (x2)), some (.int (v2)), some (.int ((v3) + (x2))), some (.int (v5))]) rfl ?_
  refine gx_iload hX dX3_isSo_26 rfl ?_
  refine gx_if_ne (tgt := 45) hX dX3_isSo_28 (by decide) h (fun h => ?_) (fun h => ?_)
  · refine gx_iload_n hX dX3_isSo_31 rfl ?_
    refine gx_iload hX dX3_isSo_32 rfl ?_
    refine gx_icmp_ge (tgt := 41) hX dX3_isSo_34 (by decide) h (fun h => ?_) (fun h => ?_)
    · refine gx_iconst (v := 0) hX dX3_isSo_41 (by decide) ?_
      refine gx_goto (tgt := 76) hX dX3_isSo_42 (by decide) ?_
      cases h
      exact gx_zret hX rfl rfl dX3_isSo_76 rfl ⟨rfl, rfl⟩ (fun _ h => h)
    · refine gx_iconst (v := 1) hX dX3_isSo_37 (by decide) ?_
      refine gx_goto (tgt := 76) hX dX3_isSo_38 (by decide) ?_
      cases h
      exact gx_zret hX rfl rfl dX3_isSo_76 rfl ⟨rfl, rfl⟩ (fun _ h => h)
  · refine gx_iload hX dX3_isSo_45 rfl ?_
    refine gx_iconst (v := 1) hX dX3_isSo_47 (by decide) ?_
    refine gx_icmp_ne (tgt := 65) hX dX3_isSo_48 (by decide) h (fun h => ?_) (fun h => ?_)
    · refine gx_iload_n hX dX3_isSo_51 rfl ?_
      refine gx_iload hX dX3_isSo_52 rfl ?_
      refine gx_icmp_ne (tgt := 61) hX dX3_isSo_54 (by decide) h (fun h => ?_) (fun h => ?_)
      · refine gx_iconst (v := 1) hX dX3_isSo_57 (by decide) ?_
        refine gx_goto (tgt := 76) hX dX3_isSo_58 (by decide) ?_
        cases h
        exact gx_zret hX rfl rfl dX3_isSo_76 rfl ⟨rfl, rfl⟩ (fun _ h => h)
      · refine gx_iconst (v := 0) hX dX3_isSo_61 (by decide) ?_
        refine gx_goto (tgt := 76) hX dX3_isSo_62 (by decide) ?_
        cases h
        exact gx_zret hX rfl rfl dX3_isSo_76 rfl ⟨rfl, rfl⟩ (fun _ h => h)
    · refine gx_iload_n hX dX3_isSo_65 rfl ?_
      refine gx_iload hX dX3_isSo_66 rfl ?_
      refine gx_icmp_le (tgt := 75) hX dX3_isSo_68 (by decide) h (fun h => ?_) (fun h => ?_)
      · refine gx_iconst (v := 0) hX dX3_isSo_75 (by decide) ?_
        cases h
        exact gx_zret hX rfl rfl dX3_isSo_76 rfl ⟨rfl, rfl⟩ (fun _ h => h)
      · refine gx_iconst (v := 1) hX dX3_isSo_71 (by decide) ?_
        refine gx_goto (tgt := 76) hX dX3_isSo_72 (by decide) ?_
        cases h
        exact gx_zret hX rfl rfl dX3_isSo_76 rfl ⟨rfl, rfl⟩ (fun _ h => h)
abbrev iX3_goes : gx_M := (RX3, "goes", cX3_goes, 7, some .boolean)
theorem dsX3_goes : gx_ds yX3_goes 2 := by decide +kernel
def fX3_goes_B225 (N : Nat)  (K12 : gm_S → Int32 → Int32 → Int32 → Int32 → Int32 → Option (gm_S × Int32)) (σ : gm_S) (x1 : Int32) (x2 : Int32) (x3 : Int32) (x4 : Int32) (x5 : Int32) : Option (gm_S × Int32) := K12 σ (x1) (x2) (x3) (x4) ((x5) + 1)
set_option maxHeartbeats 4000000 in
theorem tX3_goes_B225 {w : gw_W} {X : gx_X} {N : Nat} {r : gm_S × Int32} (hA : ∀ q, gm_A w q → gx_A X q) (hX : gx_O (gw_I w (gx_A X)) X iX3_goes 2 0 0 (gm_P w r.1) (.returned (some (.int r.2)))) {K12 : gm_S → Int32 → Int32 → Int32 → Int32 → Int32 → Option (gm_S × Int32)} (hK12 : ∀ (σ : gm_S) (x1 : Int32) (x2 : Int32) (x3 : Int32) (x4 : Int32) (x5 : Int32), K12 σ x1 x2 x3 x4 x5 = some r → gx_G X (gm_P w σ) 0 0 [some (va_rf (some (gw_mo w))), some (.int (x1)), some (.int (x2)), some (.int (x3)), some (.int (x4)), some (.int (x5)), none] 12 []) {σ : gm_S} {x1 : Int32} {x2 : Int32} {x3 : Int32} {x4 : Int32} {x5 : Int32} (h : fX3_goes_B225 N K12 σ x1 x2 x3 x4 x5 = some r) : gx_G X (gm_P w σ) 0 0 [some (va_rf (some (gw_mo w))), some (.int (x1)), some (.int (x2)), some (.int (x3)), some (.int (x4)), some (.int (x5)), none] 225 [] := by
  unfold fX3_goes_B225 at h
  refine gx_iinc (v := 1) hX dX3_goes_225 rfl (by decide) gx_c1i (lv' := [some (va_rf (some (gw_mo w))), some (.int (x1)), some (.int (x2)), some (.int (x3)), some (.int (x4)), some (.int ((x5) + 1)), none]) rfl ?_
  refine gx_goto (tgt := 12) hX dX3_goes_228 (by decide) ?_
  exact hK12 _ _ _ _ _ _ h
def fX3_goes_B199 (N : Nat)  (K12 : gm_S → Int32 → Int32 → Int32 → Int32 → Int32 → Option (gm_S × Int32)) (σ : gm_S) (x1 : Int32) (x2 : Int32) (x3 : Int32) (x4 : Int32) (x5 : Int32) (y0 : Int32) (y1 : Int32) : Option (gm_S × Int32) := (gm_wz σ 19 (y1) (y0)).bind fun σ5 => fX3_goes_B225 N K12 σ5 (x1) (x2) (x3) (x4) (x5)
set_option maxHeartbeats 4000000 in
theorem tX3_goes_B199 {w : gw_W} {X : gx_X} {N : Nat} {r : gm_S × Int32} (hA : ∀ q, gm_A w q → gx_A X q) (hX : gx_O (gw_I w (gx_A X)) X iX3_goes 2 0 0 (gm_P w r.1) (.returned (some (.int r.2)))) {K12 : gm_S → Int32 → Int32 → Int32 → Int32 → Int32 → Option (gm_S × Int32)} (hK12 : ∀ (σ : gm_S) (x1 : Int32) (x2 : Int32) (x3 : Int32) (x4 : Int32) (x5 : Int32), K12 σ x1 x2 x3 x4 x5 = some r → gx_G X (gm_P w σ) 0 0 [some (va_rf (some (gw_mo w))), some (.int (x1)), some (.int (x2)), some (.int (x3)), some (.int (x4)), some (.int (x5)), none] 12 []) {σ : gm_S} {x1 : Int32} {x2 : Int32} {x3 : Int32} {x4 : Int32} {x5 : Int32} {y0 : Int32} {y1 : Int32} (h : fX3_goes_B199 N K12 σ x1 x2 x3 x4 x5 y0 y1 = some r) : gx_G X (gm_P w σ) 0 0 [some (va_rf (some (gw_mo w))), some (.int (x1)), some (.int (x2)), some (.int (x3)), some (.int (x4)), some (.int (x5)), none] 199 [.int (y0), .int (y1), va_rf (some (gm_a w 19))] := by
  unfold fX3_goes_B199 at h
  refine gm_stZ hX hA (by decide) dX3_goes_199 h (fun σ5 h => ?_)
  refine gx_goto (tgt := 225) hX dX3_goes_200 (by decide) ?_
  exact tX3_goes_B225 hA hX hK12 h
def fX3_goes_B194 (N : Nat)  (K12 : gm_S → Int32 → Int32 → Int32 → Int32 → Int32 → Option (gm_S × Int32)) (σ : gm_S) (x1 : Int32) (x2 : Int32) (x3 : Int32) (x4 : Int32) (x5 : Int32) (y0 : Int32) : Option (gm_S × Int32) := fX3_goes_B199 N K12 σ (x1) (x2) (x3) (x4) (x5) (1) (y0)
set_option maxHeartbeats 4000000 in
theorem tX3_goes_B194 {w : gw_W} {X : gx_X} {N : Nat} {r : gm_S × Int32} (hA : ∀ q, gm_A w q → gx_A X q) (hX : gx_O (gw_I w (gx_A X)) X iX3_goes 2 0 0 (gm_P w r.1) (.returned (some (.int r.2)))) {K12 : gm_S → Int32 → Int32 → Int32 → Int32 → Int32 → Option (gm_S × Int32)} (hK12 : ∀ (σ : gm_S) (x1 : Int32) (x2 : Int32) (x3 : Int32) (x4 : Int32) (x5 : Int32), K12 σ x1 x2 x3 x4 x5 = some r → gx_G X (gm_P w σ) 0 0 [some (va_rf (some (gw_mo w))), some (.int (x1)), some (.int (x2)), some (.int (x3)), some (.int (x4)), some (.int (x5)), none] 12 []) {σ : gm_S} {x1 : Int32} {x2 : Int32} {x3 : Int32} {x4 : Int32} {x5 : Int32} {y0 : Int32} (h : fX3_goes_B194 N K12 σ x1 x2 x3 x4 x5 y0 = some r) : gx_G X (gm_P w σ) 0 0 [some (va_rf (some (gw_mo w))), some (.int (x1)), some (.int (x2)), some (.int (x3)), some (.int (x4)), some (.int (x5)), none] 194 [.int (y0), va_rf (some (gm_a w 19))] := by
  unfold fX3_goes_B194 at h
  refine gx_iconst (v := 1) hX dX3_goes_194 (by decide) ?_
  refine gx_goto (tgt := 199) hX dX3_goes_195 (by decide) ?_
  exact tX3_goes_B199 hA hX hK12 h
def fX3_goes_B170 (N : Nat)  (K12 : gm_S → Int32 → Int32 → Int32 → Int32 → Int32 → Option (gm_S × Int32)) (σ : gm_S) (x1 : Int32) (x2 : Int32) (x3 : Int32) (x4 : Int32) (x5 : Int32) (y0 : Int32) : Option (gm_S × Int32) := fX3_goes_B199 N K12 σ (x1) (x2) (x3) (x4) (x5) (0) (y0)
set_option maxHeartbeats 4000000 in
theorem tX3_goes_B170 {w : gw_W} {X : gx_X} {N : Nat} {r : gm_S × Int32} (hA : ∀ q, gm_A w q → gx_A X q) (hX : gx_O (gw_I w (gx_A X)) X iX3_goes 2 0 0 (gm_P w r.1) (.returned (some (.int r.2)))) {K12 : gm_S → Int32 → Int32 → Int32 → Int32 → Int32 → Option (gm_S × Int32)} (hK12 : ∀ (σ : gm_S) (x1 : Int32) (x2 : Int32) (x3 : Int32) (x4 : Int32) (x5 : Int32), K12 σ x1 x2 x3 x4 x5 = some r → gx_G X (gm_P w σ) 0 0 [some (va_rf (some (gw_mo w))), some (.int (x1)), some (.int (x2)), some (.int (x3)), some (.int (x4)), some (.int (x5)), none] 12 []) {σ : gm_S} {x1 : Int32} {x2 : Int32} {x3 : Int32} {x4 : Int32} {x5 : Int32} {y0 : Int32} (h : fX3_goes_B170 N K12 σ x1 x2 x3 x4 x5 y0 = some r) : gx_G X (gm_P w σ) 0 0 [some (va_rf (some (gw_mo w))), some (.int (x1)), some (.int (x2)), some (.int (x3)), some (.int (x4)), some (.int (x5)), none] 170 [.int (y0), va_rf (some (gm_a w 19))] := by
  unfold fX3_goes_B170 at h
  refine gx_iconst (v := 0) hX dX3_goes_170 (by decide) ?_
  refine gx_goto (tgt := 199) hX dX3_goes_171 (by decide) ?_
  exact tX3_goes_B199 hA hX hK12 h
def fX3_goes_B118 (N : Nat)  (K12 : gm_S → Int32 → Int32 → Int32 → Int32 → Int32 → Option (gm_S × Int32)) (σ : gm_S) (x1 : Int32) (x2 : Int32) (x3 : Int32) (x4 : Int32) (x5 : Int32) (y0 : Int32) (y1 : Int32) : Option (gm_S × Int32) := (gm_wz σ 19 (y1) (y0)).bind fun σ10 => fX3_goes_B225 N K12 σ10 (x1) (x2) (x3) (x4) (x5)
set_option maxHeartbeats 4000000 in
theorem tX3_goes_B118 {w : gw_W} {X : gx_X} {N : Nat} {r : gm_S × Int32} (hA : ∀ q, gm_A w q → gx_A X q) (hX : gx_O (gw_I w (gx_A X)) X iX3_goes 2 0 0 (gm_P w r.1) (.returned (some (.int r.2)))) {K12 : gm_S → Int32 → Int32 → Int32 → Int32 → Int32 → Option (gm_S × Int32)} (hK12 : ∀ (σ : gm_S) (x1 : Int32) (x2 : Int32) (x3 : Int32) (x4 : Int32) (x5 : Int32), K12 σ x1 x2 x3 x4 x5 = some r → gx_G X (gm_P w σ) 0 0 [some (va_rf (some (gw_mo w))), some (.int (x1)), some (.int (x2)), some (.int (x3)), some (.int (x4)), some (.int (x5)), none] 12 []) {σ : gm_S} {x1 : Int32} {x2 : Int32} {x3 : Int32} {x4 : Int32} {x5 : Int32} {y0 : Int32} {y1 : Int32} (h : fX3_goes_B118 N K12 σ x1 x2 x3 x4 x5 y0 y1 = some r) : gx_G X (gm_P w σ) 0 0 [some (va_rf (some (gw_mo w))), some (.int (x1)), some (.int (x2)), some (.int (x3)), some (.int (x4)), some (.int (x5)), none] 118 [.int (y0), .int (y1), va_rf (some (gm_a w 19))] := by
  unfold fX3_goes_B118 at h
  refine gm_stZ hX hA (by decide) dX3_goes_118 h (fun σ10 h => ?_)
  refine gx_goto (tgt := 225) hX dX3_goes_119 (by decide) ?_
  exact tX3_goes_B225 hA hX hK12 h
def fX3_goes_B76 (N : Nat)  (K12 : gm_S → Int32 → Int32 → Int32 → Int32 → Int32 → Option (gm_S × Int32)) (σ : gm_S) (x1 : Int32) (x2 : Int32) (x3 : Int32) (x4 : Int32) (x5 : Int32) (y0 : Int32) (y1 : Int32) (y3 : Int32) : Option (gm_S × Int32) := (fX3_isSo (σ) (y1) (y0)).bind fun r11 => (gm_wz σ 19 (y3) (r11)).bind fun σ12 => fX3_goes_B225 N K12 σ12 (x1) (x2) ((x3) + 1) ((x4) + 1) (x5)
set_option maxHeartbeats 4000000 in
theorem tX3_goes_B76 {w : gw_W} {X : gx_X} {N : Nat} {r : gm_S × Int32} (hA : ∀ q, gm_A w q → gx_A X q) (hX : gx_O (gw_I w (gx_A X)) X iX3_goes 2 0 0 (gm_P w r.1) (.returned (some (.int r.2)))) {K12 : gm_S → Int32 → Int32 → Int32 → Int32 → Int32 → Option (gm_S × Int32)} (hK12 : ∀ (σ : gm_S) (x1 : Int32) (x2 : Int32) (x3 : Int32) (x4 : Int32) (x5 : Int32), K12 σ x1 x2 x3 x4 x5 = some r → gx_G X (gm_P w σ) 0 0 [some (va_rf (some (gw_mo w))), some (.int (x1)), some (.int (x2)), some (.int (x3)), some (.int (x4)), some (.int (x5)), none] 12 []) {σ : gm_S} {x1 : Int32} {x2 : Int32} {x3 : Int32} {x4 : Int32} {x5 : Int32} {y0 : Int32} {y1 : Int32} {y3 : Int32} (h : fX3_goes_B76 N K12 σ x1 x2 x3 x4 x5 y0 y1 y3 = some r) : gx_G X (gm_P w σ) 0 0 [some (va_rf (some (gw_mo w))), some (.int (x1)), some (.int (x2)), some (.int (x3)), some (.int (x4)), some (.int (x5)), none] 76 [.int (y0), .int (y1), va_rf (some (gw_mo w)), .int (y3), va_rf (some (gm_a w 19))] := by
  unfold fX3_goes_B76 at h
  obtain ⟨r11, hr11, h⟩ := gx_bs h
  refine gx_cV (As := [.int (y1), .int (y0)]) (rest := [.int (y3), va_rf (some (gm_a w 19))]) (b := gw_mo w) hX (tX3_isSo w _ hA (gx_l X) (σ) (y1) (y0) hr11) (lw_V q1667 q1669 qs57 q92 q1670) ⟨rfl, dsX3_isSo⟩ (by decide) (by decide) (gm_rc hX) rfl (gx_w8 (gx_kI (gx_kR gx_k0)) (Nat.le_of_ble_eq_true rfl)) dX3_goes_76 ⟨Nat.le_refl _, Nat.le_refl _⟩ rfl ?_
  refine gm_stZ hX hA (by decide) dX3_goes_79 h (fun σ12 h => ?_)
  refine gx_iinc (v := 1) hX dX3_goes_80 rfl (by decide) gx_c1i (lv' := [some (va_rf (some (gw_mo w))), some (.int (x1)), some (.int (x2)), some (.int ((x3) + 1)), some (.int (x4)), some (.int (x5)), none]) rfl ?_
  refine gx_iinc (v := 1) hX dX3_goes_83 rfl (by decide) gx_c1i (lv' := [some (va_rf (some (gw_mo w))), some (.int (x1)), some (.int (x2)), some (.int ((x3) + 1)), some (.int ((x4) + 1)), some (.int (x5)), none]) rfl ?_
  refine gx_goto (tgt := 225) hX dX3_goes_86 (by decide) ?_
  exact tX3_goes_B225 hA hX hK12 h
def fX3_goes_B75 (N : Nat)  (K12 : gm_S → Int32 → Int32 → Int32 → Int32 → Int32 → Option (gm_S × Int32)) (σ : gm_S) (x1 : Int32) (x2 : Int32) (x3 : Int32) (x4 : Int32) (x5 : Int32) (y0 : Int32) (y2 : Int32) : Option (gm_S × Int32) := fX3_goes_B76 N K12 σ (x1) (x2) (x3) (x4) (x5) (0) (y0) (y2)
set_option maxHeartbeats 4000000 in
theorem tX3_goes_B75 {w : gw_W} {X : gx_X} {N : Nat} {r : gm_S × Int32} (hA : ∀ q, gm_A w q → gx_A X q) (hX : gx_O (gw_I w (gx_A X)) X iX3_goes 2 0 0 (gm_P w r.1) (.returned (some (.int r.2)))) {K12 : gm_S → Int32 → Int32 → Int32 → Int32 → Int32 → Option (gm_S × Int32)} (hK12 : ∀ (σ : gm_S) (x1 : Int32) (x2 : Int32) (x3 : Int32) (x4 : Int32) (x5 : Int32), K12 σ x1 x2 x3 x4 x5 = some r → gx_G X (gm_P w σ) 0 0 [some (va_rf (some (gw_mo w))), some (.int (x1)), some (.int (x2)), some (.int (x3)), some (.int (x4)), some (.int (x5)), none] 12 []) {σ : gm_S} {x1 : Int32} {x2 : Int32} {x3 : Int32} {x4 : Int32} {x5 : Int32} {y0 : Int32} {y2 : Int32} (h : fX3_goes_B75 N K12 σ x1 x2 x3 x4 x5 y0 y2 = some r) : gx_G X (gm_P w σ) 0 0 [some (va_rf (some (gw_mo w))), some (.int (x1)), some (.int (x2)), some (.int (x3)), some (.int (x4)), some (.int (x5)), none] 75 [.int (y0), va_rf (some (gw_mo w)), .int (y2), va_rf (some (gm_a w 19))] := by
  unfold fX3_goes_B75 at h
  refine gx_iconst (v := 0) hX dX3_goes_75 (by decide) ?_
  exact tX3_goes_B76 hA hX hK12 h
def fX3_goes_L12 (N : Nat)   : Nat → gm_S → Int32 → Int32 → Int32 → Int32 → Int32 → Option (gm_S × Int32)
  | 0, _, _, _, _, _, _ => none
  | k + 1, σ, x1, x2, x3, x4, x5 => (gm_rd σ 18 (x1)).bind fun v1 => if (((nI 140) * (x1)) + (v1)) ≤ x5 then some (σ, 0) else (gm_rd σ 17 (x5)).bind fun v2 => if (v2) < 0 then if v2 = (-1) then (gm_rd σ 19 ((x3) - (1))).bind fun v9 => if v9 = 0 then fX3_goes_B118 N (fX3_goes_L12 N k) σ (x1) (x2) (x3) (x4) (x5) (1) ((x3) - (1)) else fX3_goes_B118 N (fX3_goes_L12 N k) σ (x1) (x2) (x3) (x4) (x5) (0) ((x3) - (1)) else if (v2) ≤ (-10) then if v2 = ((-10)) - (x2) then (gm_rd σ 19 (0)).bind fun v3 => if v3 = 0 then fX3_goes_B225 N (fX3_goes_L12 N k) σ (x1) (x2) (0) (x4) (x5) else some (σ, 1) else fX3_goes_B225 N (fX3_goes_L12 N k) σ (x1) (x2) (0) (x4) (x5) else if v2 = (-2) then (gm_rd σ 19 (((x3) + (-1)) - (1))).bind fun v7 => if v7 = 0 then fX3_goes_B170 N (fX3_goes_L12 N k) σ (x1) (x2) ((x3) + (-1)) (x4) (x5) (((x3) + (-1)) - (1)) else (gm_rd σ 19 ((x3) + (-1))).bind fun v8 => if v8 = 0 then fX3_goes_B170 N (fX3_goes_L12 N k) σ (x1) (x2) ((x3) + (-1)) (x4) (x5) (((x3) + (-1)) - (1)) else fX3_goes_B199 N (fX3_goes_L12 N k) σ (x1) (x2) ((x3) + (-1)) (x4) (x5) (1) (((x3) + (-1)) - (1)) else (gm_rd σ 19 (((x3) + (-1)) - (1))).bind fun v4 => if v4 = 0 then (gm_rd σ 19 ((x3) + (-1))).bind fun v6 => if v6 = 0 then fX3_goes_B199 N (fX3_goes_L12 N k) σ (x1) (x2) ((x3) + (-1)) (x4) (x5) (0) (((x3) + (-1)) - (1)) else fX3_goes_B194 N (fX3_goes_L12 N k) σ (x1) (x2) ((x3) + (-1)) (x4) (x5) (((x3) + (-1)) - (1)) else fX3_goes_B194 N (fX3_goes_L12 N k) σ (x1) (x2) ((x3) + (-1)) (x4) (x5) (((x3) + (-1)) - (1)) else if x1 = gs σ 22 then if x4 = gs σ 20 then fX3_goes_B76 N (fX3_goes_L12 N k) σ (x1) (x2) (x3) (x4) (x5) (gs σ 21) (v2) (x3) else fX3_goes_B75 N (fX3_goes_L12 N k) σ (x1) (x2) (x3) (x4) (x5) (v2) (x3) else fX3_goes_B75 N (fX3_goes_L12 N k) σ (x1) (x2) (x3) (x4) (x5) (v2) (x3)
set_option maxHeartbeats 4000000 in
theorem tX3_goes_L12 {w : gw_W} {X : gx_X} {N : Nat} {r : gm_S × Int32} (hA : ∀ q, gm_A w q → gx_A X q) (hX : gx_O (gw_I w (gx_A X)) X iX3_goes 2 0 0 (gm_P w r.1) (.returned (some (.int r.2))))  : ∀ (k : Nat) (σ : gm_S) (x1 : Int32) (x2 : Int32) (x3 : Int32) (x4 : Int32) (x5 : Int32), fX3_goes_L12 N k σ x1 x2 x3 x4 x5 = some r → gx_G X (gm_P w σ) 0 0 [some (va_rf (some (gw_mo w))), some (.int (x1)), some (.int (x2)), some (.int (x3)), some (.int (x4)), some (.int (x5)), none] 12 [] := by
  intro k
  induction k with
  | zero =>
    intro σ x1 x2 x3 x4 x5 h
    unfold fX3_goes_L12 at h
    cases h
  | succ k ih =>
    intro σ x1 x2 x3 x4 x5 h
    unfold fX3_goes_L12 at h
    refine gx_iload hX dX3_goes_12 rfl ?_
    refine gx_sipush (v := nI 140) hX dX3_goes_14 (by decide) ?_
    refine gx_iload_n hX dX3_goes_17 rfl ?_
    refine gx_imul hX dX3_goes_18 ?_
    refine gx_aload_n hX dX3_goes_19 rfl ?_
    refine gm_getA hX 18 (by decide) (by decide) q1359 rfl dX3_goes_20 ?_
    refine gx_iload_n hX dX3_goes_23 rfl ?_
    refine gm_ld hX (by decide) dX3_goes_24 h (fun v1 h => ?_)
    refine gx_iadd hX dX3_goes_25 ?_
    refine gx_icmp_ge (tgt := 231) hX dX3_goes_26 (by decide) h (fun h => ?_) (fun h => ?_)
    · refine gx_iconst (v := 0) hX dX3_goes_231 (by decide) ?_
      cases h
      exact gx_zret hX rfl rfl dX3_goes_232 rfl ⟨rfl, rfl⟩ (fun _ h => h)
    · refine gx_aload_n hX dX3_goes_29 rfl ?_
      refine gm_getA hX 17 (by decide) (by decide) q1358 rfl dX3_goes_30 ?_
      refine gx_iload hX dX3_goes_33 rfl ?_
      refine gm_ld hX (by decide) dX3_goes_35 h (fun v2 h => ?_)
      refine gx_istore hX dX3_goes_36 (Nat.le_of_ble_eq_true rfl) gx_c1i (lv' := [some (va_rf (some (gw_mo w))), some (.int (x1)), some (.int (x2)), some (.int (x3)), some (.int (x4)), some (.int (x5)), some (.int (v2))]) rfl ?_
      refine gx_iload hX dX3_goes_38 rfl ?_
      refine gx_if_lt (tgt := 89) hX dX3_goes_40 (by decide) h (fun h => ?_) (fun h => ?_)
      · refine gx_iload hX dX3_goes_89 rfl ?_
        refine gx_iconst (v := (-1)) hX dX3_goes_91 (by decide) ?_
        refine gx_icmp_ne (tgt := 122) hX dX3_goes_92 (by decide) h (fun h => ?_) (fun h => ?_)
        · refine gx_aload_n hX dX3_goes_95 rfl ?_
          refine gm_getA hX 19 (by decide) (by decide) q1360 rfl dX3_goes_96 ?_
          refine gx_iload_n hX dX3_goes_99 rfl ?_
          refine gx_iconst (v := 1) hX dX3_goes_100 (by decide) ?_
          refine gx_isub hX dX3_goes_101 ?_
          refine gx_aload_n hX dX3_goes_102 rfl ?_
          refine gm_getA hX 19 (by decide) (by decide) q1360 rfl dX3_goes_103 ?_
          refine gx_iload_n hX dX3_goes_106 rfl ?_
          refine gx_iconst (v := 1) hX dX3_goes_107 (by decide) ?_
          refine gx_isub hX dX3_goes_108 ?_
          refine gm_ldz hX (by decide) dX3_goes_109 h (fun v9 h => ?_)
          refine gx_if_ne (tgt := 117) hX dX3_goes_110 (by decide) h (fun h => ?_) (fun h => ?_)
          · refine gx_iconst (v := 1) hX dX3_goes_113 (by decide) ?_
            refine gx_goto (tgt := 118) hX dX3_goes_114 (by decide) ?_
            refine gx_sub hX (lv' := [some (va_rf (some (gw_mo w))), some (.int (x1)), some (.int (x2)), some (.int (x3)), some (.int (x4)), some (.int (x5)), none]) ⟨Or.inr rfl, ⟨Or.inr rfl, ⟨Or.inr rfl, ⟨Or.inr rfl, ⟨Or.inr rfl, ⟨Or.inr rfl, ⟨Or.inl rfl, trivial⟩⟩⟩⟩⟩⟩⟩ ?_
            exact tX3_goes_B118 hA hX ih h
          · refine gx_iconst (v := 0) hX dX3_goes_117 (by decide) ?_
            refine gx_sub hX (lv' := [some (va_rf (some (gw_mo w))), some (.int (x1)), some (.int (x2)), some (.int (x3)), some (.int (x4)), some (.int (x5)), none]) ⟨Or.inr rfl, ⟨Or.inr rfl, ⟨Or.inr rfl, ⟨Or.inr rfl, ⟨Or.inr rfl, ⟨Or.inr rfl, ⟨Or.inl rfl, trivial⟩⟩⟩⟩⟩⟩⟩ ?_
            exact tX3_goes_B118 hA hX ih h
        · refine gx_iload hX dX3_goes_122 rfl ?_
          refine gx_bipush (v := (-10)) hX dX3_goes_124 (by decide) ?_
          refine gx_icmp_le (tgt := 203) hX dX3_goes_126 (by decide) h (fun h => ?_) (fun h => ?_)
          · refine gx_iconst (v := 0) hX dX3_goes_203 (by decide) ?_
            refine gx_istore_n hX dX3_goes_204 (Nat.le_of_ble_eq_true rfl) gx_c1i (lv' := [some (va_rf (some (gw_mo w))), some (.int (x1)), some (.int (x2)), some (.int (0)), some (.int (x4)), some (.int (x5)), some (.int (v2))]) rfl ?_
            refine gx_iload hX dX3_goes_205 rfl ?_
            refine gx_bipush (v := (-10)) hX dX3_goes_207 (by decide) ?_
            refine gx_iload_n hX dX3_goes_209 rfl ?_
            refine gx_isub hX dX3_goes_210 ?_
            refine gx_icmp_ne (tgt := 225) hX dX3_goes_211 (by decide) h (fun h => ?_) (fun h => ?_)
            · refine gx_aload_n hX dX3_goes_214 rfl ?_
              refine gm_getA hX 19 (by decide) (by decide) q1360 rfl dX3_goes_215 ?_
              refine gx_iconst (v := 0) hX dX3_goes_218 (by decide) ?_
              refine gm_ldz hX (by decide) dX3_goes_219 h (fun v3 h => ?_)
              refine gx_if_eq (tgt := 225) hX dX3_goes_220 (by decide) h (fun h => ?_) (fun h => ?_)
              · refine gx_sub hX (lv' := [some (va_rf (some (gw_mo w))), some (.int (x1)), some (.int (x2)), some (.int (0)), some (.int (x4)), some (.int (x5)), none]) ⟨Or.inr rfl, ⟨Or.inr rfl, ⟨Or.inr rfl, ⟨Or.inr rfl, ⟨Or.inr rfl, ⟨Or.inr rfl, ⟨Or.inl rfl, trivial⟩⟩⟩⟩⟩⟩⟩ ?_
                exact tX3_goes_B225 hA hX ih h
              · refine gx_iconst (v := 1) hX dX3_goes_223 (by decide) ?_
                cases h
                exact gx_zret hX rfl rfl dX3_goes_224 rfl ⟨rfl, rfl⟩ (fun _ h => h)
            · refine gx_sub hX (lv' := [some (va_rf (some (gw_mo w))), some (.int (x1)), some (.int (x2)), some (.int (0)), some (.int (x4)), some (.int (x5)), none]) ⟨Or.inr rfl, ⟨Or.inr rfl, ⟨Or.inr rfl, ⟨Or.inr rfl, ⟨Or.inr rfl, ⟨Or.inr rfl, ⟨Or.inl rfl, trivial⟩⟩⟩⟩⟩⟩⟩ ?_
              exact tX3_goes_B225 hA hX ih h
          · refine gx_iinc (v := (-1)) hX dX3_goes_129 rfl (by decide) gx_c1i (lv' := [some (va_rf (some (gw_mo w))), some (.int (x1)), some (.int (x2)), some (.int ((x3) + (-1))), some (.int (x4)), some (.int (x5)), some (.int (v2))]) rfl ?_
            refine gx_aload_n hX dX3_goes_132 rfl ?_
            refine gm_getA hX 19 (by decide) (by decide) q1360 rfl dX3_goes_133 ?_
            refine gx_iload_n hX dX3_goes_136 rfl ?_
            refine gx_iconst (v := 1) hX dX3_goes_137 (by decide) ?_
            refine gx_isub hX dX3_goes_138 ?_
            refine gx_iload hX dX3_goes_139 rfl ?_
            refine gx_bipush (v := (-2)) hX dX3_goes_141 (by decide) ?_
            refine gx_icmp_ne (tgt := 174) hX dX3_goes_143 (by decide) h (fun h => ?_) (fun h => ?_)
            · refine gx_aload_n hX dX3_goes_146 rfl ?_
              refine gm_getA hX 19 (by decide) (by decide) q1360 rfl dX3_goes_147 ?_
              refine gx_iload_n hX dX3_goes_150 rfl ?_
              refine gx_iconst (v := 1) hX dX3_goes_151 (by decide) ?_
              refine gx_isub hX dX3_goes_152 ?_
              refine gm_ldz hX (by decide) dX3_goes_153 h (fun v7 h => ?_)
              refine gx_if_eq (tgt := 170) hX dX3_goes_154 (by decide) h (fun h => ?_) (fun h => ?_)
              · refine gx_sub hX (lv' := [some (va_rf (some (gw_mo w))), some (.int (x1)), some (.int (x2)), some (.int ((x3) + (-1))), some (.int (x4)), some (.int (x5)), none]) ⟨Or.inr rfl, ⟨Or.inr rfl, ⟨Or.inr rfl, ⟨Or.inr rfl, ⟨Or.inr rfl, ⟨Or.inr rfl, ⟨Or.inl rfl, trivial⟩⟩⟩⟩⟩⟩⟩ ?_
                exact tX3_goes_B170 hA hX ih h
              · refine gx_aload_n hX dX3_goes_157 rfl ?_
                refine gm_getA hX 19 (by decide) (by decide) q1360 rfl dX3_goes_158 ?_
                refine gx_iload_n hX dX3_goes_161 rfl ?_
                refine gm_ldz hX (by decide) dX3_goes_162 h (fun v8 h => ?_)
                refine gx_if_eq (tgt := 170) hX dX3_goes_163 (by decide) h (fun h => ?_) (fun h => ?_)
                · refine gx_sub hX (lv' := [some (va_rf (some (gw_mo w))), some (.int (x1)), some (.int (x2)), some (.int ((x3) + (-1))), some (.int (x4)), some (.int (x5)), none]) ⟨Or.inr rfl, ⟨Or.inr rfl, ⟨Or.inr rfl, ⟨Or.inr rfl, ⟨Or.inr rfl, ⟨Or.inr rfl, ⟨Or.inl rfl, trivial⟩⟩⟩⟩⟩⟩⟩ ?_
                  exact tX3_goes_B170 hA hX ih h
                · refine gx_iconst (v := 1) hX dX3_goes_166 (by decide) ?_
                  refine gx_goto (tgt := 199) hX dX3_goes_167 (by decide) ?_
                  refine gx_sub hX (lv' := [some (va_rf (some (gw_mo w))), some (.int (x1)), some (.int (x2)), some (.int ((x3) + (-1))), some (.int (x4)), some (.int (x5)), none]) ⟨Or.inr rfl, ⟨Or.inr rfl, ⟨Or.inr rfl, ⟨Or.inr rfl, ⟨Or.inr rfl, ⟨Or.inr rfl, ⟨Or.inl rfl, trivial⟩⟩⟩⟩⟩⟩⟩ ?_
                  exact tX3_goes_B199 hA hX ih h
            · refine gx_aload_n hX dX3_goes_174 rfl ?_
              refine gm_getA hX 19 (by decide) (by decide) q1360 rfl dX3_goes_175 ?_
              refine gx_iload_n hX dX3_goes_178 rfl ?_
              refine gx_iconst (v := 1) hX dX3_goes_179 (by decide) ?_
              refine gx_isub hX dX3_goes_180 ?_
              refine gm_ldz hX (by decide) dX3_goes_181 h (fun v4 h => ?_)
              refine gx_if_ne (tgt := 194) hX dX3_goes_182 (by decide) h (fun h => ?_) (fun h => ?_)
              · refine gx_aload_n hX dX3_goes_185 rfl ?_
                refine gm_getA hX 19 (by decide) (by decide) q1360 rfl dX3_goes_186 ?_
                refine gx_iload_n hX dX3_goes_189 rfl ?_
                refine gm_ldz hX (by decide) dX3_goes_190 h (fun v6 h => ?_)
                refine gx_if_eq (tgt := 198) hX dX3_goes_191 (by decide) h (fun h => ?_) (fun h => ?_)
                · refine gx_iconst (v := 0) hX dX3_goes_198 (by decide) ?_
                  refine gx_sub hX (lv' := [some (va_rf (some (gw_mo w))), some (.int (x1)), some (.int (x2)), some (.int ((x3) + (-1))), some (.int (x4)), some (.int (x5)), none]) ⟨Or.inr rfl, ⟨Or.inr rfl, ⟨Or.inr rfl, ⟨Or.inr rfl, ⟨Or.inr rfl, ⟨Or.inr rfl, ⟨Or.inl rfl, trivial⟩⟩⟩⟩⟩⟩⟩ ?_
                  exact tX3_goes_B199 hA hX ih h
                · refine gx_sub hX (lv' := [some (va_rf (some (gw_mo w))), some (.int (x1)), some (.int (x2)), some (.int ((x3) + (-1))), some (.int (x4)), some (.int (x5)), none]) ⟨Or.inr rfl, ⟨Or.inr rfl, ⟨Or.inr rfl, ⟨Or.inr rfl, ⟨Or.inr rfl, ⟨Or.inr rfl, ⟨Or.inl rfl, trivial⟩⟩⟩⟩⟩⟩⟩ ?_
                  exact tX3_goes_B194 hA hX ih h
              · refine gx_sub hX (lv' := [some (va_rf (some (gw_mo w))), some (.int (x1)), some (.int (x2)), some (.int ((x3) + (-1))), some (.int (x4)), some (.int (x5)), none]) ⟨Or.inr rfl, ⟨Or.inr rfl, ⟨Or.inr rfl, ⟨Or.inr rfl, ⟨Or.inr rfl, ⟨Or.inr rfl, ⟨Or.inl rfl, trivial⟩⟩⟩⟩⟩⟩⟩ ?_
                exact tX3_goes_B194 hA hX ih h
      · refine gx_aload_n hX dX3_goes_43 rfl ?_
        refine gm_getA hX 19 (by decide) (by decide) q1360 rfl dX3_goes_44 ?_
        refine gx_iload_n hX dX3_goes_47 rfl ?_
        refine gx_aload_n hX dX3_goes_48 rfl ?_
        refine gx_iload hX dX3_goes_49 rfl ?_
        refine gx_iload_n hX dX3_goes_51 rfl ?_
        refine gx_aload_n hX dX3_goes_52 rfl ?_
        refine gm_getI hX 22 (by decide) rfl q1363 rfl dX3_goes_53 ?_
        refine gx_icmp_ne (tgt := 75) hX dX3_goes_56 (by decide) h (fun h => ?_) (fun h => ?_)
        · refine gx_iload hX dX3_goes_59 rfl ?_
          refine gx_aload_n hX dX3_goes_61 rfl ?_
          refine gm_getI hX 20 (by decide) rfl q1361 rfl dX3_goes_62 ?_
          refine gx_icmp_ne (tgt := 75) hX dX3_goes_65 (by decide) h (fun h => ?_) (fun h => ?_)
          · refine gx_aload_n hX dX3_goes_68 rfl ?_
            refine gm_getI hX 21 (by decide) rfl q1362 rfl dX3_goes_69 ?_
            refine gx_goto (tgt := 76) hX dX3_goes_72 (by decide) ?_
            refine gx_sub hX (lv' := [some (va_rf (some (gw_mo w))), some (.int (x1)), some (.int (x2)), some (.int (x3)), some (.int (x4)), some (.int (x5)), none]) ⟨Or.inr rfl, ⟨Or.inr rfl, ⟨Or.inr rfl, ⟨Or.inr rfl, ⟨Or.inr rfl, ⟨Or.inr rfl, ⟨Or.inl rfl, trivial⟩⟩⟩⟩⟩⟩⟩ ?_
            exact tX3_goes_B76 hA hX ih h
          · refine gx_sub hX (lv' := [some (va_rf (some (gw_mo w))), some (.int (x1)), some (.int (x2)), some (.int (x3)), some (.int (x4)), some (.int (x5)), none]) ⟨Or.inr rfl, ⟨Or.inr rfl, ⟨Or.inr rfl, ⟨Or.inr rfl, ⟨Or.inr rfl, ⟨Or.inr rfl, ⟨Or.inl rfl, trivial⟩⟩⟩⟩⟩⟩⟩ ?_
            exact tX3_goes_B75 hA hX ih h
        · refine gx_sub hX (lv' := [some (va_rf (some (gw_mo w))), some (.int (x1)), some (.int (x2)), some (.int (x3)), some (.int (x4)), some (.int (x5)), none]) ⟨Or.inr rfl, ⟨Or.inr rfl, ⟨Or.inr rfl, ⟨Or.inr rfl, ⟨Or.inr rfl, ⟨Or.inr rfl, ⟨Or.inl rfl, trivial⟩⟩⟩⟩⟩⟩⟩ ?_
          exact tX3_goes_B75 hA hX ih h
def fX3_goes (N : Nat) (σ : gm_S) (x1 : Int32) (x2 : Int32) : Option (gm_S × Int32) := fX3_goes_L12 N N σ (x1) (x2) (0) (0) ((nI 140) * (x1))
set_option maxHeartbeats 4000000 in
theorem tX3_goes (w : gw_W) (A : Nat → Prop) (hA : ∀ q, gm_A w q → A q) (l : Launch) (N : Nat) (σ : gm_S) (x1 : Int32) (x2 : Int32) {r : gm_S × Int32} (h : fX3_goes N σ x1 x2 = some r) : gx_T (gw_I w A) A l yX3_goes iX3_goes 2 [va_rf (some (gw_mo w)), .int (x1), .int (x2)] (gm_P w σ) 0 0 (gm_P w r.1) (.returned (some (.int r.2))) := by
  refine gx_T.of (gw_I.inv w A) (by decide) ⟨rfl, rfl⟩ (gx_kR (gx_kI (gx_kI gx_k0))) (Nat.le_of_ble_eq_true rfl) (fun X hl hAx hX => ?_)
  subst hl
  subst hAx
  show gx_G X (gm_P w σ) 0 0 [some (va_rf (some (gw_mo w))), some (.int (x1)), some (.int (x2)), none, none, none, none] 0 []
  unfold fX3_goes at h
  refine gx_iconst (v := 0) hX dX3_goes_0 (by decide) ?_
  refine gx_istore_n hX dX3_goes_1 (Nat.le_of_ble_eq_true rfl) gx_c1i (lv' := [some (va_rf (some (gw_mo w))), some (.int (x1)), some (.int (x2)), some (.int (0)), none, none, none]) rfl ?_
  refine gx_iconst (v := 0) hX dX3_goes_2 (by decide) ?_
  refine gx_istore hX dX3_goes_3 (Nat.le_of_ble_eq_true rfl) gx_c1i (lv' := [some (va_rf (some (gw_mo w))), some (.int (x1)), some (.int (x2)), some (.int (0)), some (.int (0)), none, none]) rfl ?_
  refine gx_sipush (v := nI 140) hX dX3_goes_5 (by decide) ?_
  refine gx_iload_n hX dX3_goes_8 rfl ?_
  refine gx_imul hX dX3_goes_9 ?_
  refine gx_istore hX dX3_goes_10 (Nat.le_of_ble_eq_true rfl) gx_c1i (lv' := [some (va_rf (some (gw_mo w))), some (.int (x1)), some (.int (x2)), some (.int (0)), some (.int (0)), some (.int ((nI 140) * (x1))), none]) rfl ?_
  exact tX3_goes_L12 hA hX  N _ _ _ _ _ _ h
abbrev iX3_holdsFor : gx_M := (RX3, "holdsFor", cX3_holdsFor, 8, some .boolean)
theorem dsX3_holdsFor : gx_ds yX3_holdsFor 7 := by decide +kernel
def fX3_holdsFor (N : Nat) (σ : gm_S) (x1 : Int32) (x2 : Int32) (x3 : Int32) (x4 : Int32) (x5 : Int32) (x6 : Int32) (x7 : Int32) : Option (gm_S × Int32) := (gm_wr σ 16 (0) (x3)).bind fun σ1 => (gm_wr σ1 16 (1) (x4)).bind fun σ2 => (gm_wr σ2 16 (2) (x5)).bind fun σ3 => (gm_wr σ3 16 (3) (x6)).bind fun σ4 => (gm_wr σ4 16 (4) (x7)).bind fun σ5 => if x1 = (-1) then some (σ5, 0) else (fX3_goes N (σ5) (x1) (x2)).bind fun r6 => if r6.2 = 0 then some (r6.1, 0) else some (r6.1, 1)
set_option maxHeartbeats 4000000 in
theorem tX3_holdsFor (w : gw_W) (A : Nat → Prop) (hA : ∀ q, gm_A w q → A q) (l : Launch) (N : Nat) (σ : gm_S) (x1 : Int32) (x2 : Int32) (x3 : Int32) (x4 : Int32) (x5 : Int32) (x6 : Int32) (x7 : Int32) {r : gm_S × Int32} (h : fX3_holdsFor N σ x1 x2 x3 x4 x5 x6 x7 = some r) : gx_T (gw_I w A) A l yX3_holdsFor iX3_holdsFor 3 [va_rf (some (gw_mo w)), .int (x1), .int (x2), .int (x3), .int (x4), .int (x5), .int (x6), .int (x7)] (gm_P w σ) 0 0 (gm_P w r.1) (.returned (some (.int r.2))) := by
  refine gx_T.of (gw_I.inv w A) (by decide) ⟨rfl, rfl⟩ (gx_kR (gx_kI (gx_kI (gx_kI (gx_kI (gx_kI (gx_kI (gx_kI gx_k0)))))))) (Nat.le_of_ble_eq_true rfl) (fun X hl hAx hX => ?_)
  subst hl
  subst hAx
  show gx_G X (gm_P w σ) 0 0 [some (va_rf (some (gw_mo w))), some (.int (x1)), some (.int (x2)), some (.int (x3)), some (.int (x4)), some (.int (x5)), some (.int (x6)), some (.int (x7))] 0 []
  unfold fX3_holdsFor at h
  refine gx_aload_n hX dX3_holdsFor_0 rfl ?_
  refine gm_getA hX 16 (by decide) (by decide) q1357 rfl dX3_holdsFor_1 ?_
  refine gx_iconst (v := 0) hX dX3_holdsFor_4 (by decide) ?_
  refine gx_iload_n hX dX3_holdsFor_5 rfl ?_
  refine gm_st hX hA (by decide) dX3_holdsFor_6 h (fun σ1 h => ?_)
  refine gx_aload_n hX dX3_holdsFor_7 rfl ?_
  refine gm_getA hX 16 (by decide) (by decide) q1357 rfl dX3_holdsFor_8 ?_
  refine gx_iconst (v := 1) hX dX3_holdsFor_11 (by decide) ?_
  refine gx_iload hX dX3_holdsFor_12 rfl ?_
  refine gm_st hX hA (by decide) dX3_holdsFor_14 h (fun σ2 h => ?_)
  refine gx_aload_n hX dX3_holdsFor_15 rfl ?_
  refine gm_getA hX 16 (by decide) (by decide) q1357 rfl dX3_holdsFor_16 ?_
  refine gx_iconst (v := 2) hX dX3_holdsFor_19 (by decide) ?_
  refine gx_iload hX dX3_holdsFor_20 rfl ?_
  refine gm_st hX hA (by decide) dX3_holdsFor_22 h (fun σ3 h => ?_)
  refine gx_aload_n hX dX3_holdsFor_23 rfl ?_
  refine gm_getA hX 16 (by decide) (by decide) q1357 rfl dX3_holdsFor_24 ?_
  refine gx_iconst (v := 3) hX dX3_holdsFor_27 (by decide) ?_
  refine gx_iload hX dX3_holdsFor_28 rfl ?_
  refine gm_st hX hA (by decide) dX3_holdsFor_30 h (fun σ4 h => ?_)
  refine gx_aload_n hX dX3_holdsFor_31 rfl ?_
  refine gm_getA hX 16 (by decide) (by decide) q1357 rfl dX3_holdsFor_32 ?_
  refine gx_iconst (v := 4) hX dX3_holdsFor_35 (by decide) ?_
  refine gx_iload hX dX3_holdsFor_36 rfl ?_
  refine gm_st hX hA (by decide) dX3_holdsFor_38 h (fun σ5 h => ?_)
  refine gx_iload_n hX dX3_holdsFor_39 rfl ?_
  refine gx_iconst (v := (-1)) hX dX3_holdsFor_40 (by decide) ?_
  refine gx_icmp_eq (tgt := 57) hX dX3_holdsFor_41 (by decide) h (fun h => ?_) (fun h => ?_)
  · refine gx_iconst (v := 0) hX dX3_holdsFor_57 (by decide) ?_
    cases h
    exact gx_zret hX rfl rfl dX3_holdsFor_58 rfl ⟨rfl, rfl⟩ (fun _ h => h)
  · refine gx_aload_n hX dX3_holdsFor_44 rfl ?_
    refine gx_iload_n hX dX3_holdsFor_45 rfl ?_
    refine gx_iload_n hX dX3_holdsFor_46 rfl ?_
    obtain ⟨r6, hr6, h⟩ := gx_bs h
    refine gx_cV (As := [.int (x1), .int (x2)]) (rest := []) (b := gw_mo w) hX (tX3_goes w _ hA (gx_l X) N (σ5) (x1) (x2) hr6) (lw_V q1663 q1665 qs56 q92 q1666) ⟨rfl, dsX3_goes⟩ (by decide) (by decide) (gm_rc hX) rfl (gx_w8 gx_k0 (Nat.le_of_ble_eq_true rfl)) dX3_holdsFor_47 ⟨Nat.le_refl _, Nat.le_refl _⟩ rfl ?_
    refine gx_if_eq (tgt := 57) hX dX3_holdsFor_50 (by decide) h (fun h => ?_) (fun h => ?_)
    · refine gx_iconst (v := 0) hX dX3_holdsFor_57 (by decide) ?_
      cases h
      exact gx_zret hX rfl rfl dX3_holdsFor_58 rfl ⟨rfl, rfl⟩ (fun _ h => h)
    · refine gx_iconst (v := 1) hX dX3_holdsFor_53 (by decide) ?_
      refine gx_goto (tgt := 58) hX dX3_holdsFor_54 (by decide) ?_
      cases h
      exact gx_zret hX rfl rfl dX3_holdsFor_58 rfl ⟨rfl, rfl⟩ (fun _ h => h)
abbrev iX3_isThousand : gx_M := (RX3, "isThousand", cX3_isThousand, 1, some .boolean)
theorem dsX3_isThousand : gx_ds yX3_isThousand 1 := by decide +kernel
def fX3_isThousand (x0 : Int32) : Option (Int32) := (fX3_in  (x0) (0) (nI 999)).bind fun r1 => (gz (r1)).bind fun v2 => some (v2)
set_option maxHeartbeats 4000000 in
theorem tX3_isThousand (w : gw_W) (A : Nat → Prop) (l : Launch) (P : Heap → Prop) (x0 : Int32) {r : Int32} (h : fX3_isThousand x0 = some r) : gx_T (gw_I w A) A l yX3_isThousand iX3_isThousand 2 [.int (x0)] (P) 0 0 (P) (.returned (some (.int r))) := by
  refine gx_T.of (gw_I.inv w A) (by decide) ⟨rfl, rfl⟩ (gx_kI gx_k0) (Nat.le_of_ble_eq_true rfl) (fun X hl hAx hX => ?_)
  subst hl
  subst hAx
  show gx_G X (P) 0 0 [some (.int (x0))] 0 []
  unfold fX3_isThousand at h
  refine gx_iload_n hX dX3_isThousand_0 rfl ?_
  refine gx_iconst (v := 0) hX dX3_isThousand_1 (by decide) ?_
  refine gx_sipush (v := nI 999) hX dX3_isThousand_2 (by decide) ?_
  obtain ⟨r1, hr1, h⟩ := gx_bs h
  refine gx_cS (As := [.int (x0), .int (0), .int (nI 999)]) (rest := []) hX (tX3_in w (gx_A X) (gx_l X) (P) (x0) (0) (nI 999) hr1) (lw_S q1467 q1468 q92 q1469) dsX3_in (by decide) (by decide) rfl (gx_w8 gx_k0 (Nat.le_of_ble_eq_true rfl)) dX3_isThousand_5 ⟨Nat.le_refl _, Nat.le_refl _⟩ rfl ?_
  exact gx_zretP hX rfl dX3_isThousand_8 h (fun h => by cases h; rfl) ⟨rfl, rfl⟩ (fun h => by cases h; exact fun _ h => h)
abbrev iX3_holds : gx_M := (RX3, "holds", cX3_holds, 8, some .int)
theorem dsX3_holds : gx_ds yX3_holds 7 := by decide +kernel
def fX3_holds (N : Nat) (σ : gm_S) (x1 : Int32) (x2 : Int32) (x3 : Int32) (x4 : Int32) (x5 : Int32) (x6 : Int32) (x7 : Int32) : Option (gm_S × Int32) := (fX3_isHabit (σ) (x1)).bind fun r1 => if r1 = 0 then some (σ, (-1)) else (fX3_in  (x2) (0) (3)).bind fun r2 => if r2 = 0 then some (σ, (-1)) else (fX3_isThousand  (x3)).bind fun r3 => if r3 = 0 then some (σ, (-2)) else (fX3_isThousand  (x4)).bind fun r4 => if r4 = 0 then some (σ, (-2)) else (fX3_isThousand  (x5)).bind fun r5 => if r5 = 0 then some (σ, (-2)) else (fX3_isThousand  (x6)).bind fun r6 => if r6 = 0 then some (σ, (-2)) else (fX3_isThousand  (x7)).bind fun r7 => if r7 = 0 then some (σ, (-2)) else (fX3_holdsFor N (σ) (x1) (x2) (x3) (x4) (x5) (x6) (x7)).bind fun r8 => if r8.2 = 0 then some (r8.1, 0) else some (r8.1, 1)
set_option maxHeartbeats 4000000 in
theorem tX3_holds (w : gw_W) (A : Nat → Prop) (hA : ∀ q, gm_A w q → A q) (l : Launch) (N : Nat) (σ : gm_S) (x1 : Int32) (x2 : Int32) (x3 : Int32) (x4 : Int32) (x5 : Int32) (x6 : Int32) (x7 : Int32) {r : gm_S × Int32} (h : fX3_holds N σ x1 x2 x3 x4 x5 x6 x7 = some r) : gx_T (gw_I w A) A l yX3_holds iX3_holds 4 [va_rf (some (gw_mo w)), .int (x1), .int (x2), .int (x3), .int (x4), .int (x5), .int (x6), .int (x7)] (gm_P w σ) 0 0 (gm_P w r.1) (.returned (some (.int r.2))) := by
  refine gx_T.of (gw_I.inv w A) (by decide) ⟨rfl, rfl⟩ (gx_kR (gx_kI (gx_kI (gx_kI (gx_kI (gx_kI (gx_kI (gx_kI gx_k0)))))))) (Nat.le_of_ble_eq_true rfl) (fun X hl hAx hX => ?_)
  subst hl
  subst hAx
  show gx_G X (gm_P w σ) 0 0 [some (va_rf (some (gw_mo w))), some (.int (x1)), some (.int (x2)), some (.int (x3)), some (.int (x4)), some (.int (x5)), some (.int (x6)), some (.int (x7))] 0 []
  unfold fX3_holds at h
  refine gx_aload_n hX dX3_holds_0 rfl ?_
  refine gx_iload_n hX dX3_holds_1 rfl ?_
  obtain ⟨r1, hr1, h⟩ := gx_bs h
  refine gx_cV (As := [.int (x1)]) (rest := []) (b := gw_mo w) hX (tX3_isHabit w _ hA (gx_l X) (σ) (x1) hr1) (lw_V q1490 q1492 qs36 q92 q1493) ⟨rfl, dsX3_isHabit⟩ (by decide) (by decide) (gm_rc hX) rfl (gx_w8 gx_k0 (Nat.le_of_ble_eq_true rfl)) dX3_holds_2 ⟨Nat.le_refl _, Nat.le_refl _⟩ rfl ?_
  refine gx_if_eq (tgt := 17) hX dX3_holds_5 (by decide) h (fun h => ?_) (fun h => ?_)
  · refine gx_iconst (v := (-1)) hX dX3_holds_17 (by decide) ?_
    cases h
    exact gx_iret hX rfl dX3_holds_18 rfl ⟨rfl, rfl⟩ (fun _ h => h)
  · refine gx_iload_n hX dX3_holds_8 rfl ?_
    refine gx_iconst (v := 0) hX dX3_holds_9 (by decide) ?_
    refine gx_iconst (v := 3) hX dX3_holds_10 (by decide) ?_
    obtain ⟨r2, hr2, h⟩ := gx_bs h
    refine gx_cS (As := [.int (x2), .int (0), .int (3)]) (rest := []) hX (tX3_in w (gx_A X) (gx_l X) (gm_P w σ) (x2) (0) (3) hr2) (lw_S q1467 q1468 q92 q1469) dsX3_in (by decide) (by decide) rfl (gx_w8 gx_k0 (Nat.le_of_ble_eq_true rfl)) dX3_holds_11 ⟨Nat.le_refl _, Nat.le_refl _⟩ rfl ?_
    refine gx_if_ne (tgt := 19) hX dX3_holds_14 (by decide) h (fun h => ?_) (fun h => ?_)
    · refine gx_iconst (v := (-1)) hX dX3_holds_17 (by decide) ?_
      cases h
      exact gx_iret hX rfl dX3_holds_18 rfl ⟨rfl, rfl⟩ (fun _ h => h)
    · refine gx_iload_n hX dX3_holds_19 rfl ?_
      obtain ⟨r3, hr3, h⟩ := gx_bs h
      refine gx_cS (As := [.int (x3)]) (rest := []) hX (tX3_isThousand w (gx_A X) (gx_l X) (gm_P w σ) (x3) hr3) (lw_S q1656 q1657 q92 q1658) dsX3_isThousand (by decide) (by decide) rfl (gx_w8 gx_k0 (Nat.le_of_ble_eq_true rfl)) dX3_holds_20 ⟨Nat.le_refl _, Nat.le_refl _⟩ rfl ?_
      refine gx_if_eq (tgt := 58) hX dX3_holds_23 (by decide) h (fun h => ?_) (fun h => ?_)
      · refine gx_bipush (v := (-2)) hX dX3_holds_58 (by decide) ?_
        cases h
        exact gx_iret hX rfl dX3_holds_60 rfl ⟨rfl, rfl⟩ (fun _ h => h)
      · refine gx_iload hX dX3_holds_26 rfl ?_
        obtain ⟨r4, hr4, h⟩ := gx_bs h
        refine gx_cS (As := [.int (x4)]) (rest := []) hX (tX3_isThousand w (gx_A X) (gx_l X) (gm_P w σ) (x4) hr4) (lw_S q1656 q1657 q92 q1658) dsX3_isThousand (by decide) (by decide) rfl (gx_w8 gx_k0 (Nat.le_of_ble_eq_true rfl)) dX3_holds_28 ⟨Nat.le_refl _, Nat.le_refl _⟩ rfl ?_
        refine gx_if_eq (tgt := 58) hX dX3_holds_31 (by decide) h (fun h => ?_) (fun h => ?_)
        · refine gx_bipush (v := (-2)) hX dX3_holds_58 (by decide) ?_
          cases h
          exact gx_iret hX rfl dX3_holds_60 rfl ⟨rfl, rfl⟩ (fun _ h => h)
        · refine gx_iload hX dX3_holds_34 rfl ?_
          obtain ⟨r5, hr5, h⟩ := gx_bs h
          refine gx_cS (As := [.int (x5)]) (rest := []) hX (tX3_isThousand w (gx_A X) (gx_l X) (gm_P w σ) (x5) hr5) (lw_S q1656 q1657 q92 q1658) dsX3_isThousand (by decide) (by decide) rfl (gx_w8 gx_k0 (Nat.le_of_ble_eq_true rfl)) dX3_holds_36 ⟨Nat.le_refl _, Nat.le_refl _⟩ rfl ?_
          refine gx_if_eq (tgt := 58) hX dX3_holds_39 (by decide) h (fun h => ?_) (fun h => ?_)
          · refine gx_bipush (v := (-2)) hX dX3_holds_58 (by decide) ?_
            cases h
            exact gx_iret hX rfl dX3_holds_60 rfl ⟨rfl, rfl⟩ (fun _ h => h)
          · refine gx_iload hX dX3_holds_42 rfl ?_
            obtain ⟨r6, hr6, h⟩ := gx_bs h
            refine gx_cS (As := [.int (x6)]) (rest := []) hX (tX3_isThousand w (gx_A X) (gx_l X) (gm_P w σ) (x6) hr6) (lw_S q1656 q1657 q92 q1658) dsX3_isThousand (by decide) (by decide) rfl (gx_w8 gx_k0 (Nat.le_of_ble_eq_true rfl)) dX3_holds_44 ⟨Nat.le_refl _, Nat.le_refl _⟩ rfl ?_
            refine gx_if_eq (tgt := 58) hX dX3_holds_47 (by decide) h (fun h => ?_) (fun h => ?_)
            · refine gx_bipush (v := (-2)) hX dX3_holds_58 (by decide) ?_
              cases h
              exact gx_iret hX rfl dX3_holds_60 rfl ⟨rfl, rfl⟩ (fun _ h => h)
            · refine gx_iload hX dX3_holds_50 rfl ?_
              obtain ⟨r7, hr7, h⟩ := gx_bs h
              refine gx_cS (As := [.int (x7)]) (rest := []) hX (tX3_isThousand w (gx_A X) (gx_l X) (gm_P w σ) (x7) hr7) (lw_S q1656 q1657 q92 q1658) dsX3_isThousand (by decide) (by decide) rfl (gx_w8 gx_k0 (Nat.le_of_ble_eq_true rfl)) dX3_holds_52 ⟨Nat.le_refl _, Nat.le_refl _⟩ rfl ?_
              refine gx_if_ne (tgt := 61) hX dX3_holds_55 (by decide) h (fun h => ?_) (fun h => ?_)
              · refine gx_bipush (v := (-2)) hX dX3_holds_58 (by decide) ?_
                cases h
                exact gx_iret hX rfl dX3_holds_60 rfl ⟨rfl, rfl⟩ (fun _ h => h)
              · refine gx_aload_n hX dX3_holds_61 rfl ?_
                refine gx_iload_n hX dX3_holds_62 rfl ?_
                refine gx_iload_n hX dX3_holds_63 rfl ?_
                refine gx_iload_n hX dX3_holds_64 rfl ?_
                refine gx_iload hX dX3_holds_65 rfl ?_
                refine gx_iload hX dX3_holds_67 rfl ?_
                refine gx_iload hX dX3_holds_69 rfl ?_
                refine gx_iload hX dX3_holds_71 rfl ?_
                obtain ⟨r8, hr8, h⟩ := gx_bs h
                refine gx_cV (As := [.int (x1), .int (x2), .int (x3), .int (x4), .int (x5), .int (x6), .int (x7)]) (rest := []) (b := gw_mo w) hX (tX3_holdsFor w _ hA (gx_l X) N (σ) (x1) (x2) (x3) (x4) (x5) (x6) (x7) hr8) (lw_V q1659 q1661 qs55 q92 q1662) ⟨rfl, dsX3_holdsFor⟩ (by decide) (by decide) (gm_rc hX) rfl (gx_w8 gx_k0 (Nat.le_of_ble_eq_true rfl)) dX3_holds_73 ⟨Nat.le_refl _, Nat.le_refl _⟩ rfl ?_
                refine gx_if_eq (tgt := 83) hX dX3_holds_76 (by decide) h (fun h => ?_) (fun h => ?_)
                · refine gx_iconst (v := 0) hX dX3_holds_83 (by decide) ?_
                  cases h
                  exact gx_iret hX rfl dX3_holds_84 rfl ⟨rfl, rfl⟩ (fun _ h => h)
                · refine gx_iconst (v := 1) hX dX3_holds_79 (by decide) ?_
                  refine gx_goto (tgt := 84) hX dX3_holds_80 (by decide) ?_
                  cases h
                  exact gx_iret hX rfl dX3_holds_84 rfl ⟨rfl, rfl⟩ (fun _ h => h)
abbrev iX3_set : gx_M := (RX3, "set", cX3_set, 4, some .int)
theorem dsX3_set : gx_ds yX3_set 2 := by decide +kernel
def fX3_set_B23   (σ : gm_S) (x1 : Int32) (x2 : Int32) (y0 : Int32) (y1 : Int32) (y2 : Int32) : Option (gm_S × Int32) := (fX3_in  (y2) (y1) (y0)).bind fun r2 => if r2 = 0 then some (σ, (-2)) else (gm_rd σ 1 ((3) + (x1))).bind fun v3 => (gm_wr σ 1 ((3) + (x1)) (x2)).bind fun σ4 => some (σ4, v3)
set_option maxHeartbeats 4000000 in
theorem tX3_set_B23 {w : gw_W} {X : gx_X} {r : gm_S × Int32} (hA : ∀ q, gm_A w q → gx_A X q) (hX : gx_O (gw_I w (gx_A X)) X iX3_set 2 0 0 (gm_P w r.1) (.returned (some (.int r.2))))  {σ : gm_S} {x1 : Int32} {x2 : Int32} {y0 : Int32} {y1 : Int32} {y2 : Int32} (h : fX3_set_B23 σ x1 x2 y0 y1 y2 = some r) : gx_G X (gm_P w σ) 0 0 [some (va_rf (some (gw_mo w))), some (.int (x1)), some (.int (x2)), none] 23 [.int (y0), .int (y1), .int (y2)] := by
  unfold fX3_set_B23 at h
  obtain ⟨r2, hr2, h⟩ := gx_bs h
  refine gx_cS (As := [.int (y2), .int (y1), .int (y0)]) (rest := []) hX (tX3_in w (gx_A X) (gx_l X) (gm_P w σ) (y2) (y1) (y0) hr2) (lw_S q1467 q1468 q92 q1469) dsX3_in (by decide) (by decide) rfl (gx_w8 gx_k0 (Nat.le_of_ble_eq_true rfl)) dX3_set_23 ⟨Nat.le_refl _, Nat.le_refl _⟩ rfl ?_
  refine gx_if_ne (tgt := 32) hX dX3_set_26 (by decide) h (fun h => ?_) (fun h => ?_)
  · refine gx_bipush (v := (-2)) hX dX3_set_29 (by decide) ?_
    cases h
    exact gx_iret hX rfl dX3_set_31 rfl ⟨rfl, rfl⟩ (fun _ h => h)
  · refine gx_aload_n hX dX3_set_32 rfl ?_
    refine gm_getA hX 1 (by decide) (by decide) q1342 rfl dX3_set_33 ?_
    refine gx_iconst (v := 3) hX dX3_set_36 (by decide) ?_
    refine gx_iload_n hX dX3_set_37 rfl ?_
    refine gx_iadd hX dX3_set_38 ?_
    refine gm_ld hX (by decide) dX3_set_39 h (fun v3 h => ?_)
    refine gx_istore_n hX dX3_set_40 (Nat.le_of_ble_eq_true rfl) gx_c1i (lv' := [some (va_rf (some (gw_mo w))), some (.int (x1)), some (.int (x2)), some (.int (v3))]) rfl ?_
    refine gx_aload_n hX dX3_set_41 rfl ?_
    refine gm_getA hX 1 (by decide) (by decide) q1342 rfl dX3_set_42 ?_
    refine gx_iconst (v := 3) hX dX3_set_45 (by decide) ?_
    refine gx_iload_n hX dX3_set_46 rfl ?_
    refine gx_iadd hX dX3_set_47 ?_
    refine gx_iload_n hX dX3_set_48 rfl ?_
    refine gm_st hX hA (by decide) dX3_set_49 h (fun σ4 h => ?_)
    refine gx_iload_n hX dX3_set_50 rfl ?_
    cases h
    exact gx_iret hX rfl dX3_set_51 rfl ⟨rfl, rfl⟩ (fun _ h => h)
def fX3_set (σ : gm_S) (x1 : Int32) (x2 : Int32) : Option (gm_S × Int32) := (fX3_in  (x1) (0) (1)).bind fun r1 => if r1 = 0 then some (σ, (-1)) else if x1 = 0 then fX3_set_B23 σ (x1) (x2) (5) (0) (x2) else fX3_set_B23 σ (x1) (x2) (nI 50) (0) (x2)
set_option maxHeartbeats 4000000 in
theorem tX3_set (w : gw_W) (A : Nat → Prop) (hA : ∀ q, gm_A w q → A q) (l : Launch) (σ : gm_S) (x1 : Int32) (x2 : Int32) {r : gm_S × Int32} (h : fX3_set σ x1 x2 = some r) : gx_T (gw_I w A) A l yX3_set iX3_set 2 [va_rf (some (gw_mo w)), .int (x1), .int (x2)] (gm_P w σ) 0 0 (gm_P w r.1) (.returned (some (.int r.2))) := by
  refine gx_T.of (gw_I.inv w A) (by decide) ⟨rfl, rfl⟩ (gx_kR (gx_kI (gx_kI gx_k0))) (Nat.le_of_ble_eq_true rfl) (fun X hl hAx hX => ?_)
  subst hl
  subst hAx
  show gx_G X (gm_P w σ) 0 0 [some (va_rf (some (gw_mo w))), some (.int (x1)), some (.int (x2)), none] 0 []
  unfold fX3_set at h
  refine gx_iload_n hX dX3_set_0 rfl ?_
  refine gx_iconst (v := 0) hX dX3_set_1 (by decide) ?_
  refine gx_iconst (v := 1) hX dX3_set_2 (by decide) ?_
  obtain ⟨r1, hr1, h⟩ := gx_bs h
  refine gx_cS (As := [.int (x1), .int (0), .int (1)]) (rest := []) hX (tX3_in w (gx_A X) (gx_l X) (gm_P w σ) (x1) (0) (1) hr1) (lw_S q1467 q1468 q92 q1469) dsX3_in (by decide) (by decide) rfl (gx_w8 gx_k0 (Nat.le_of_ble_eq_true rfl)) dX3_set_3 ⟨Nat.le_refl _, Nat.le_refl _⟩ rfl ?_
  refine gx_if_ne (tgt := 11) hX dX3_set_6 (by decide) h (fun h => ?_) (fun h => ?_)
  · refine gx_iconst (v := (-1)) hX dX3_set_9 (by decide) ?_
    cases h
    exact gx_iret hX rfl dX3_set_10 rfl ⟨rfl, rfl⟩ (fun _ h => h)
  · refine gx_iload_n hX dX3_set_11 rfl ?_
    refine gx_iconst (v := 0) hX dX3_set_12 (by decide) ?_
    refine gx_iload_n hX dX3_set_13 rfl ?_
    refine gx_if_ne (tgt := 21) hX dX3_set_14 (by decide) h (fun h => ?_) (fun h => ?_)
    · refine gx_iconst (v := 5) hX dX3_set_17 (by decide) ?_
      refine gx_goto (tgt := 23) hX dX3_set_18 (by decide) ?_
      exact tX3_set_B23 hA hX  h
    · refine gx_bipush (v := nI 50) hX dX3_set_21 (by decide) ?_
      exact tX3_set_B23 hA hX  h
abbrev iX3_keeps : gx_M := (RX3, "keeps", cX3_keeps, 3, none)
theorem dsX3_keeps : gx_ds yX3_keeps 2 := by decide +kernel
def fX3_keeps (σ : gm_S) (x1 : Int32) (x2 : Int32) : Option (gm_S) := (gm_rd σ 1 (3)).bind fun v1 => if v1 = 0 then (fX3_goesIn (σ) (x1) (x2)).bind fun r7 => some r7 else (gm_wr σ 1 ((nI 178) + (x1)) (x2)).bind fun σ2 => (gm_rd σ2 1 (3)).bind fun v3 => (gm_wr σ2 1 ((nI 190) + (x1)) (v3)).bind fun σ4 => (gm_wr σ4 1 ((nI 90) + (x2)) (2)).bind fun σ5 => (gm_wr σ5 1 ((nI 110) + (x2)) (x1)).bind fun σ6 => some σ6
set_option maxHeartbeats 4000000 in
theorem tX3_keeps (w : gw_W) (A : Nat → Prop) (hA : ∀ q, gm_A w q → A q) (l : Launch) (σ : gm_S) (x1 : Int32) (x2 : Int32) {r : gm_S} (h : fX3_keeps σ x1 x2 = some r) : gx_T (gw_I w A) A l yX3_keeps iX3_keeps 2 [va_rf (some (gw_mo w)), .int (x1), .int (x2)] (gm_P w σ) 0 0 (gm_P w r) (.returned (none)) := by
  refine gx_T.of (gw_I.inv w A) (by decide) ⟨rfl, rfl⟩ (gx_kR (gx_kI (gx_kI gx_k0))) (Nat.le_of_ble_eq_true rfl) (fun X hl hAx hX => ?_)
  subst hl
  subst hAx
  show gx_G X (gm_P w σ) 0 0 [some (va_rf (some (gw_mo w))), some (.int (x1)), some (.int (x2))] 0 []
  unfold fX3_keeps at h
  refine gx_aload_n hX dX3_keeps_0 rfl ?_
  refine gm_getA hX 1 (by decide) (by decide) q1342 rfl dX3_keeps_1 ?_
  refine gx_iconst (v := 3) hX dX3_keeps_4 (by decide) ?_
  refine gm_ld hX (by decide) dX3_keeps_5 h (fun v1 h => ?_)
  refine gx_if_ne (tgt := 16) hX dX3_keeps_6 (by decide) h (fun h => ?_) (fun h => ?_)
  · refine gx_aload_n hX dX3_keeps_9 rfl ?_
    refine gx_iload_n hX dX3_keeps_10 rfl ?_
    refine gx_iload_n hX dX3_keeps_11 rfl ?_
    obtain ⟨r7, hr7, h⟩ := gx_bs h
    refine gx_cV (As := [.int (x1), .int (x2)]) (rest := []) (b := gw_mo w) hX (tX3_goesIn w _ hA (gx_l X) (σ) (x1) (x2) hr7) (lw_V q1478 q1480 qs34 q92 q1481) ⟨rfl, dsX3_goesIn⟩ (by decide) (by decide) (gm_rc hX) rfl (gx_w8 gx_k0 (Nat.le_of_ble_eq_true rfl)) dX3_keeps_12 ⟨Nat.le_refl _, Nat.le_refl _⟩ rfl ?_
    cases h
    exact gx_vret hX rfl dX3_keeps_15 rfl ⟨rfl, rfl⟩ (fun _ h => h)
  · refine gx_aload_n hX dX3_keeps_16 rfl ?_
    refine gm_getA hX 1 (by decide) (by decide) q1342 rfl dX3_keeps_17 ?_
    refine gx_sipush (v := nI 178) hX dX3_keeps_20 (by decide) ?_
    refine gx_iload_n hX dX3_keeps_23 rfl ?_
    refine gx_iadd hX dX3_keeps_24 ?_
    refine gx_iload_n hX dX3_keeps_25 rfl ?_
    refine gm_st hX hA (by decide) dX3_keeps_26 h (fun σ2 h => ?_)
    refine gx_aload_n hX dX3_keeps_27 rfl ?_
    refine gm_getA hX 1 (by decide) (by decide) q1342 rfl dX3_keeps_28 ?_
    refine gx_sipush (v := nI 190) hX dX3_keeps_31 (by decide) ?_
    refine gx_iload_n hX dX3_keeps_34 rfl ?_
    refine gx_iadd hX dX3_keeps_35 ?_
    refine gx_aload_n hX dX3_keeps_36 rfl ?_
    refine gm_getA hX 1 (by decide) (by decide) q1342 rfl dX3_keeps_37 ?_
    refine gx_iconst (v := 3) hX dX3_keeps_40 (by decide) ?_
    refine gm_ld hX (by decide) dX3_keeps_41 h (fun v3 h => ?_)
    refine gm_st hX hA (by decide) dX3_keeps_42 h (fun σ4 h => ?_)
    refine gx_aload_n hX dX3_keeps_43 rfl ?_
    refine gm_getA hX 1 (by decide) (by decide) q1342 rfl dX3_keeps_44 ?_
    refine gx_bipush (v := nI 90) hX dX3_keeps_47 (by decide) ?_
    refine gx_iload_n hX dX3_keeps_49 rfl ?_
    refine gx_iadd hX dX3_keeps_50 ?_
    refine gx_iconst (v := 2) hX dX3_keeps_51 (by decide) ?_
    refine gm_st hX hA (by decide) dX3_keeps_52 h (fun σ5 h => ?_)
    refine gx_aload_n hX dX3_keeps_53 rfl ?_
    refine gm_getA hX 1 (by decide) (by decide) q1342 rfl dX3_keeps_54 ?_
    refine gx_bipush (v := nI 110) hX dX3_keeps_57 (by decide) ?_
    refine gx_iload_n hX dX3_keeps_59 rfl ?_
    refine gx_iadd hX dX3_keeps_60 ?_
    refine gx_iload_n hX dX3_keeps_61 rfl ?_
    refine gm_st hX hA (by decide) dX3_keeps_62 h (fun σ6 h => ?_)
    cases h
    exact gx_vret hX rfl dX3_keeps_63 rfl ⟨rfl, rfl⟩ (fun _ h => h)
abbrev iX3_lying : gx_M := (RX3, "lying", cX3_lying, 6, some .int)
theorem dsX3_lying : gx_ds yX3_lying 2 := by decide +kernel
def fX3_lying_B82 (N : Nat) (σ : gm_S) (K5 : Int32 → Int32 → Int32 → Int32 → Option (Int32)) (x1 : Int32) (x2 : Int32) (x4 : Int32) (y0 : Int32) : Option (Int32) := K5 (x1) (x2) (y0) ((x4) + 1)
set_option maxHeartbeats 4000000 in
theorem tX3_lying_B82 {w : gw_W} {X : gx_X} {N : Nat} {σ : gm_S} {r : Int32} (hA : ∀ q, gm_A w q → gx_A X q) (hX : gx_O (gw_I w (gx_A X)) X iX3_lying 3 0 0 (gm_P w σ) (.returned (some (.int r)))) {K5 : Int32 → Int32 → Int32 → Int32 → Option (Int32)} (hK5 : ∀ (x1 : Int32) (x2 : Int32) (x3 : Int32) (x4 : Int32), K5 x1 x2 x3 x4 = some r → gx_G X (gm_P w σ) 0 0 [some (va_rf (some (gw_mo w))), some (.int (x1)), some (.int (x2)), some (.int (x3)), some (.int (x4)), none] 5 []) {x1 : Int32} {x2 : Int32} {x4 : Int32} {y0 : Int32} (h : fX3_lying_B82 N σ K5 x1 x2 x4 y0 = some r) : gx_G X (gm_P w σ) 0 0 [some (va_rf (some (gw_mo w))), some (.int (x1)), some (.int (x2)), none, some (.int (x4)), none] 82 [.int (y0)] := by
  unfold fX3_lying_B82 at h
  refine gx_istore_n hX dX3_lying_82 (Nat.le_of_ble_eq_true rfl) gx_c1i (lv' := [some (va_rf (some (gw_mo w))), some (.int (x1)), some (.int (x2)), some (.int (y0)), some (.int (x4)), none]) rfl ?_
  refine gx_iinc (v := 1) hX dX3_lying_83 rfl (by decide) gx_c1i (lv' := [some (va_rf (some (gw_mo w))), some (.int (x1)), some (.int (x2)), some (.int (y0)), some (.int ((x4) + 1)), none]) rfl ?_
  refine gx_goto (tgt := 5) hX dX3_lying_86 (by decide) ?_
  exact hK5 _ _ _ _ h
def fX3_lying_B81 (N : Nat) (σ : gm_S) (K5 : Int32 → Int32 → Int32 → Int32 → Option (Int32)) (x1 : Int32) (x2 : Int32) (x3 : Int32) (x4 : Int32) : Option (Int32) := fX3_lying_B82 N σ K5 (x1) (x2) (x4) (x3)
set_option maxHeartbeats 4000000 in
theorem tX3_lying_B81 {w : gw_W} {X : gx_X} {N : Nat} {σ : gm_S} {r : Int32} (hA : ∀ q, gm_A w q → gx_A X q) (hX : gx_O (gw_I w (gx_A X)) X iX3_lying 3 0 0 (gm_P w σ) (.returned (some (.int r)))) {K5 : Int32 → Int32 → Int32 → Int32 → Option (Int32)} (hK5 : ∀ (x1 : Int32) (x2 : Int32) (x3 : Int32) (x4 : Int32), K5 x1 x2 x3 x4 = some r → gx_G X (gm_P w σ) 0 0 [some (va_rf (some (gw_mo w))), some (.int (x1)), some (.int (x2)), some (.int (x3)), some (.int (x4)), none] 5 []) {x1 : Int32} {x2 : Int32} {x3 : Int32} {x4 : Int32} (h : fX3_lying_B81 N σ K5 x1 x2 x3 x4 = some r) : gx_G X (gm_P w σ) 0 0 [some (va_rf (some (gw_mo w))), some (.int (x1)), some (.int (x2)), some (.int (x3)), some (.int (x4)), none] 81 [] := by
  unfold fX3_lying_B81 at h
  refine gx_iload_n hX dX3_lying_81 rfl ?_
  refine gx_sub hX (lv' := [some (va_rf (some (gw_mo w))), some (.int (x1)), some (.int (x2)), none, some (.int (x4)), none]) ⟨Or.inr rfl, ⟨Or.inr rfl, ⟨Or.inr rfl, ⟨Or.inl rfl, ⟨Or.inr rfl, ⟨Or.inr rfl, trivial⟩⟩⟩⟩⟩⟩ ?_
  exact tX3_lying_B82 hA hX hK5 h
def fX3_lying_B76 (N : Nat) (σ : gm_S) (K5 : Int32 → Int32 → Int32 → Int32 → Option (Int32)) (x1 : Int32) (x2 : Int32) (x4 : Int32) : Option (Int32) := fX3_lying_B82 N σ K5 (x1) (x2) (x4) (x4)
set_option maxHeartbeats 4000000 in
theorem tX3_lying_B76 {w : gw_W} {X : gx_X} {N : Nat} {σ : gm_S} {r : Int32} (hA : ∀ q, gm_A w q → gx_A X q) (hX : gx_O (gw_I w (gx_A X)) X iX3_lying 3 0 0 (gm_P w σ) (.returned (some (.int r)))) {K5 : Int32 → Int32 → Int32 → Int32 → Option (Int32)} (hK5 : ∀ (x1 : Int32) (x2 : Int32) (x3 : Int32) (x4 : Int32), K5 x1 x2 x3 x4 = some r → gx_G X (gm_P w σ) 0 0 [some (va_rf (some (gw_mo w))), some (.int (x1)), some (.int (x2)), some (.int (x3)), some (.int (x4)), none] 5 []) {x1 : Int32} {x2 : Int32} {x4 : Int32} (h : fX3_lying_B76 N σ K5 x1 x2 x4 = some r) : gx_G X (gm_P w σ) 0 0 [some (va_rf (some (gw_mo w))), some (.int (x1)), some (.int (x2)), none, some (.int (x4)), none] 76 [] := by
  unfold fX3_lying_B76 at h
  refine gx_iload hX dX3_lying_76 rfl ?_
  refine gx_goto (tgt := 82) hX dX3_lying_78 (by decide) ?_
  exact tX3_lying_B82 hA hX hK5 h
def fX3_lying_B48 (N : Nat) (σ : gm_S) (K5 : Int32 → Int32 → Int32 → Int32 → Option (Int32)) (x1 : Int32) (x2 : Int32) (x3 : Int32) (x4 : Int32) (y0 : Int32) : Option (Int32) := if y0 = 0 then fX3_lying_B81 N σ K5 (x1) (x2) (x3) (x4) else if x3 = (-1) then fX3_lying_B76 N σ K5 (x1) (x2) (x4) else (fX3_fitFor (σ) (x4) (x2)).bind fun r3 => (fX3_fitFor (σ) (x3) (x2)).bind fun r4 => if (r3) ≤ r4 then fX3_lying_B81 N σ K5 (x1) (x2) (x3) (x4) else fX3_lying_B76 N σ K5 (x1) (x2) (x4)
set_option maxHeartbeats 4000000 in
theorem tX3_lying_B48 {w : gw_W} {X : gx_X} {N : Nat} {σ : gm_S} {r : Int32} (hA : ∀ q, gm_A w q → gx_A X q) (hX : gx_O (gw_I w (gx_A X)) X iX3_lying 3 0 0 (gm_P w σ) (.returned (some (.int r)))) {K5 : Int32 → Int32 → Int32 → Int32 → Option (Int32)} (hK5 : ∀ (x1 : Int32) (x2 : Int32) (x3 : Int32) (x4 : Int32), K5 x1 x2 x3 x4 = some r → gx_G X (gm_P w σ) 0 0 [some (va_rf (some (gw_mo w))), some (.int (x1)), some (.int (x2)), some (.int (x3)), some (.int (x4)), none] 5 []) {x1 : Int32} {x2 : Int32} {x3 : Int32} {x4 : Int32} {y0 : Int32} (h : fX3_lying_B48 N σ K5 x1 x2 x3 x4 y0 = some r) : gx_G X (gm_P w σ) 0 0 [some (va_rf (some (gw_mo w))), some (.int (x1)), some (.int (x2)), some (.int (x3)), some (.int (x4)), none] 48 [.int (y0)] := by
  unfold fX3_lying_B48 at h
  refine gx_istore hX dX3_lying_48 (Nat.le_of_ble_eq_true rfl) gx_c1i (lv' := [some (va_rf (some (gw_mo w))), some (.int (x1)), some (.int (x2)), some (.int (x3)), some (.int (x4)), some (.int (y0))]) rfl ?_
  refine gx_iload hX dX3_lying_50 rfl ?_
  refine gx_if_eq (tgt := 81) hX dX3_lying_52 (by decide) h (fun h => ?_) (fun h => ?_)
  · refine gx_sub hX (lv' := [some (va_rf (some (gw_mo w))), some (.int (x1)), some (.int (x2)), some (.int (x3)), some (.int (x4)), none]) ⟨Or.inr rfl, ⟨Or.inr rfl, ⟨Or.inr rfl, ⟨Or.inr rfl, ⟨Or.inr rfl, ⟨Or.inl rfl, trivial⟩⟩⟩⟩⟩⟩ ?_
    exact tX3_lying_B81 hA hX hK5 h
  · refine gx_iload_n hX dX3_lying_55 rfl ?_
    refine gx_iconst (v := (-1)) hX dX3_lying_56 (by decide) ?_
    refine gx_icmp_eq (tgt := 76) hX dX3_lying_57 (by decide) h (fun h => ?_) (fun h => ?_)
    · refine gx_sub hX (lv' := [some (va_rf (some (gw_mo w))), some (.int (x1)), some (.int (x2)), none, some (.int (x4)), none]) ⟨Or.inr rfl, ⟨Or.inr rfl, ⟨Or.inr rfl, ⟨Or.inl rfl, ⟨Or.inr rfl, ⟨Or.inl rfl, trivial⟩⟩⟩⟩⟩⟩ ?_
      exact tX3_lying_B76 hA hX hK5 h
    · refine gx_aload_n hX dX3_lying_60 rfl ?_
      refine gx_iload hX dX3_lying_61 rfl ?_
      refine gx_iload_n hX dX3_lying_63 rfl ?_
      obtain ⟨r3, hr3, h⟩ := gx_bs h
      refine gx_cV (As := [.int (x4), .int (x2)]) (rest := []) (b := gw_mo w) hX (tX3_fitFor w _ hA (gx_l X) (σ) (x4) (x2) hr3) (lw_V q1526 q1528 qs42 q92 q1529) ⟨rfl, dsX3_fitFor⟩ (by decide) (by decide) (gm_rc hX) rfl (gx_w8 gx_k0 (Nat.le_of_ble_eq_true rfl)) dX3_lying_64 ⟨Nat.le_refl _, Nat.le_refl _⟩ rfl ?_
      refine gx_aload_n hX dX3_lying_67 rfl ?_
      refine gx_iload_n hX dX3_lying_68 rfl ?_
      refine gx_iload_n hX dX3_lying_69 rfl ?_
      obtain ⟨r4, hr4, h⟩ := gx_bs h
      refine gx_cV (As := [.int (x3), .int (x2)]) (rest := [.int (r3)]) (b := gw_mo w) hX (tX3_fitFor w _ hA (gx_l X) (σ) (x3) (x2) hr4) (lw_V q1526 q1528 qs42 q92 q1529) ⟨rfl, dsX3_fitFor⟩ (by decide) (by decide) (gm_rc hX) rfl (gx_w8 (gx_kI gx_k0) (Nat.le_of_ble_eq_true rfl)) dX3_lying_70 ⟨Nat.le_refl _, Nat.le_refl _⟩ rfl ?_
      refine gx_icmp_le (tgt := 81) hX dX3_lying_73 (by decide) h (fun h => ?_) (fun h => ?_)
      · refine gx_sub hX (lv' := [some (va_rf (some (gw_mo w))), some (.int (x1)), some (.int (x2)), some (.int (x3)), some (.int (x4)), none]) ⟨Or.inr rfl, ⟨Or.inr rfl, ⟨Or.inr rfl, ⟨Or.inr rfl, ⟨Or.inr rfl, ⟨Or.inl rfl, trivial⟩⟩⟩⟩⟩⟩ ?_
        exact tX3_lying_B81 hA hX hK5 h
      · refine gx_sub hX (lv' := [some (va_rf (some (gw_mo w))), some (.int (x1)), some (.int (x2)), none, some (.int (x4)), none]) ⟨Or.inr rfl, ⟨Or.inr rfl, ⟨Or.inr rfl, ⟨Or.inl rfl, ⟨Or.inr rfl, ⟨Or.inl rfl, trivial⟩⟩⟩⟩⟩⟩ ?_
        exact tX3_lying_B76 hA hX hK5 h
def fX3_lying_B47 (N : Nat) (σ : gm_S) (K5 : Int32 → Int32 → Int32 → Int32 → Option (Int32)) (x1 : Int32) (x2 : Int32) (x3 : Int32) (x4 : Int32) : Option (Int32) := fX3_lying_B48 N σ K5 (x1) (x2) (x3) (x4) (0)
set_option maxHeartbeats 4000000 in
theorem tX3_lying_B47 {w : gw_W} {X : gx_X} {N : Nat} {σ : gm_S} {r : Int32} (hA : ∀ q, gm_A w q → gx_A X q) (hX : gx_O (gw_I w (gx_A X)) X iX3_lying 3 0 0 (gm_P w σ) (.returned (some (.int r)))) {K5 : Int32 → Int32 → Int32 → Int32 → Option (Int32)} (hK5 : ∀ (x1 : Int32) (x2 : Int32) (x3 : Int32) (x4 : Int32), K5 x1 x2 x3 x4 = some r → gx_G X (gm_P w σ) 0 0 [some (va_rf (some (gw_mo w))), some (.int (x1)), some (.int (x2)), some (.int (x3)), some (.int (x4)), none] 5 []) {x1 : Int32} {x2 : Int32} {x3 : Int32} {x4 : Int32} (h : fX3_lying_B47 N σ K5 x1 x2 x3 x4 = some r) : gx_G X (gm_P w σ) 0 0 [some (va_rf (some (gw_mo w))), some (.int (x1)), some (.int (x2)), some (.int (x3)), some (.int (x4)), none] 47 [] := by
  unfold fX3_lying_B47 at h
  refine gx_iconst (v := 0) hX dX3_lying_47 (by decide) ?_
  exact tX3_lying_B48 hA hX hK5 h
def fX3_lying_L5 (N : Nat) (σ : gm_S)  : Nat → Int32 → Int32 → Int32 → Int32 → Option (Int32)
  | 0, _, _, _, _ => none
  | k + 1, x1, x2, x3, x4 => (gm_rd σ 1 (0)).bind fun v1 => if (v1) ≤ x4 then some (x3) else (gm_rd σ 1 ((nI 90) + (x4))).bind fun v2 => if v2 = 0 then (gm_rd σ 1 ((nI 70) + (x4))).bind fun v5 => if v5 = x1 then fX3_lying_B48 N σ (fX3_lying_L5 N σ k) (x1) (x2) (x3) (x4) (1) else fX3_lying_B47 N σ (fX3_lying_L5 N σ k) (x1) (x2) (x3) (x4) else fX3_lying_B47 N σ (fX3_lying_L5 N σ k) (x1) (x2) (x3) (x4)
set_option maxHeartbeats 4000000 in
theorem tX3_lying_L5 {w : gw_W} {X : gx_X} {N : Nat} {σ : gm_S} {r : Int32} (hA : ∀ q, gm_A w q → gx_A X q) (hX : gx_O (gw_I w (gx_A X)) X iX3_lying 3 0 0 (gm_P w σ) (.returned (some (.int r))))  : ∀ (k : Nat) (x1 : Int32) (x2 : Int32) (x3 : Int32) (x4 : Int32), fX3_lying_L5 N σ k x1 x2 x3 x4 = some r → gx_G X (gm_P w σ) 0 0 [some (va_rf (some (gw_mo w))), some (.int (x1)), some (.int (x2)), some (.int (x3)), some (.int (x4)), none] 5 [] := by
  intro k
  induction k with
  | zero =>
    intro x1 x2 x3 x4 h
    unfold fX3_lying_L5 at h
    cases h
  | succ k ih =>
    intro x1 x2 x3 x4 h
    unfold fX3_lying_L5 at h
    refine gx_iload hX dX3_lying_5 rfl ?_
    refine gx_aload_n hX dX3_lying_7 rfl ?_
    refine gm_getA hX 1 (by decide) (by decide) q1342 rfl dX3_lying_8 ?_
    refine gx_iconst (v := 0) hX dX3_lying_11 (by decide) ?_
    refine gm_ld hX (by decide) dX3_lying_12 h (fun v1 h => ?_)
    refine gx_icmp_ge (tgt := 89) hX dX3_lying_13 (by decide) h (fun h => ?_) (fun h => ?_)
    · refine gx_iload_n hX dX3_lying_89 rfl ?_
      cases h
      exact gx_iret hX rfl dX3_lying_90 rfl ⟨rfl, rfl⟩ (fun _ h => h)
    · refine gx_aload_n hX dX3_lying_16 rfl ?_
      refine gm_getA hX 1 (by decide) (by decide) q1342 rfl dX3_lying_17 ?_
      refine gx_bipush (v := nI 90) hX dX3_lying_20 (by decide) ?_
      refine gx_iload hX dX3_lying_22 rfl ?_
      refine gx_iadd hX dX3_lying_24 ?_
      refine gm_ld hX (by decide) dX3_lying_25 h (fun v2 h => ?_)
      refine gx_if_ne (tgt := 47) hX dX3_lying_26 (by decide) h (fun h => ?_) (fun h => ?_)
      · refine gx_aload_n hX dX3_lying_29 rfl ?_
        refine gm_getA hX 1 (by decide) (by decide) q1342 rfl dX3_lying_30 ?_
        refine gx_bipush (v := nI 70) hX dX3_lying_33 (by decide) ?_
        refine gx_iload hX dX3_lying_35 rfl ?_
        refine gx_iadd hX dX3_lying_37 ?_
        refine gm_ld hX (by decide) dX3_lying_38 h (fun v5 h => ?_)
        refine gx_iload_n hX dX3_lying_39 rfl ?_
        refine gx_icmp_ne (tgt := 47) hX dX3_lying_40 (by decide) h (fun h => ?_) (fun h => ?_)
        · refine gx_iconst (v := 1) hX dX3_lying_43 (by decide) ?_
          refine gx_goto (tgt := 48) hX dX3_lying_44 (by decide) ?_
          exact tX3_lying_B48 hA hX ih h
        · exact tX3_lying_B47 hA hX ih h
      · exact tX3_lying_B47 hA hX ih h
def fX3_lying (N : Nat) (σ : gm_S) (x1 : Int32) (x2 : Int32) : Option (Int32) := fX3_lying_L5 N σ N (x1) (x2) ((-1)) (0)
set_option maxHeartbeats 4000000 in
theorem tX3_lying (w : gw_W) (A : Nat → Prop) (hA : ∀ q, gm_A w q → A q) (l : Launch) (N : Nat) (σ : gm_S) (x1 : Int32) (x2 : Int32) {r : Int32} (h : fX3_lying N σ x1 x2 = some r) : gx_T (gw_I w A) A l yX3_lying iX3_lying 3 [va_rf (some (gw_mo w)), .int (x1), .int (x2)] (gm_P w σ) 0 0 (gm_P w σ) (.returned (some (.int r))) := by
  refine gx_T.of (gw_I.inv w A) (by decide) ⟨rfl, rfl⟩ (gx_kR (gx_kI (gx_kI gx_k0))) (Nat.le_of_ble_eq_true rfl) (fun X hl hAx hX => ?_)
  subst hl
  subst hAx
  show gx_G X (gm_P w σ) 0 0 [some (va_rf (some (gw_mo w))), some (.int (x1)), some (.int (x2)), none, none, none] 0 []
  unfold fX3_lying at h
  refine gx_iconst (v := (-1)) hX dX3_lying_0 (by decide) ?_
  refine gx_istore_n hX dX3_lying_1 (Nat.le_of_ble_eq_true rfl) gx_c1i (lv' := [some (va_rf (some (gw_mo w))), some (.int (x1)), some (.int (x2)), some (.int ((-1))), none, none]) rfl ?_
  refine gx_iconst (v := 0) hX dX3_lying_2 (by decide) ?_
  refine gx_istore hX dX3_lying_3 (Nat.le_of_ble_eq_true rfl) gx_c1i (lv' := [some (va_rf (some (gw_mo w))), some (.int (x1)), some (.int (x2)), some (.int ((-1))), some (.int (0)), none]) rfl ?_
  exact tX3_lying_L5 hA hX  N _ _ _ _ h
abbrev iX3_bareTick : gx_M := (RX3, "bareTick", cX3_bareTick, 3, none)
theorem dsX3_bareTick : gx_ds yX3_bareTick 1 := by decide +kernel
def fX3_bareTick (N : Nat) (σ : gm_S) (x1 : Int32) : Option (gm_S) := (gm_rd σ 1 ((nI 178) + (x1))).bind fun v1 => if v1 = (-1) then (gm_rd σ 1 ((nI 142) + (x1))).bind fun v7 => (gm_rd σ 1 ((nI 130) + (x1))).bind fun v8 => (fX3_lying N (σ) (v7) (v8)).bind fun r9 => if r9 = (-1) then some σ else (fX3_keeps (σ) (x1) (r9)).bind fun r10 => some r10 else (gm_rd σ 1 ((nI 190) + (x1))).bind fun v2 => (gm_wr σ 1 ((nI 190) + (x1)) ((v2) - (1))).bind fun σ3 => (gm_rd σ3 1 ((nI 190) + (x1))).bind fun v4 => if v4 = 0 then (gm_rd σ3 1 ((nI 178) + (x1))).bind fun v5 => (fX3_goesIn (σ3) (x1) (v5)).bind fun r6 => some r6 else some σ3
set_option maxHeartbeats 4000000 in
theorem tX3_bareTick (w : gw_W) (A : Nat → Prop) (hA : ∀ q, gm_A w q → A q) (l : Launch) (N : Nat) (σ : gm_S) (x1 : Int32) {r : gm_S} (h : fX3_bareTick N σ x1 = some r) : gx_T (gw_I w A) A l yX3_bareTick iX3_bareTick 4 [va_rf (some (gw_mo w)), .int (x1)] (gm_P w σ) 0 0 (gm_P w r) (.returned (none)) := by
  refine gx_T.of (gw_I.inv w A) (by decide) ⟨rfl, rfl⟩ (gx_kR (gx_kI gx_k0)) (Nat.le_of_ble_eq_true rfl) (fun X hl hAx hX => ?_)
  subst hl
  subst hAx
  show gx_G X (gm_P w σ) 0 0 [some (va_rf (some (gw_mo w))), some (.int (x1)), none] 0 []
  unfold fX3_bareTick at h
  refine gx_aload_n hX dX3_bareTick_0 rfl ?_
  refine gm_getA hX 1 (by decide) (by decide) q1342 rfl dX3_bareTick_1 ?_
  refine gx_sipush (v := nI 178) hX dX3_bareTick_4 (by decide) ?_
  refine gx_iload_n hX dX3_bareTick_7 rfl ?_
  refine gx_iadd hX dX3_bareTick_8 ?_
  refine gm_ld hX (by decide) dX3_bareTick_9 h (fun v1 h => ?_)
  refine gx_iconst (v := (-1)) hX dX3_bareTick_10 (by decide) ?_
  refine gx_icmp_ne (tgt := 51) hX dX3_bareTick_11 (by decide) h (fun h => ?_) (fun h => ?_)
  · refine gx_aload_n hX dX3_bareTick_14 rfl ?_
    refine gx_aload_n hX dX3_bareTick_15 rfl ?_
    refine gm_getA hX 1 (by decide) (by decide) q1342 rfl dX3_bareTick_16 ?_
    refine gx_sipush (v := nI 142) hX dX3_bareTick_19 (by decide) ?_
    refine gx_iload_n hX dX3_bareTick_22 rfl ?_
    refine gx_iadd hX dX3_bareTick_23 ?_
    refine gm_ld hX (by decide) dX3_bareTick_24 h (fun v7 h => ?_)
    refine gx_aload_n hX dX3_bareTick_25 rfl ?_
    refine gm_getA hX 1 (by decide) (by decide) q1342 rfl dX3_bareTick_26 ?_
    refine gx_sipush (v := nI 130) hX dX3_bareTick_29 (by decide) ?_
    refine gx_iload_n hX dX3_bareTick_32 rfl ?_
    refine gx_iadd hX dX3_bareTick_33 ?_
    refine gm_ld hX (by decide) dX3_bareTick_34 h (fun v8 h => ?_)
    obtain ⟨r9, hr9, h⟩ := gx_bs h
    refine gx_cV (As := [.int (v7), .int (v8)]) (rest := []) (b := gw_mo w) hX (tX3_lying w _ hA (gx_l X) N (σ) (v7) (v8) hr9) (lw_V q1687 q1689 qs60 q92 q1690) ⟨rfl, dsX3_lying⟩ (by decide) (by decide) (gm_rc hX) rfl (gx_w8 gx_k0 (Nat.le_of_ble_eq_true rfl)) dX3_bareTick_35 ⟨Nat.le_refl _, Nat.le_refl _⟩ rfl ?_
    refine gx_istore_n hX dX3_bareTick_38 (Nat.le_of_ble_eq_true rfl) gx_c1i (lv' := [some (va_rf (some (gw_mo w))), some (.int (x1)), some (.int (r9))]) rfl ?_
    refine gx_iload_n hX dX3_bareTick_39 rfl ?_
    refine gx_iconst (v := (-1)) hX dX3_bareTick_40 (by decide) ?_
    refine gx_icmp_eq (tgt := 50) hX dX3_bareTick_41 (by decide) h (fun h => ?_) (fun h => ?_)
    · cases h
      exact gx_vret hX rfl dX3_bareTick_50 rfl ⟨rfl, rfl⟩ (fun _ h => h)
    · refine gx_aload_n hX dX3_bareTick_44 rfl ?_
      refine gx_iload_n hX dX3_bareTick_45 rfl ?_
      refine gx_iload_n hX dX3_bareTick_46 rfl ?_
      obtain ⟨r10, hr10, h⟩ := gx_bs h
      refine gx_cV (As := [.int (x1), .int (r9)]) (rest := []) (b := gw_mo w) hX (tX3_keeps w _ hA (gx_l X) (σ) (x1) (r9) hr10) (lw_V q1691 q1693 qs61 q92 q1694) ⟨rfl, dsX3_keeps⟩ (by decide) (by decide) (gm_rc hX) rfl (gx_w8 gx_k0 (Nat.le_of_ble_eq_true rfl)) dX3_bareTick_47 ⟨Nat.le_refl _, Nat.le_refl _⟩ rfl ?_
      cases h
      exact gx_vret hX rfl dX3_bareTick_50 rfl ⟨rfl, rfl⟩ (fun _ h => h)
  · refine gx_aload_n hX dX3_bareTick_51 rfl ?_
    refine gm_getA hX 1 (by decide) (by decide) q1342 rfl dX3_bareTick_52 ?_
    refine gx_sipush (v := nI 190) hX dX3_bareTick_55 (by decide) ?_
    refine gx_iload_n hX dX3_bareTick_58 rfl ?_
    refine gx_iadd hX dX3_bareTick_59 ?_
    refine gx_dup2 hX dX3_bareTick_60 rfl (gx_cat _) ?_
    refine gm_ld hX (by decide) dX3_bareTick_61 h (fun v2 h => ?_)
    refine gx_iconst (v := 1) hX dX3_bareTick_62 (by decide) ?_
    refine gx_isub hX dX3_bareTick_63 ?_
    refine gm_st hX hA (by decide) dX3_bareTick_64 h (fun σ3 h => ?_)
    refine gx_aload_n hX dX3_bareTick_65 rfl ?_
    refine gm_getA hX 1 (by decide) (by decide) q1342 rfl dX3_bareTick_66 ?_
    refine gx_sipush (v := nI 190) hX dX3_bareTick_69 (by decide) ?_
    refine gx_iload_n hX dX3_bareTick_72 rfl ?_
    refine gx_iadd hX dX3_bareTick_73 ?_
    refine gm_ld hX (by decide) dX3_bareTick_74 h (fun v4 h => ?_)
    refine gx_if_ne (tgt := 93) hX dX3_bareTick_75 (by decide) h (fun h => ?_) (fun h => ?_)
    · refine gx_aload_n hX dX3_bareTick_78 rfl ?_
      refine gx_iload_n hX dX3_bareTick_79 rfl ?_
      refine gx_aload_n hX dX3_bareTick_80 rfl ?_
      refine gm_getA hX 1 (by decide) (by decide) q1342 rfl dX3_bareTick_81 ?_
      refine gx_sipush (v := nI 178) hX dX3_bareTick_84 (by decide) ?_
      refine gx_iload_n hX dX3_bareTick_87 rfl ?_
      refine gx_iadd hX dX3_bareTick_88 ?_
      refine gm_ld hX (by decide) dX3_bareTick_89 h (fun v5 h => ?_)
      obtain ⟨r6, hr6, h⟩ := gx_bs h
      refine gx_cV (As := [.int (x1), .int (v5)]) (rest := []) (b := gw_mo w) hX (tX3_goesIn w _ hA (gx_l X) (σ3) (x1) (v5) hr6) (lw_V q1478 q1480 qs34 q92 q1481) ⟨rfl, dsX3_goesIn⟩ (by decide) (by decide) (gm_rc hX) rfl (gx_w8 gx_k0 (Nat.le_of_ble_eq_true rfl)) dX3_bareTick_90 ⟨Nat.le_refl _, Nat.le_refl _⟩ rfl ?_
      cases h
      exact gx_vret hX rfl dX3_bareTick_93 rfl ⟨rfl, rfl⟩ (fun _ h => h)
    · cases h
      exact gx_vret hX rfl dX3_bareTick_93 rfl ⟨rfl, rfl⟩ (fun _ h => h)
abbrev iX3_asks : gx_M := (RX3, "asks", cX3_asks, 6, some .boolean)
theorem dsX3_asks : gx_ds yX3_asks 5 := by decide +kernel
def fX3_asks (N : Nat) (σ : gm_S) (x1 : Int32) (x2 : Int32) (x3 : Int32) (x4 : Int32) (x5 : Int32) : Option (gm_S × Int32) := (gm_rd σ 1 ((nI 154) + (x1))).bind fun v1 => (fX3_own (σ) (x1)).bind fun r2 => (gm_rd σ 1 ((nI 130) + (x1))).bind fun v3 => (fX3_holdsFor N (σ) (v1) (x2) ((r2) + (nI 50)) ((x3) + (nI 50)) (v3) (x4) (x5)).bind fun r4 => (gz (r4.2)).bind fun v5 => some (r4.1, v5)
set_option maxHeartbeats 4000000 in
theorem tX3_asks (w : gw_W) (A : Nat → Prop) (hA : ∀ q, gm_A w q → A q) (l : Launch) (N : Nat) (σ : gm_S) (x1 : Int32) (x2 : Int32) (x3 : Int32) (x4 : Int32) (x5 : Int32) {r : gm_S × Int32} (h : fX3_asks N σ x1 x2 x3 x4 x5 = some r) : gx_T (gw_I w A) A l yX3_asks iX3_asks 4 [va_rf (some (gw_mo w)), .int (x1), .int (x2), .int (x3), .int (x4), .int (x5)] (gm_P w σ) 0 0 (gm_P w r.1) (.returned (some (.int r.2))) := by
  refine gx_T.of (gw_I.inv w A) (by decide) ⟨rfl, rfl⟩ (gx_kR (gx_kI (gx_kI (gx_kI (gx_kI (gx_kI gx_k0)))))) (Nat.le_of_ble_eq_true rfl) (fun X hl hAx hX => ?_)
  subst hl
  subst hAx
  show gx_G X (gm_P w σ) 0 0 [some (va_rf (some (gw_mo w))), some (.int (x1)), some (.int (x2)), some (.int (x3)), some (.int (x4)), some (.int (x5))] 0 []
  unfold fX3_asks at h
  refine gx_aload_n hX dX3_asks_0 rfl ?_
  refine gx_aload_n hX dX3_asks_1 rfl ?_
  refine gm_getA hX 1 (by decide) (by decide) q1342 rfl dX3_asks_2 ?_
  refine gx_sipush (v := nI 154) hX dX3_asks_5 (by decide) ?_
  refine gx_iload_n hX dX3_asks_8 rfl ?_
  refine gx_iadd hX dX3_asks_9 ?_
  refine gm_ld hX (by decide) dX3_asks_10 h (fun v1 h => ?_)
  refine gx_iload_n hX dX3_asks_11 rfl ?_
  refine gx_aload_n hX dX3_asks_12 rfl ?_
  refine gx_iload_n hX dX3_asks_13 rfl ?_
  obtain ⟨r2, hr2, h⟩ := gx_bs h
  refine gx_cV (As := [.int (x1)]) (rest := [.int (x2), .int (v1), va_rf (some (gw_mo w))]) (b := gw_mo w) hX (tX3_own w _ hA (gx_l X) (σ) (x1) hr2) (lw_V q1522 q1524 qs41 q92 q1525) ⟨rfl, dsX3_own⟩ (by decide) (by decide) (gm_rc hX) rfl (gx_w8 (gx_kI (gx_kI (gx_kR gx_k0))) (Nat.le_of_ble_eq_true rfl)) dX3_asks_14 ⟨Nat.le_refl _, Nat.le_refl _⟩ rfl ?_
  refine gx_bipush (v := nI 50) hX dX3_asks_17 (by decide) ?_
  refine gx_iadd hX dX3_asks_19 ?_
  refine gx_iload_n hX dX3_asks_20 rfl ?_
  refine gx_bipush (v := nI 50) hX dX3_asks_21 (by decide) ?_
  refine gx_iadd hX dX3_asks_23 ?_
  refine gx_aload_n hX dX3_asks_24 rfl ?_
  refine gm_getA hX 1 (by decide) (by decide) q1342 rfl dX3_asks_25 ?_
  refine gx_sipush (v := nI 130) hX dX3_asks_28 (by decide) ?_
  refine gx_iload_n hX dX3_asks_31 rfl ?_
  refine gx_iadd hX dX3_asks_32 ?_
  refine gm_ld hX (by decide) dX3_asks_33 h (fun v3 h => ?_)
  refine gx_iload hX dX3_asks_34 rfl ?_
  refine gx_iload hX dX3_asks_36 rfl ?_
  obtain ⟨r4, hr4, h⟩ := gx_bs h
  refine gx_cV (As := [.int (v1), .int (x2), .int ((r2) + (nI 50)), .int ((x3) + (nI 50)), .int (v3), .int (x4), .int (x5)]) (rest := []) (b := gw_mo w) hX (tX3_holdsFor w _ hA (gx_l X) N (σ) (v1) (x2) ((r2) + (nI 50)) ((x3) + (nI 50)) (v3) (x4) (x5) hr4) (lw_V q1659 q1661 qs55 q92 q1662) ⟨rfl, dsX3_holdsFor⟩ (by decide) (by decide) (gm_rc hX) rfl (gx_w8 gx_k0 (Nat.le_of_ble_eq_true rfl)) dX3_asks_38 ⟨Nat.le_refl _, Nat.le_refl _⟩ rfl ?_
  exact gx_zretP hX rfl dX3_asks_41 h (fun h => by cases h; rfl) ⟨rfl, rfl⟩ (fun h => by cases h; exact fun _ h => h)
abbrev iX3_knocks : gx_M := (RX3, "knocks", cX3_knocks, 6, none)
theorem dsX3_knocks : gx_ds yX3_knocks 2 := by decide +kernel
def fX3_knocks_B195 (N : Nat)   (σ : gm_S) (x1 : Int32) (x2 : Int32) (x3 : Int32) (x4 : Int32) (y0 : Int32) (y1 : Int32) : Option (gm_S) := (gm_rd σ 1 ((nI 7) - ((y1) + (y0)))).bind fun v19 => (gm_wr σ 1 ((nI 7) - ((y1) + (y0))) ((v19) + (1))).bind fun σ20 => (fX3_goesIn (σ20) (x1) (x4)).bind fun r21 => (fX3_goesIn (r21) (x2) (x3)).bind fun r22 => (gm_wr r22 1 ((nI 202) + (x1)) (0)).bind fun σ23 => (gm_wr σ23 1 ((nI 214) + (x1)) ((-1))).bind fun σ24 => some σ24
set_option maxHeartbeats 4000000 in
theorem tX3_knocks_B195 {w : gw_W} {X : gx_X} {N : Nat} {r : gm_S} (hA : ∀ q, gm_A w q → gx_A X q) (hX : gx_O (gw_I w (gx_A X)) X iX3_knocks 5 0 0 (gm_P w r) (.returned (none)))  {σ : gm_S} {x1 : Int32} {x2 : Int32} {x3 : Int32} {x4 : Int32} {y0 : Int32} {y1 : Int32} (h : fX3_knocks_B195 N σ x1 x2 x3 x4 y0 y1 = some r) : gx_G X (gm_P w σ) 0 0 [some (va_rf (some (gw_mo w))), some (.int (x1)), some (.int (x2)), some (.int (x3)), some (.int (x4)), none] 195 [.int (y0), .int (y1)] := by
  unfold fX3_knocks_B195 at h
  refine gx_iadd hX dX3_knocks_195 ?_
  refine gx_istore hX dX3_knocks_196 (Nat.le_of_ble_eq_true rfl) gx_c1i (lv' := [some (va_rf (some (gw_mo w))), some (.int (x1)), some (.int (x2)), some (.int (x3)), some (.int (x4)), some (.int ((y1) + (y0)))]) rfl ?_
  refine gx_aload_n hX dX3_knocks_198 rfl ?_
  refine gm_getA hX 1 (by decide) (by decide) q1342 rfl dX3_knocks_199 ?_
  refine gx_bipush (v := nI 7) hX dX3_knocks_202 (by decide) ?_
  refine gx_iload hX dX3_knocks_204 rfl ?_
  refine gx_isub hX dX3_knocks_206 ?_
  refine gx_dup2 hX dX3_knocks_207 rfl (gx_cat _) ?_
  refine gm_ld hX (by decide) dX3_knocks_208 h (fun v19 h => ?_)
  refine gx_iconst (v := 1) hX dX3_knocks_209 (by decide) ?_
  refine gx_iadd hX dX3_knocks_210 ?_
  refine gm_st hX hA (by decide) dX3_knocks_211 h (fun σ20 h => ?_)
  refine gx_aload_n hX dX3_knocks_212 rfl ?_
  refine gx_iload_n hX dX3_knocks_213 rfl ?_
  refine gx_iload hX dX3_knocks_214 rfl ?_
  obtain ⟨r21, hr21, h⟩ := gx_bs h
  refine gx_cV (As := [.int (x1), .int (x4)]) (rest := []) (b := gw_mo w) hX (tX3_goesIn w _ hA (gx_l X) (σ20) (x1) (x4) hr21) (lw_V q1478 q1480 qs34 q92 q1481) ⟨rfl, dsX3_goesIn⟩ (by decide) (by decide) (gm_rc hX) rfl (gx_w8 gx_k0 (Nat.le_of_ble_eq_true rfl)) dX3_knocks_216 ⟨Nat.le_refl _, Nat.le_refl _⟩ rfl ?_
  refine gx_aload_n hX dX3_knocks_219 rfl ?_
  refine gx_iload_n hX dX3_knocks_220 rfl ?_
  refine gx_iload_n hX dX3_knocks_221 rfl ?_
  obtain ⟨r22, hr22, h⟩ := gx_bs h
  refine gx_cV (As := [.int (x2), .int (x3)]) (rest := []) (b := gw_mo w) hX (tX3_goesIn w _ hA (gx_l X) (r21) (x2) (x3) hr22) (lw_V q1478 q1480 qs34 q92 q1481) ⟨rfl, dsX3_goesIn⟩ (by decide) (by decide) (gm_rc hX) rfl (gx_w8 gx_k0 (Nat.le_of_ble_eq_true rfl)) dX3_knocks_222 ⟨Nat.le_refl _, Nat.le_refl _⟩ rfl ?_
  refine gx_aload_n hX dX3_knocks_225 rfl ?_
  refine gm_getA hX 1 (by decide) (by decide) q1342 rfl dX3_knocks_226 ?_
  refine gx_sipush (v := nI 202) hX dX3_knocks_229 (by decide) ?_
  refine gx_iload_n hX dX3_knocks_232 rfl ?_
  refine gx_iadd hX dX3_knocks_233 ?_
  refine gx_iconst (v := 0) hX dX3_knocks_234 (by decide) ?_
  refine gm_st hX hA (by decide) dX3_knocks_235 h (fun σ23 h => ?_)
  refine gx_aload_n hX dX3_knocks_236 rfl ?_
  refine gm_getA hX 1 (by decide) (by decide) q1342 rfl dX3_knocks_237 ?_
  refine gx_sipush (v := nI 214) hX dX3_knocks_240 (by decide) ?_
  refine gx_iload_n hX dX3_knocks_243 rfl ?_
  refine gx_iadd hX dX3_knocks_244 ?_
  refine gx_iconst (v := (-1)) hX dX3_knocks_245 (by decide) ?_
  refine gm_st hX hA (by decide) dX3_knocks_246 h (fun σ24 h => ?_)
  cases h
  exact gx_vret hX rfl dX3_knocks_247 rfl ⟨rfl, rfl⟩ (fun _ h => h)
def fX3_knocks_B167 (N : Nat)   (σ : gm_S) (x1 : Int32) (x2 : Int32) (x3 : Int32) (x4 : Int32) (y0 : Int32) : Option (gm_S) := (gm_rd σ 1 ((nI 130) + (x2))).bind fun v16 => (fX3_fitFor (σ) (x3) (v16)).bind fun r17 => (fX3_own (σ) (x2)).bind fun r18 => if (r17) ≤ r18 then fX3_knocks_B195 N σ (x1) (x2) (x3) (x4) (0) (y0) else fX3_knocks_B195 N σ (x1) (x2) (x3) (x4) (1) (y0)
set_option maxHeartbeats 4000000 in
theorem tX3_knocks_B167 {w : gw_W} {X : gx_X} {N : Nat} {r : gm_S} (hA : ∀ q, gm_A w q → gx_A X q) (hX : gx_O (gw_I w (gx_A X)) X iX3_knocks 5 0 0 (gm_P w r) (.returned (none)))  {σ : gm_S} {x1 : Int32} {x2 : Int32} {x3 : Int32} {x4 : Int32} {y0 : Int32} (h : fX3_knocks_B167 N σ x1 x2 x3 x4 y0 = some r) : gx_G X (gm_P w σ) 0 0 [some (va_rf (some (gw_mo w))), some (.int (x1)), some (.int (x2)), some (.int (x3)), some (.int (x4)), none] 167 [.int (y0)] := by
  unfold fX3_knocks_B167 at h
  refine gx_aload_n hX dX3_knocks_167 rfl ?_
  refine gx_iload_n hX dX3_knocks_168 rfl ?_
  refine gx_aload_n hX dX3_knocks_169 rfl ?_
  refine gm_getA hX 1 (by decide) (by decide) q1342 rfl dX3_knocks_170 ?_
  refine gx_sipush (v := nI 130) hX dX3_knocks_173 (by decide) ?_
  refine gx_iload_n hX dX3_knocks_176 rfl ?_
  refine gx_iadd hX dX3_knocks_177 ?_
  refine gm_ld hX (by decide) dX3_knocks_178 h (fun v16 h => ?_)
  obtain ⟨r17, hr17, h⟩ := gx_bs h
  refine gx_cV (As := [.int (x3), .int (v16)]) (rest := [.int (y0)]) (b := gw_mo w) hX (tX3_fitFor w _ hA (gx_l X) (σ) (x3) (v16) hr17) (lw_V q1526 q1528 qs42 q92 q1529) ⟨rfl, dsX3_fitFor⟩ (by decide) (by decide) (gm_rc hX) rfl (gx_w8 (gx_kI gx_k0) (Nat.le_of_ble_eq_true rfl)) dX3_knocks_179 ⟨Nat.le_refl _, Nat.le_refl _⟩ rfl ?_
  refine gx_aload_n hX dX3_knocks_182 rfl ?_
  refine gx_iload_n hX dX3_knocks_183 rfl ?_
  obtain ⟨r18, hr18, h⟩ := gx_bs h
  refine gx_cV (As := [.int (x2)]) (rest := [.int (r17), .int (y0)]) (b := gw_mo w) hX (tX3_own w _ hA (gx_l X) (σ) (x2) hr18) (lw_V q1522 q1524 qs41 q92 q1525) ⟨rfl, dsX3_own⟩ (by decide) (by decide) (gm_rc hX) rfl (gx_w8 (gx_kI (gx_kI gx_k0)) (Nat.le_of_ble_eq_true rfl)) dX3_knocks_184 ⟨Nat.le_refl _, Nat.le_refl _⟩ rfl ?_
  refine gx_icmp_le (tgt := 194) hX dX3_knocks_187 (by decide) h (fun h => ?_) (fun h => ?_)
  · refine gx_iconst (v := 0) hX dX3_knocks_194 (by decide) ?_
    exact tX3_knocks_B195 hA hX  h
  · refine gx_iconst (v := 1) hX dX3_knocks_190 (by decide) ?_
    refine gx_goto (tgt := 195) hX dX3_knocks_191 (by decide) ?_
    exact tX3_knocks_B195 hA hX  h
def fX3_knocks_B39 (N : Nat)   (σ : gm_S) (x1 : Int32) (x2 : Int32) (y0 : Int32) (y1 : Int32) : Option (gm_S) := (gm_wr σ 1 (y1) (y0)).bind fun σ2 => (gm_wr σ2 1 ((nI 214) + (x1)) (x2)).bind fun σ3 => (gm_wr σ3 1 ((nI 226) + (x1)) (2)).bind fun σ4 => (gm_rd σ4 1 ((nI 178) + (x1))).bind fun v5 => (gm_rd σ4 1 ((nI 130) + (x2))).bind fun v6 => (fX3_fitFor (σ4) (v5) (v6)).bind fun r7 => (gm_rd σ4 1 ((nI 130) + (x1))).bind fun v8 => (gm_rd σ4 1 ((nI 202) + (x1))).bind fun v9 => (fX3_asks N (σ4) (x2) (2) (r7) (v8) (v9)).bind fun r10 => if r10.2 = 0 then some r10.1 else (gm_rd r10.1 1 ((nI 178) + (x1))).bind fun v11 => (gm_rd r10.1 1 ((nI 178) + (x2))).bind fun v12 => (gm_rd r10.1 1 ((nI 130) + (x1))).bind fun v13 => (fX3_fitFor (r10.1) (v12) (v13)).bind fun r14 => (fX3_own (r10.1) (x1)).bind fun r15 => if (r14) ≤ r15 then fX3_knocks_B167 N r10.1 (x1) (x2) (v11) (v12) (0) else fX3_knocks_B167 N r10.1 (x1) (x2) (v11) (v12) (1)
set_option maxHeartbeats 4000000 in
theorem tX3_knocks_B39 {w : gw_W} {X : gx_X} {N : Nat} {r : gm_S} (hA : ∀ q, gm_A w q → gx_A X q) (hX : gx_O (gw_I w (gx_A X)) X iX3_knocks 5 0 0 (gm_P w r) (.returned (none)))  {σ : gm_S} {x1 : Int32} {x2 : Int32} {y0 : Int32} {y1 : Int32} (h : fX3_knocks_B39 N σ x1 x2 y0 y1 = some r) : gx_G X (gm_P w σ) 0 0 [some (va_rf (some (gw_mo w))), some (.int (x1)), some (.int (x2)), none, none, none] 39 [.int (y0), .int (y1), va_rf (some (gm_a w 1))] := by
  unfold fX3_knocks_B39 at h
  refine gm_st hX hA (by decide) dX3_knocks_39 h (fun σ2 h => ?_)
  refine gx_aload_n hX dX3_knocks_40 rfl ?_
  refine gm_getA hX 1 (by decide) (by decide) q1342 rfl dX3_knocks_41 ?_
  refine gx_sipush (v := nI 214) hX dX3_knocks_44 (by decide) ?_
  refine gx_iload_n hX dX3_knocks_47 rfl ?_
  refine gx_iadd hX dX3_knocks_48 ?_
  refine gx_iload_n hX dX3_knocks_49 rfl ?_
  refine gm_st hX hA (by decide) dX3_knocks_50 h (fun σ3 h => ?_)
  refine gx_aload_n hX dX3_knocks_51 rfl ?_
  refine gm_getA hX 1 (by decide) (by decide) q1342 rfl dX3_knocks_52 ?_
  refine gx_sipush (v := nI 226) hX dX3_knocks_55 (by decide) ?_
  refine gx_iload_n hX dX3_knocks_58 rfl ?_
  refine gx_iadd hX dX3_knocks_59 ?_
  refine gx_iconst (v := 2) hX dX3_knocks_60 (by decide) ?_
  refine gm_st hX hA (by decide) dX3_knocks_61 h (fun σ4 h => ?_)
  refine gx_aload_n hX dX3_knocks_62 rfl ?_
  refine gx_iload_n hX dX3_knocks_63 rfl ?_
  refine gx_iconst (v := 2) hX dX3_knocks_64 (by decide) ?_
  refine gx_aload_n hX dX3_knocks_65 rfl ?_
  refine gx_aload_n hX dX3_knocks_66 rfl ?_
  refine gm_getA hX 1 (by decide) (by decide) q1342 rfl dX3_knocks_67 ?_
  refine gx_sipush (v := nI 178) hX dX3_knocks_70 (by decide) ?_
  refine gx_iload_n hX dX3_knocks_73 rfl ?_
  refine gx_iadd hX dX3_knocks_74 ?_
  refine gm_ld hX (by decide) dX3_knocks_75 h (fun v5 h => ?_)
  refine gx_aload_n hX dX3_knocks_76 rfl ?_
  refine gm_getA hX 1 (by decide) (by decide) q1342 rfl dX3_knocks_77 ?_
  refine gx_sipush (v := nI 130) hX dX3_knocks_80 (by decide) ?_
  refine gx_iload_n hX dX3_knocks_83 rfl ?_
  refine gx_iadd hX dX3_knocks_84 ?_
  refine gm_ld hX (by decide) dX3_knocks_85 h (fun v6 h => ?_)
  obtain ⟨r7, hr7, h⟩ := gx_bs h
  refine gx_cV (As := [.int (v5), .int (v6)]) (rest := [.int (2), .int (x2), va_rf (some (gw_mo w))]) (b := gw_mo w) hX (tX3_fitFor w _ hA (gx_l X) (σ4) (v5) (v6) hr7) (lw_V q1526 q1528 qs42 q92 q1529) ⟨rfl, dsX3_fitFor⟩ (by decide) (by decide) (gm_rc hX) rfl (gx_w8 (gx_kI (gx_kI (gx_kR gx_k0))) (Nat.le_of_ble_eq_true rfl)) dX3_knocks_86 ⟨Nat.le_refl _, Nat.le_refl _⟩ rfl ?_
  refine gx_aload_n hX dX3_knocks_89 rfl ?_
  refine gm_getA hX 1 (by decide) (by decide) q1342 rfl dX3_knocks_90 ?_
  refine gx_sipush (v := nI 130) hX dX3_knocks_93 (by decide) ?_
  refine gx_iload_n hX dX3_knocks_96 rfl ?_
  refine gx_iadd hX dX3_knocks_97 ?_
  refine gm_ld hX (by decide) dX3_knocks_98 h (fun v8 h => ?_)
  refine gx_aload_n hX dX3_knocks_99 rfl ?_
  refine gm_getA hX 1 (by decide) (by decide) q1342 rfl dX3_knocks_100 ?_
  refine gx_sipush (v := nI 202) hX dX3_knocks_103 (by decide) ?_
  refine gx_iload_n hX dX3_knocks_106 rfl ?_
  refine gx_iadd hX dX3_knocks_107 ?_
  refine gm_ld hX (by decide) dX3_knocks_108 h (fun v9 h => ?_)
  obtain ⟨r10, hr10, h⟩ := gx_bs h
  refine gx_cV (As := [.int (x2), .int (2), .int (r7), .int (v8), .int (v9)]) (rest := []) (b := gw_mo w) hX (tX3_asks w _ hA (gx_l X) N (σ4) (x2) (2) (r7) (v8) (v9) hr10) (lw_V q1699 q1701 qs63 q92 q1702) ⟨rfl, dsX3_asks⟩ (by decide) (by decide) (gm_rc hX) rfl (gx_w8 gx_k0 (Nat.le_of_ble_eq_true rfl)) dX3_knocks_109 ⟨Nat.le_refl _, Nat.le_refl _⟩ rfl ?_
  refine gx_if_eq (tgt := 247) hX dX3_knocks_112 (by decide) h (fun h => ?_) (fun h => ?_)
  · cases h
    exact gx_vret hX rfl dX3_knocks_247 rfl ⟨rfl, rfl⟩ (fun _ h => h)
  · refine gx_aload_n hX dX3_knocks_115 rfl ?_
    refine gm_getA hX 1 (by decide) (by decide) q1342 rfl dX3_knocks_116 ?_
    refine gx_sipush (v := nI 178) hX dX3_knocks_119 (by decide) ?_
    refine gx_iload_n hX dX3_knocks_122 rfl ?_
    refine gx_iadd hX dX3_knocks_123 ?_
    refine gm_ld hX (by decide) dX3_knocks_124 h (fun v11 h => ?_)
    refine gx_istore_n hX dX3_knocks_125 (Nat.le_of_ble_eq_true rfl) gx_c1i (lv' := [some (va_rf (some (gw_mo w))), some (.int (x1)), some (.int (x2)), some (.int (v11)), none, none]) rfl ?_
    refine gx_aload_n hX dX3_knocks_126 rfl ?_
    refine gm_getA hX 1 (by decide) (by decide) q1342 rfl dX3_knocks_127 ?_
    refine gx_sipush (v := nI 178) hX dX3_knocks_130 (by decide) ?_
    refine gx_iload_n hX dX3_knocks_133 rfl ?_
    refine gx_iadd hX dX3_knocks_134 ?_
    refine gm_ld hX (by decide) dX3_knocks_135 h (fun v12 h => ?_)
    refine gx_istore hX dX3_knocks_136 (Nat.le_of_ble_eq_true rfl) gx_c1i (lv' := [some (va_rf (some (gw_mo w))), some (.int (x1)), some (.int (x2)), some (.int (v11)), some (.int (v12)), none]) rfl ?_
    refine gx_aload_n hX dX3_knocks_138 rfl ?_
    refine gx_iload hX dX3_knocks_139 rfl ?_
    refine gx_aload_n hX dX3_knocks_141 rfl ?_
    refine gm_getA hX 1 (by decide) (by decide) q1342 rfl dX3_knocks_142 ?_
    refine gx_sipush (v := nI 130) hX dX3_knocks_145 (by decide) ?_
    refine gx_iload_n hX dX3_knocks_148 rfl ?_
    refine gx_iadd hX dX3_knocks_149 ?_
    refine gm_ld hX (by decide) dX3_knocks_150 h (fun v13 h => ?_)
    obtain ⟨r14, hr14, h⟩ := gx_bs h
    refine gx_cV (As := [.int (v12), .int (v13)]) (rest := []) (b := gw_mo w) hX (tX3_fitFor w _ hA (gx_l X) (r10.1) (v12) (v13) hr14) (lw_V q1526 q1528 qs42 q92 q1529) ⟨rfl, dsX3_fitFor⟩ (by decide) (by decide) (gm_rc hX) rfl (gx_w8 gx_k0 (Nat.le_of_ble_eq_true rfl)) dX3_knocks_151 ⟨Nat.le_refl _, Nat.le_refl _⟩ rfl ?_
    refine gx_aload_n hX dX3_knocks_154 rfl ?_
    refine gx_iload_n hX dX3_knocks_155 rfl ?_
    obtain ⟨r15, hr15, h⟩ := gx_bs h
    refine gx_cV (As := [.int (x1)]) (rest := [.int (r14)]) (b := gw_mo w) hX (tX3_own w _ hA (gx_l X) (r10.1) (x1) hr15) (lw_V q1522 q1524 qs41 q92 q1525) ⟨rfl, dsX3_own⟩ (by decide) (by decide) (gm_rc hX) rfl (gx_w8 (gx_kI gx_k0) (Nat.le_of_ble_eq_true rfl)) dX3_knocks_156 ⟨Nat.le_refl _, Nat.le_refl _⟩ rfl ?_
    refine gx_icmp_le (tgt := 166) hX dX3_knocks_159 (by decide) h (fun h => ?_) (fun h => ?_)
    · refine gx_iconst (v := 0) hX dX3_knocks_166 (by decide) ?_
      exact tX3_knocks_B167 hA hX  h
    · refine gx_iconst (v := 1) hX dX3_knocks_162 (by decide) ?_
      refine gx_goto (tgt := 167) hX dX3_knocks_163 (by decide) ?_
      exact tX3_knocks_B167 hA hX  h
def fX3_knocks (N : Nat) (σ : gm_S) (x1 : Int32) (x2 : Int32) : Option (gm_S) := (gm_rd σ 1 ((nI 214) + (x1))).bind fun v1 => if v1 = x2 then (gm_rd σ 1 ((nI 202) + (x1))).bind fun v25 => fX3_knocks_B39 N σ (x1) (x2) ((v25) + (1)) ((nI 202) + (x1)) else fX3_knocks_B39 N σ (x1) (x2) (1) ((nI 202) + (x1))
set_option maxHeartbeats 4000000 in
theorem tX3_knocks (w : gw_W) (A : Nat → Prop) (hA : ∀ q, gm_A w q → A q) (l : Launch) (N : Nat) (σ : gm_S) (x1 : Int32) (x2 : Int32) {r : gm_S} (h : fX3_knocks N σ x1 x2 = some r) : gx_T (gw_I w A) A l yX3_knocks iX3_knocks 5 [va_rf (some (gw_mo w)), .int (x1), .int (x2)] (gm_P w σ) 0 0 (gm_P w r) (.returned (none)) := by
  refine gx_T.of (gw_I.inv w A) (by decide) ⟨rfl, rfl⟩ (gx_kR (gx_kI (gx_kI gx_k0))) (Nat.le_of_ble_eq_true rfl) (fun X hl hAx hX => ?_)
  subst hl
  subst hAx
  show gx_G X (gm_P w σ) 0 0 [some (va_rf (some (gw_mo w))), some (.int (x1)), some (.int (x2)), none, none, none] 0 []
  unfold fX3_knocks at h
  refine gx_aload_n hX dX3_knocks_0 rfl ?_
  refine gm_getA hX 1 (by decide) (by decide) q1342 rfl dX3_knocks_1 ?_
  refine gx_sipush (v := nI 202) hX dX3_knocks_4 (by decide) ?_
  refine gx_iload_n hX dX3_knocks_7 rfl ?_
  refine gx_iadd hX dX3_knocks_8 ?_
  refine gx_aload_n hX dX3_knocks_9 rfl ?_
  refine gm_getA hX 1 (by decide) (by decide) q1342 rfl dX3_knocks_10 ?_
  refine gx_sipush (v := nI 214) hX dX3_knocks_13 (by decide) ?_
  refine gx_iload_n hX dX3_knocks_16 rfl ?_
  refine gx_iadd hX dX3_knocks_17 ?_
  refine gm_ld hX (by decide) dX3_knocks_18 h (fun v1 h => ?_)
  refine gx_iload_n hX dX3_knocks_19 rfl ?_
  refine gx_icmp_ne (tgt := 38) hX dX3_knocks_20 (by decide) h (fun h => ?_) (fun h => ?_)
  · refine gx_aload_n hX dX3_knocks_23 rfl ?_
    refine gm_getA hX 1 (by decide) (by decide) q1342 rfl dX3_knocks_24 ?_
    refine gx_sipush (v := nI 202) hX dX3_knocks_27 (by decide) ?_
    refine gx_iload_n hX dX3_knocks_30 rfl ?_
    refine gx_iadd hX dX3_knocks_31 ?_
    refine gm_ld hX (by decide) dX3_knocks_32 h (fun v25 h => ?_)
    refine gx_iconst (v := 1) hX dX3_knocks_33 (by decide) ?_
    refine gx_iadd hX dX3_knocks_34 ?_
    refine gx_goto (tgt := 39) hX dX3_knocks_35 (by decide) ?_
    exact tX3_knocks_B39 hA hX  h
  · refine gx_iconst (v := 1) hX dX3_knocks_38 (by decide) ?_
    exact tX3_knocks_B39 hA hX  h
abbrev iX3_otherOf : gx_M := (RX3, "otherOf", cX3_otherOf, 5, some .int)
theorem dsX3_otherOf : gx_ds yX3_otherOf 1 := by decide +kernel
def fX3_otherOf_B119 (N : Nat) (σ : gm_S) (K11 : Int32 → Int32 → Int32 → Int32 → Option (Int32)) (x1 : Int32) (x2 : Int32) (x3 : Int32) (x4 : Int32) : Option (Int32) := K11 (x1) (x2) (x3) ((x4) + 1)
set_option maxHeartbeats 4000000 in
theorem tX3_otherOf_B119 {w : gw_W} {X : gx_X} {N : Nat} {σ : gm_S} {r : Int32} (hA : ∀ q, gm_A w q → gx_A X q) (hX : gx_O (gw_I w (gx_A X)) X iX3_otherOf 4 0 0 (gm_P w σ) (.returned (some (.int r)))) {K11 : Int32 → Int32 → Int32 → Int32 → Option (Int32)} (hK11 : ∀ (x1 : Int32) (x2 : Int32) (x3 : Int32) (x4 : Int32), K11 x1 x2 x3 x4 = some r → gx_G X (gm_P w σ) 0 0 [some (va_rf (some (gw_mo w))), some (.int (x1)), some (.int (x2)), some (.int (x3)), some (.int (x4))] 11 []) {x1 : Int32} {x2 : Int32} {x3 : Int32} {x4 : Int32} (h : fX3_otherOf_B119 N σ K11 x1 x2 x3 x4 = some r) : gx_G X (gm_P w σ) 0 0 [some (va_rf (some (gw_mo w))), some (.int (x1)), some (.int (x2)), some (.int (x3)), some (.int (x4))] 119 [] := by
  unfold fX3_otherOf_B119 at h
  refine gx_iinc (v := 1) hX dX3_otherOf_119 rfl (by decide) gx_c1i (lv' := [some (va_rf (some (gw_mo w))), some (.int (x1)), some (.int (x2)), some (.int (x3)), some (.int ((x4) + 1))]) rfl ?_
  refine gx_goto (tgt := 11) hX dX3_otherOf_122 (by decide) ?_
  exact hK11 _ _ _ _ h
def fX3_otherOf_L11 (N : Nat) (σ : gm_S)  : Nat → Int32 → Int32 → Int32 → Int32 → Option (Int32)
  | 0, _, _, _, _ => none
  | k + 1, x1, x2, x3, x4 => (gm_rd σ 1 (1)).bind fun v2 => if (v2) ≤ x4 then some (x2) else if x4 = x1 then fX3_otherOf_B119 N σ (fX3_otherOf_L11 N σ k) (x1) (x2) (x3) (x4) else (fX3_isHoused (σ) (x4)).bind fun r3 => if r3 = 0 then fX3_otherOf_B119 N σ (fX3_otherOf_L11 N σ k) (x1) (x2) (x3) (x4) else (gm_rd σ 1 ((nI 142) + (x4))).bind fun v4 => (gm_rd σ 1 ((nI 142) + (x1))).bind fun v5 => if v4 = v5 then (gm_rd σ 1 ((nI 178) + (x4))).bind fun v6 => (gm_rd σ 1 ((nI 130) + (x1))).bind fun v7 => (fX3_fitFor (σ) (v6) (v7)).bind fun r8 => if (r8) ≤ x3 then fX3_otherOf_B119 N σ (fX3_otherOf_L11 N σ k) (x1) (x2) (x3) (x4) else (gm_rd σ 1 ((nI 178) + (x4))).bind fun v9 => (gm_rd σ 1 ((nI 130) + (x1))).bind fun v10 => (fX3_fitFor (σ) (v9) (v10)).bind fun r11 => fX3_otherOf_B119 N σ (fX3_otherOf_L11 N σ k) (x1) (x4) (r11) (x4) else fX3_otherOf_B119 N σ (fX3_otherOf_L11 N σ k) (x1) (x2) (x3) (x4)
set_option maxHeartbeats 4000000 in
theorem tX3_otherOf_L11 {w : gw_W} {X : gx_X} {N : Nat} {σ : gm_S} {r : Int32} (hA : ∀ q, gm_A w q → gx_A X q) (hX : gx_O (gw_I w (gx_A X)) X iX3_otherOf 4 0 0 (gm_P w σ) (.returned (some (.int r))))  : ∀ (k : Nat) (x1 : Int32) (x2 : Int32) (x3 : Int32) (x4 : Int32), fX3_otherOf_L11 N σ k x1 x2 x3 x4 = some r → gx_G X (gm_P w σ) 0 0 [some (va_rf (some (gw_mo w))), some (.int (x1)), some (.int (x2)), some (.int (x3)), some (.int (x4))] 11 [] := by
  intro k
  induction k with
  | zero =>
    intro x1 x2 x3 x4 h
    unfold fX3_otherOf_L11 at h
    cases h
  | succ k ih =>
    intro x1 x2 x3 x4 h
    unfold fX3_otherOf_L11 at h
    refine gx_iload hX dX3_otherOf_11 rfl ?_
    refine gx_aload_n hX dX3_otherOf_13 rfl ?_
    refine gm_getA hX 1 (by decide) (by decide) q1342 rfl dX3_otherOf_14 ?_
    refine gx_iconst (v := 1) hX dX3_otherOf_17 (by decide) ?_
    refine gm_ld hX (by decide) dX3_otherOf_18 h (fun v2 h => ?_)
    refine gx_icmp_ge (tgt := 125) hX dX3_otherOf_19 (by decide) h (fun h => ?_) (fun h => ?_)
    · refine gx_iload_n hX dX3_otherOf_125 rfl ?_
      cases h
      exact gx_iret hX rfl dX3_otherOf_126 rfl ⟨rfl, rfl⟩ (fun _ h => h)
    · refine gx_iload hX dX3_otherOf_22 rfl ?_
      refine gx_iload_n hX dX3_otherOf_24 rfl ?_
      refine gx_icmp_eq (tgt := 119) hX dX3_otherOf_25 (by decide) h (fun h => ?_) (fun h => ?_)
      · exact tX3_otherOf_B119 hA hX ih h
      · refine gx_aload_n hX dX3_otherOf_28 rfl ?_
        refine gx_iload hX dX3_otherOf_29 rfl ?_
        obtain ⟨r3, hr3, h⟩ := gx_bs h
        refine gx_cV (As := [.int (x4)]) (rest := []) (b := gw_mo w) hX (tX3_isHoused w _ hA (gx_l X) (σ) (x4) hr3) (lw_V q1510 q1512 qs38 q92 q1513) ⟨rfl, dsX3_isHoused⟩ (by decide) (by decide) (gm_rc hX) rfl (gx_w8 gx_k0 (Nat.le_of_ble_eq_true rfl)) dX3_otherOf_31 ⟨Nat.le_refl _, Nat.le_refl _⟩ rfl ?_
        refine gx_if_eq (tgt := 119) hX dX3_otherOf_34 (by decide) h (fun h => ?_) (fun h => ?_)
        · exact tX3_otherOf_B119 hA hX ih h
        · refine gx_aload_n hX dX3_otherOf_37 rfl ?_
          refine gm_getA hX 1 (by decide) (by decide) q1342 rfl dX3_otherOf_38 ?_
          refine gx_sipush (v := nI 142) hX dX3_otherOf_41 (by decide) ?_
          refine gx_iload hX dX3_otherOf_44 rfl ?_
          refine gx_iadd hX dX3_otherOf_46 ?_
          refine gm_ld hX (by decide) dX3_otherOf_47 h (fun v4 h => ?_)
          refine gx_aload_n hX dX3_otherOf_48 rfl ?_
          refine gm_getA hX 1 (by decide) (by decide) q1342 rfl dX3_otherOf_49 ?_
          refine gx_sipush (v := nI 142) hX dX3_otherOf_52 (by decide) ?_
          refine gx_iload_n hX dX3_otherOf_55 rfl ?_
          refine gx_iadd hX dX3_otherOf_56 ?_
          refine gm_ld hX (by decide) dX3_otherOf_57 h (fun v5 h => ?_)
          refine gx_icmp_ne (tgt := 119) hX dX3_otherOf_58 (by decide) h (fun h => ?_) (fun h => ?_)
          · refine gx_aload_n hX dX3_otherOf_61 rfl ?_
            refine gx_aload_n hX dX3_otherOf_62 rfl ?_
            refine gm_getA hX 1 (by decide) (by decide) q1342 rfl dX3_otherOf_63 ?_
            refine gx_sipush (v := nI 178) hX dX3_otherOf_66 (by decide) ?_
            refine gx_iload hX dX3_otherOf_69 rfl ?_
            refine gx_iadd hX dX3_otherOf_71 ?_
            refine gm_ld hX (by decide) dX3_otherOf_72 h (fun v6 h => ?_)
            refine gx_aload_n hX dX3_otherOf_73 rfl ?_
            refine gm_getA hX 1 (by decide) (by decide) q1342 rfl dX3_otherOf_74 ?_
            refine gx_sipush (v := nI 130) hX dX3_otherOf_77 (by decide) ?_
            refine gx_iload_n hX dX3_otherOf_80 rfl ?_
            refine gx_iadd hX dX3_otherOf_81 ?_
            refine gm_ld hX (by decide) dX3_otherOf_82 h (fun v7 h => ?_)
            obtain ⟨r8, hr8, h⟩ := gx_bs h
            refine gx_cV (As := [.int (v6), .int (v7)]) (rest := []) (b := gw_mo w) hX (tX3_fitFor w _ hA (gx_l X) (σ) (v6) (v7) hr8) (lw_V q1526 q1528 qs42 q92 q1529) ⟨rfl, dsX3_fitFor⟩ (by decide) (by decide) (gm_rc hX) rfl (gx_w8 gx_k0 (Nat.le_of_ble_eq_true rfl)) dX3_otherOf_83 ⟨Nat.le_refl _, Nat.le_refl _⟩ rfl ?_
            refine gx_iload_n hX dX3_otherOf_86 rfl ?_
            refine gx_icmp_le (tgt := 119) hX dX3_otherOf_87 (by decide) h (fun h => ?_) (fun h => ?_)
            · exact tX3_otherOf_B119 hA hX ih h
            · refine gx_iload hX dX3_otherOf_90 rfl ?_
              refine gx_istore_n hX dX3_otherOf_92 (Nat.le_of_ble_eq_true rfl) gx_c1i (lv' := [some (va_rf (some (gw_mo w))), some (.int (x1)), some (.int (x4)), some (.int (x3)), some (.int (x4))]) rfl ?_
              refine gx_aload_n hX dX3_otherOf_93 rfl ?_
              refine gx_aload_n hX dX3_otherOf_94 rfl ?_
              refine gm_getA hX 1 (by decide) (by decide) q1342 rfl dX3_otherOf_95 ?_
              refine gx_sipush (v := nI 178) hX dX3_otherOf_98 (by decide) ?_
              refine gx_iload hX dX3_otherOf_101 rfl ?_
              refine gx_iadd hX dX3_otherOf_103 ?_
              refine gm_ld hX (by decide) dX3_otherOf_104 h (fun v9 h => ?_)
              refine gx_aload_n hX dX3_otherOf_105 rfl ?_
              refine gm_getA hX 1 (by decide) (by decide) q1342 rfl dX3_otherOf_106 ?_
              refine gx_sipush (v := nI 130) hX dX3_otherOf_109 (by decide) ?_
              refine gx_iload_n hX dX3_otherOf_112 rfl ?_
              refine gx_iadd hX dX3_otherOf_113 ?_
              refine gm_ld hX (by decide) dX3_otherOf_114 h (fun v10 h => ?_)
              obtain ⟨r11, hr11, h⟩ := gx_bs h
              refine gx_cV (As := [.int (v9), .int (v10)]) (rest := []) (b := gw_mo w) hX (tX3_fitFor w _ hA (gx_l X) (σ) (v9) (v10) hr11) (lw_V q1526 q1528 qs42 q92 q1529) ⟨rfl, dsX3_fitFor⟩ (by decide) (by decide) (gm_rc hX) rfl (gx_w8 gx_k0 (Nat.le_of_ble_eq_true rfl)) dX3_otherOf_115 ⟨Nat.le_refl _, Nat.le_refl _⟩ rfl ?_
              refine gx_istore_n hX dX3_otherOf_118 (Nat.le_of_ble_eq_true rfl) gx_c1i (lv' := [some (va_rf (some (gw_mo w))), some (.int (x1)), some (.int (x4)), some (.int (r11)), some (.int (x4))]) rfl ?_
              exact tX3_otherOf_B119 hA hX ih h
          · exact tX3_otherOf_B119 hA hX ih h
def fX3_otherOf (N : Nat) (σ : gm_S) (x1 : Int32) : Option (Int32) := (fX3_own (σ) (x1)).bind fun r1 => fX3_otherOf_L11 N σ N (x1) ((-1)) (r1) (0)
set_option maxHeartbeats 4000000 in
theorem tX3_otherOf (w : gw_W) (A : Nat → Prop) (hA : ∀ q, gm_A w q → A q) (l : Launch) (N : Nat) (σ : gm_S) (x1 : Int32) {r : Int32} (h : fX3_otherOf N σ x1 = some r) : gx_T (gw_I w A) A l yX3_otherOf iX3_otherOf 4 [va_rf (some (gw_mo w)), .int (x1)] (gm_P w σ) 0 0 (gm_P w σ) (.returned (some (.int r))) := by
  refine gx_T.of (gw_I.inv w A) (by decide) ⟨rfl, rfl⟩ (gx_kR (gx_kI gx_k0)) (Nat.le_of_ble_eq_true rfl) (fun X hl hAx hX => ?_)
  subst hl
  subst hAx
  show gx_G X (gm_P w σ) 0 0 [some (va_rf (some (gw_mo w))), some (.int (x1)), none, none, none] 0 []
  unfold fX3_otherOf at h
  refine gx_iconst (v := (-1)) hX dX3_otherOf_0 (by decide) ?_
  refine gx_istore_n hX dX3_otherOf_1 (Nat.le_of_ble_eq_true rfl) gx_c1i (lv' := [some (va_rf (some (gw_mo w))), some (.int (x1)), some (.int ((-1))), none, none]) rfl ?_
  refine gx_aload_n hX dX3_otherOf_2 rfl ?_
  refine gx_iload_n hX dX3_otherOf_3 rfl ?_
  obtain ⟨r1, hr1, h⟩ := gx_bs h
  refine gx_cV (As := [.int (x1)]) (rest := []) (b := gw_mo w) hX (tX3_own w _ hA (gx_l X) (σ) (x1) hr1) (lw_V q1522 q1524 qs41 q92 q1525) ⟨rfl, dsX3_own⟩ (by decide) (by decide) (gm_rc hX) rfl (gx_w8 gx_k0 (Nat.le_of_ble_eq_true rfl)) dX3_otherOf_4 ⟨Nat.le_refl _, Nat.le_refl _⟩ rfl ?_
  refine gx_istore_n hX dX3_otherOf_7 (Nat.le_of_ble_eq_true rfl) gx_c1i (lv' := [some (va_rf (some (gw_mo w))), some (.int (x1)), some (.int ((-1))), some (.int (r1)), none]) rfl ?_
  refine gx_iconst (v := 0) hX dX3_otherOf_8 (by decide) ?_
  refine gx_istore hX dX3_otherOf_9 (Nat.le_of_ble_eq_true rfl) gx_c1i (lv' := [some (va_rf (some (gw_mo w))), some (.int (x1)), some (.int ((-1))), some (.int (r1)), some (.int (0))]) rfl ?_
  exact tX3_otherOf_L11 hA hX  N _ _ _ _ h
