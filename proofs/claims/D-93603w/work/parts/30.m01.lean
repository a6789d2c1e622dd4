set_option maxRecDepth 100000
abbrev iX3_in : gx_M := (RX3, "in", cX3_in, 3, some .boolean)
theorem dsX3_in : gx_ds yX3_in 3 := by decide +kernel
def fX3_in (x0 : Int32) (x1 : Int32) (x2 : Int32) : Option (Int32) := if (x0) < x1 then some (0) else if (x2) < x0 then some (0) else some (1)
set_option maxHeartbeats 4000000 in
theorem tX3_in (w : gw_W) (A : Nat → Prop) (l : Launch) (P : Heap → Prop) (x0 : Int32) (x1 : Int32) (x2 : Int32) {r : Int32} (h : fX3_in x0 x1 x2 = some r) : gx_T (gw_I w A) A l yX3_in iX3_in 1 [.int (x0), .int (x1), .int (x2)] (P) 0 0 (P) (.returned (some (.int r))) := by
  refine gx_T.of (gw_I.inv w A) (by decide) ⟨rfl, rfl⟩ (gx_kI (gx_kI (gx_kI gx_k0))) (Nat.le_of_ble_eq_true rfl) (fun X hl hAx hX => ?_)
  subst hl
  subst hAx
  show gx_G X (P) 0 0 [some (.int (x0)), some (.int (x1)), some (.int (x2))] 0 []
  unfold fX3_in at h
  refine gx_iload_n hX dX3_in_0 rfl ?_
  refine gx_iload_n hX dX3_in_1 rfl ?_
  refine gx_icmp_lt (tgt := 14) hX dX3_in_2 (by decide) h (fun h => ?_) (fun h => ?_)
  · refine gx_iconst (v := 0) hX dX3_in_14 (by decide) ?_
    cases h
    exact gx_zret hX rfl rfl dX3_in_15 rfl ⟨rfl, rfl⟩ (fun _ h => h)
  · refine gx_iload_n hX dX3_in_5 rfl ?_
    refine gx_iload_n hX dX3_in_6 rfl ?_
    refine gx_icmp_gt (tgt := 14) hX dX3_in_7 (by decide) h (fun h => ?_) (fun h => ?_)
    · refine gx_iconst (v := 0) hX dX3_in_14 (by decide) ?_
      cases h
      exact gx_zret hX rfl rfl dX3_in_15 rfl ⟨rfl, rfl⟩ (fun _ h => h)
    · refine gx_iconst (v := 1) hX dX3_in_10 (by decide) ?_
      refine gx_goto (tgt := 15) hX dX3_in_11 (by decide) ?_
      cases h
      exact gx_zret hX rfl rfl dX3_in_15 rfl ⟨rfl, rfl⟩ (fun _ h => h)
abbrev iX3_isCell : gx_M := (RX3, "isCell", cX3_isCell, 1, some .boolean)
theorem dsX3_isCell : gx_ds yX3_isCell 1 := by decide +kernel
def fX3_isCell (x0 : Int32) : Option (Int32) := (fX3_in  (x0) (0) (nI 7)).bind fun r1 => (gz (r1)).bind fun v2 => some (v2)
set_option maxHeartbeats 4000000 in
theorem tX3_isCell (w : gw_W) (A : Nat → Prop) (l : Launch) (P : Heap → Prop) (x0 : Int32) {r : Int32} (h : fX3_isCell x0 = some r) : gx_T (gw_I w A) A l yX3_isCell iX3_isCell 2 [.int (x0)] (P) 0 0 (P) (.returned (some (.int r))) := by
  refine gx_T.of (gw_I.inv w A) (by decide) ⟨rfl, rfl⟩ (gx_kI gx_k0) (Nat.le_of_ble_eq_true rfl) (fun X hl hAx hX => ?_)
  subst hl
  subst hAx
  show gx_G X (P) 0 0 [some (.int (x0))] 0 []
  unfold fX3_isCell at h
  refine gx_iload_n hX dX3_isCell_0 rfl ?_
  refine gx_iconst (v := 0) hX dX3_isCell_1 (by decide) ?_
  refine gx_bipush (v := nI 7) hX dX3_isCell_2 (by decide) ?_
  obtain ⟨r1, hr1, h⟩ := gx_bs h
  refine gx_cS (As := [.int (x0), .int (0), .int (nI 7)]) (rest := []) hX (tX3_in w (gx_A X) (gx_l X) (P) (x0) (0) (nI 7) hr1) (lw_S q1467 q1468 q92 q1469) dsX3_in (by decide) (by decide) rfl (gx_w8 gx_k0 (Nat.le_of_ble_eq_true rfl)) dX3_isCell_4 ⟨Nat.le_refl _, Nat.le_refl _⟩ rfl ?_
  exact gx_zretP hX rfl dX3_isCell_7 h (fun h => by cases h; rfl) ⟨rfl, rfl⟩ (fun h => by cases h; exact fun _ h => h)
abbrev iX3_shell : gx_M := (RX3, "shell", cX3_shell, 6, some .int)
theorem dsX3_shell : gx_ds yX3_shell 4 := by decide +kernel
def fX3_shell (σ : gm_S) (x1 : Int32) (x2 : Int32) (x3 : Int32) (x4 : Int32) : Option (gm_S × Int32) := (fX3_isCell  (x1)).bind fun r1 => if r1 = 0 then some (σ, (-1)) else (fX3_in  (x2) (1) (nI 40)).bind fun r2 => if r2 = 0 then some (σ, (-2)) else (fX3_in  (x3) (0) (nI 20)).bind fun r3 => if r3 = 0 then some (σ, (-2)) else (fX3_in  (x4) (0) (nI 9)).bind fun r4 => if r4 = 0 then some (σ, (-2)) else (gm_rd σ 1 (0)).bind fun v5 => if v5 = nI 20 then some (σ, (-4)) else (gm_rd σ 1 (0)).bind fun v6 => (gm_wr σ 1 ((nI 10) + (v6)) (x2)).bind fun σ7 => (gm_wr σ7 1 ((nI 30) + (v6)) (x3)).bind fun σ8 => (gm_wr σ8 1 ((nI 50) + (v6)) (x4)).bind fun σ9 => (gm_wr σ9 1 ((nI 70) + (v6)) (x1)).bind fun σ10 => (gm_wr σ10 1 ((nI 90) + (v6)) (0)).bind fun σ11 => (gm_wr σ11 1 ((nI 110) + (v6)) ((-1))).bind fun σ12 => (gm_rd σ12 1 (0)).bind fun v13 => (gm_wr σ12 1 (0) ((v13) + (1))).bind fun σ14 => some (σ14, v6)
set_option maxHeartbeats 4000000 in
theorem tX3_shell (w : gw_W) (A : Nat → Prop) (hA : ∀ q, gm_A w q → A q) (l : Launch) (σ : gm_S) (x1 : Int32) (x2 : Int32) (x3 : Int32) (x4 : Int32) {r : gm_S × Int32} (h : fX3_shell σ x1 x2 x3 x4 = some r) : gx_T (gw_I w A) A l yX3_shell iX3_shell 3 [va_rf (some (gw_mo w)), .int (x1), .int (x2), .int (x3), .int (x4)] (gm_P w σ) 0 0 (gm_P w r.1) (.returned (some (.int r.2))) := by
  refine gx_T.of (gw_I.inv w A) (by decide) ⟨rfl, rfl⟩ (gx_kR (gx_kI (gx_kI (gx_kI (gx_kI gx_k0))))) (Nat.le_of_ble_eq_true rfl) (fun X hl hAx hX => ?_)
  subst hl
  subst hAx
  show gx_G X (gm_P w σ) 0 0 [some (va_rf (some (gw_mo w))), some (.int (x1)), some (.int (x2)), some (.int (x3)), some (.int (x4)), none] 0 []
  unfold fX3_shell at h
  refine gx_iload_n hX dX3_shell_0 rfl ?_
  obtain ⟨r1, hr1, h⟩ := gx_bs h
  refine gx_cS (As := [.int (x1)]) (rest := []) hX (tX3_isCell w (gx_A X) (gx_l X) (gm_P w σ) (x1) hr1) (lw_S q1464 q1465 q92 q1466) dsX3_isCell (by decide) (by decide) rfl (gx_w8 gx_k0 (Nat.le_of_ble_eq_true rfl)) dX3_shell_1 ⟨Nat.le_refl _, Nat.le_refl _⟩ rfl ?_
  refine gx_if_ne (tgt := 9) hX dX3_shell_4 (by decide) h (fun h => ?_) (fun h => ?_)
  · refine gx_iconst (v := (-1)) hX dX3_shell_7 (by decide) ?_
    cases h
    exact gx_iret hX rfl dX3_shell_8 rfl ⟨rfl, rfl⟩ (fun _ h => h)
  · refine gx_iload_n hX dX3_shell_9 rfl ?_
    refine gx_iconst (v := 1) hX dX3_shell_10 (by decide) ?_
    refine gx_bipush (v := nI 40) hX dX3_shell_11 (by decide) ?_
    obtain ⟨r2, hr2, h⟩ := gx_bs h
    refine gx_cS (As := [.int (x2), .int (1), .int (nI 40)]) (rest := []) hX (tX3_in w (gx_A X) (gx_l X) (gm_P w σ) (x2) (1) (nI 40) hr2) (lw_S q1467 q1468 q92 q1469) dsX3_in (by decide) (by decide) rfl (gx_w8 gx_k0 (Nat.le_of_ble_eq_true rfl)) dX3_shell_13 ⟨Nat.le_refl _, Nat.le_refl _⟩ rfl ?_
    refine gx_if_eq (tgt := 40) hX dX3_shell_16 (by decide) h (fun h => ?_) (fun h => ?_)
    · refine gx_bipush (v := (-2)) hX dX3_shell_40 (by decide) ?_
      cases h
      exact gx_iret hX rfl dX3_shell_42 rfl ⟨rfl, rfl⟩ (fun _ h => h)
    · refine gx_iload_n hX dX3_shell_19 rfl ?_
      refine gx_iconst (v := 0) hX dX3_shell_20 (by decide) ?_
      refine gx_bipush (v := nI 20) hX dX3_shell_21 (by decide) ?_
      obtain ⟨r3, hr3, h⟩ := gx_bs h
      refine gx_cS (As := [.int (x3), .int (0), .int (nI 20)]) (rest := []) hX (tX3_in w (gx_A X) (gx_l X) (gm_P w σ) (x3) (0) (nI 20) hr3) (lw_S q1467 q1468 q92 q1469) dsX3_in (by decide) (by decide) rfl (gx_w8 gx_k0 (Nat.le_of_ble_eq_true rfl)) dX3_shell_23 ⟨Nat.le_refl _, Nat.le_refl _⟩ rfl ?_
      refine gx_if_eq (tgt := 40) hX dX3_shell_26 (by decide) h (fun h => ?_) (fun h => ?_)
      · refine gx_bipush (v := (-2)) hX dX3_shell_40 (by decide) ?_
        cases h
        exact gx_iret hX rfl dX3_shell_42 rfl ⟨rfl, rfl⟩ (fun _ h => h)
      · refine gx_iload hX dX3_shell_29 rfl ?_
        refine gx_iconst (v := 0) hX dX3_shell_31 (by decide) ?_
        refine gx_bipush (v := nI 9) hX dX3_shell_32 (by decide) ?_
        obtain ⟨r4, hr4, h⟩ := gx_bs h
        refine gx_cS (As := [.int (x4), .int (0), .int (nI 9)]) (rest := []) hX (tX3_in w (gx_A X) (gx_l X) (gm_P w σ) (x4) (0) (nI 9) hr4) (lw_S q1467 q1468 q92 q1469) dsX3_in (by decide) (by decide) rfl (gx_w8 gx_k0 (Nat.le_of_ble_eq_true rfl)) dX3_shell_34 ⟨Nat.le_refl _, Nat.le_refl _⟩ rfl ?_
        refine gx_if_ne (tgt := 43) hX dX3_shell_37 (by decide) h (fun h => ?_) (fun h => ?_)
        · refine gx_bipush (v := (-2)) hX dX3_shell_40 (by decide) ?_
          cases h
          exact gx_iret hX rfl dX3_shell_42 rfl ⟨rfl, rfl⟩ (fun _ h => h)
        · refine gx_aload_n hX dX3_shell_43 rfl ?_
          refine gm_getA hX 1 (by decide) (by decide) q1342 rfl dX3_shell_44 ?_
          refine gx_iconst (v := 0) hX dX3_shell_47 (by decide) ?_
          refine gm_ld hX (by decide) dX3_shell_48 h (fun v5 h => ?_)
          refine gx_bipush (v := nI 20) hX dX3_shell_49 (by decide) ?_
          refine gx_icmp_ne (tgt := 57) hX dX3_shell_51 (by decide) h (fun h => ?_) (fun h => ?_)
          · refine gx_bipush (v := (-4)) hX dX3_shell_54 (by decide) ?_
            cases h
            exact gx_iret hX rfl dX3_shell_56 rfl ⟨rfl, rfl⟩ (fun _ h => h)
          · refine gx_aload_n hX dX3_shell_57 rfl ?_
            refine gm_getA hX 1 (by decide) (by decide) q1342 rfl dX3_shell_58 ?_
            refine gx_iconst (v := 0) hX dX3_shell_61 (by decide) ?_
            refine gm_ld hX (by decide) dX3_shell_62 h (fun v6 h => ?_)
            refine gx_istore hX dX3_shell_63 (Nat.le_of_ble_eq_true rfl) gx_c1i (lv' := [some (va_rf (some (gw_mo w))), some (.int (x1)), some (.int (x2)), some (.int (x3)), some (.int (x4)), some (.int (v6))]) rfl ?_
            refine gx_aload_n hX dX3_shell_65 rfl ?_
            refine gm_getA hX 1 (by decide) (by decide) q1342 rfl dX3_shell_66 ?_
            refine gx_bipush (v := nI 10) hX dX3_shell_69 (by decide) ?_
            refine gx_iload hX dX3_shell_71 rfl ?_
            refine gx_iadd hX dX3_shell_73 ?_
            refine gx_iload_n hX dX3_shell_74 rfl ?_
            refine gm_st hX hA (by decide) dX3_shell_75 h (fun σ7 h => ?_)
            refine gx_aload_n hX dX3_shell_76 rfl ?_
            refine gm_getA hX 1 (by decide) (by decide) q1342 rfl dX3_shell_77 ?_
            refine gx_bipush (v := nI 30) hX dX3_shell_80 (by decide) ?_
            refine gx_iload hX dX3_shell_82 rfl ?_
            refine gx_iadd hX dX3_shell_84 ?_
            refine gx_iload_n hX dX3_shell_85 rfl ?_
            refine gm_st hX hA (by decide) dX3_shell_86 h (fun σ8 h => ?_)
            refine gx_aload_n hX dX3_shell_87 rfl ?_
            refine gm_getA hX 1 (by decide) (by decide) q1342 rfl dX3_shell_88 ?_
            refine gx_bipush (v := nI 50) hX dX3_shell_91 (by decide) ?_
            refine gx_iload hX dX3_shell_93 rfl ?_
            refine gx_iadd hX dX3_shell_95 ?_
            refine gx_iload hX dX3_shell_96 rfl ?_
            refine gm_st hX hA (by decide) dX3_shell_98 h (fun σ9 h => ?_)
            refine gx_aload_n hX dX3_shell_99 rfl ?_
            refine gm_getA hX 1 (by decide) (by decide) q1342 rfl dX3_shell_100 ?_
            refine gx_bipush (v := nI 70) hX dX3_shell_103 (by decide) ?_
            refine gx_iload hX dX3_shell_105 rfl ?_
            refine gx_iadd hX dX3_shell_107 ?_
            refine gx_iload_n hX dX3_shell_108 rfl ?_
            refine gm_st hX hA (by decide) dX3_shell_109 h (fun σ10 h => ?_)
            refine gx_aload_n hX dX3_shell_110 rfl ?_
            refine gm_getA hX 1 (by decide) (by decide) q1342 rfl dX3_shell_111 ?_
            refine gx_bipush (v := nI 90) hX dX3_shell_114 (by decide) ?_
            refine gx_iload hX dX3_shell_116 rfl ?_
            refine gx_iadd hX dX3_shell_118 ?_
            refine gx_iconst (v := 0) hX dX3_shell_119 (by decide) ?_
            refine gm_st hX hA (by decide) dX3_shell_120 h (fun σ11 h => ?_)
            refine gx_aload_n hX dX3_shell_121 rfl ?_
            refine gm_getA hX 1 (by decide) (by decide) q1342 rfl dX3_shell_122 ?_
            refine gx_bipush (v := nI 110) hX dX3_shell_125 (by decide) ?_
            refine gx_iload hX dX3_shell_127 rfl ?_
            refine gx_iadd hX dX3_shell_129 ?_
            refine gx_iconst (v := (-1)) hX dX3_shell_130 (by decide) ?_
            refine gm_st hX hA (by decide) dX3_shell_131 h (fun σ12 h => ?_)
            refine gx_aload_n hX dX3_shell_132 rfl ?_
            refine gm_getA hX 1 (by decide) (by decide) q1342 rfl dX3_shell_133 ?_
            refine gx_iconst (v := 0) hX dX3_shell_136 (by decide) ?_
            refine gx_dup2 hX dX3_shell_137 rfl (gx_cat _) ?_
            refine gm_ld hX (by decide) dX3_shell_138 h (fun v13 h => ?_)
            refine gx_iconst (v := 1) hX dX3_shell_139 (by decide) ?_
            refine gx_iadd hX dX3_shell_140 ?_
            refine gm_st hX hA (by decide) dX3_shell_141 h (fun σ14 h => ?_)
            refine gx_iload hX dX3_shell_142 rfl ?_
            cases h
            exact gx_iret hX rfl dX3_shell_144 rfl ⟨rfl, rfl⟩ (fun _ h => h)
abbrev iX3_goesIn : gx_M := (RX3, "goesIn", cX3_goesIn, 3, none)
theorem dsX3_goesIn : gx_ds yX3_goesIn 2 := by decide +kernel
def fX3_goesIn (σ : gm_S) (x1 : Int32) (x2 : Int32) : Option (gm_S) := (gm_wr σ 1 ((nI 166) + (x1)) (0)).bind fun σ1 => (gm_wr σ1 1 ((nI 178) + (x1)) (x2)).bind fun σ2 => (gm_wr σ2 1 ((nI 190) + (x1)) (0)).bind fun σ3 => (gm_wr σ3 1 ((nI 90) + (x2)) (1)).bind fun σ4 => (gm_wr σ4 1 ((nI 110) + (x2)) (x1)).bind fun σ5 => some σ5
set_option maxHeartbeats 4000000 in
theorem tX3_goesIn (w : gw_W) (A : Nat → Prop) (hA : ∀ q, gm_A w q → A q) (l : Launch) (σ : gm_S) (x1 : Int32) (x2 : Int32) {r : gm_S} (h : fX3_goesIn σ x1 x2 = some r) : gx_T (gw_I w A) A l yX3_goesIn iX3_goesIn 1 [va_rf (some (gw_mo w)), .int (x1), .int (x2)] (gm_P w σ) 0 0 (gm_P w r) (.returned (none)) := by
  refine gx_T.of (gw_I.inv w A) (by decide) ⟨rfl, rfl⟩ (gx_kR (gx_kI (gx_kI gx_k0))) (Nat.le_of_ble_eq_true rfl) (fun X hl hAx hX => ?_)
  subst hl
  subst hAx
  show gx_G X (gm_P w σ) 0 0 [some (va_rf (some (gw_mo w))), some (.int (x1)), some (.int (x2))] 0 []
  unfold fX3_goesIn at h
  refine gx_aload_n hX dX3_goesIn_0 rfl ?_
  refine gm_getA hX 1 (by decide) (by decide) q1342 rfl dX3_goesIn_1 ?_
  refine gx_sipush (v := nI 166) hX dX3_goesIn_4 (by decide) ?_
  refine gx_iload_n hX dX3_goesIn_7 rfl ?_
  refine gx_iadd hX dX3_goesIn_8 ?_
  refine gx_iconst (v := 0) hX dX3_goesIn_9 (by decide) ?_
  refine gm_st hX hA (by decide) dX3_goesIn_10 h (fun σ1 h => ?_)
  refine gx_aload_n hX dX3_goesIn_11 rfl ?_
  refine gm_getA hX 1 (by decide) (by decide) q1342 rfl dX3_goesIn_12 ?_
  refine gx_sipush (v := nI 178) hX dX3_goesIn_15 (by decide) ?_
  refine gx_iload_n hX dX3_goesIn_18 rfl ?_
  refine gx_iadd hX dX3_goesIn_19 ?_
  refine gx_iload_n hX dX3_goesIn_20 rfl ?_
  refine gm_st hX hA (by decide) dX3_goesIn_21 h (fun σ2 h => ?_)
  refine gx_aload_n hX dX3_goesIn_22 rfl ?_
  refine gm_getA hX 1 (by decide) (by decide) q1342 rfl dX3_goesIn_23 ?_
  refine gx_sipush (v := nI 190) hX dX3_goesIn_26 (by decide) ?_
  refine gx_iload_n hX dX3_goesIn_29 rfl ?_
  refine gx_iadd hX dX3_goesIn_30 ?_
  refine gx_iconst (v := 0) hX dX3_goesIn_31 (by decide) ?_
  refine gm_st hX hA (by decide) dX3_goesIn_32 h (fun σ3 h => ?_)
  refine gx_aload_n hX dX3_goesIn_33 rfl ?_
  refine gm_getA hX 1 (by decide) (by decide) q1342 rfl dX3_goesIn_34 ?_
  refine gx_bipush (v := nI 90) hX dX3_goesIn_37 (by decide) ?_
  refine gx_iload_n hX dX3_goesIn_39 rfl ?_
  refine gx_iadd hX dX3_goesIn_40 ?_
  refine gx_iconst (v := 1) hX dX3_goesIn_41 (by decide) ?_
  refine gm_st hX hA (by decide) dX3_goesIn_42 h (fun σ4 h => ?_)
  refine gx_aload_n hX dX3_goesIn_43 rfl ?_
  refine gm_getA hX 1 (by decide) (by decide) q1342 rfl dX3_goesIn_44 ?_
  refine gx_bipush (v := nI 110) hX dX3_goesIn_47 (by decide) ?_
  refine gx_iload_n hX dX3_goesIn_49 rfl ?_
  refine gx_iadd hX dX3_goesIn_50 ?_
  refine gx_iload_n hX dX3_goesIn_51 rfl ?_
  refine gm_st hX hA (by decide) dX3_goesIn_52 h (fun σ5 h => ?_)
  cases h
  exact gx_vret hX rfl dX3_goesIn_53 rfl ⟨rfl, rfl⟩ (fun _ h => h)
abbrev iX3_isShell : gx_M := (RX3, "isShell", cX3_isShell, 2, some .boolean)
theorem dsX3_isShell : gx_ds yX3_isShell 1 := by decide +kernel
def fX3_isShell (σ : gm_S) (x1 : Int32) : Option (Int32) := (gm_rd σ 1 (0)).bind fun v1 => (fX3_in  (x1) (0) ((v1) - (1))).bind fun r2 => (gz (r2)).bind fun v3 => some (v3)
set_option maxHeartbeats 4000000 in
theorem tX3_isShell (w : gw_W) (A : Nat → Prop) (hA : ∀ q, gm_A w q → A q) (l : Launch) (σ : gm_S) (x1 : Int32) {r : Int32} (h : fX3_isShell σ x1 = some r) : gx_T (gw_I w A) A l yX3_isShell iX3_isShell 2 [va_rf (some (gw_mo w)), .int (x1)] (gm_P w σ) 0 0 (gm_P w σ) (.returned (some (.int r))) := by
  refine gx_T.of (gw_I.inv w A) (by decide) ⟨rfl, rfl⟩ (gx_kR (gx_kI gx_k0)) (Nat.le_of_ble_eq_true rfl) (fun X hl hAx hX => ?_)
  subst hl
  subst hAx
  show gx_G X (gm_P w σ) 0 0 [some (va_rf (some (gw_mo w))), some (.int (x1))] 0 []
  unfold fX3_isShell at h
  refine gx_iload_n hX dX3_isShell_0 rfl ?_
  refine gx_iconst (v := 0) hX dX3_isShell_1 (by decide) ?_
  refine gx_aload_n hX dX3_isShell_2 rfl ?_
  refine gm_getA hX 1 (by decide) (by decide) q1342 rfl dX3_isShell_3 ?_
  refine gx_iconst (v := 0) hX dX3_isShell_6 (by decide) ?_
  refine gm_ld hX (by decide) dX3_isShell_7 h (fun v1 h => ?_)
  refine gx_iconst (v := 1) hX dX3_isShell_8 (by decide) ?_
  refine gx_isub hX dX3_isShell_9 ?_
  obtain ⟨r2, hr2, h⟩ := gx_bs h
  refine gx_cS (As := [.int (x1), .int (0), .int ((v1) - (1))]) (rest := []) hX (tX3_in w (gx_A X) (gx_l X) (gm_P w σ) (x1) (0) ((v1) - (1)) hr2) (lw_S q1467 q1468 q92 q1469) dsX3_in (by decide) (by decide) rfl (gx_w8 gx_k0 (Nat.le_of_ble_eq_true rfl)) dX3_isShell_10 ⟨Nat.le_refl _, Nat.le_refl _⟩ rfl ?_
  exact gx_zretP hX rfl dX3_isShell_13 h (fun h => by cases h; rfl) ⟨rfl, rfl⟩ (fun h => by cases h; exact fun _ h => h)
abbrev iX3_crab : gx_M := (RX3, "crab", cX3_crab, 5, some .int)
theorem dsX3_crab : gx_ds yX3_crab 3 := by decide +kernel
def fX3_crab_B210   (σ : gm_S) (x4 : Int32) : Option (gm_S × Int32) := (gm_rd σ 1 (1)).bind fun v14 => (gm_wr σ 1 (1) ((v14) + (1))).bind fun σ15 => some (σ15, x4)
set_option maxHeartbeats 4000000 in
theorem tX3_crab_B210 {w : gw_W} {X : gx_X} {r : gm_S × Int32} (hA : ∀ q, gm_A w q → gx_A X q) (hX : gx_O (gw_I w (gx_A X)) X iX3_crab 3 0 0 (gm_P w r.1) (.returned (some (.int r.2))))  {σ : gm_S} {x4 : Int32} (h : fX3_crab_B210 σ x4 = some r) : gx_G X (gm_P w σ) 0 0 [some (va_rf (some (gw_mo w))), none, none, none, some (.int (x4))] 210 [] := by
  unfold fX3_crab_B210 at h
  refine gx_aload_n hX dX3_crab_210 rfl ?_
  refine gm_getA hX 1 (by decide) (by decide) q1342 rfl dX3_crab_211 ?_
  refine gx_iconst (v := 1) hX dX3_crab_214 (by decide) ?_
  refine gx_dup2 hX dX3_crab_215 rfl (gx_cat _) ?_
  refine gm_ld hX (by decide) dX3_crab_216 h (fun v14 h => ?_)
  refine gx_iconst (v := 1) hX dX3_crab_217 (by decide) ?_
  refine gx_iadd hX dX3_crab_218 ?_
  refine gm_st hX hA (by decide) dX3_crab_219 h (fun σ15 h => ?_)
  refine gx_iload hX dX3_crab_220 rfl ?_
  cases h
  exact gx_iret hX rfl dX3_crab_222 rfl ⟨rfl, rfl⟩ (fun _ h => h)
def fX3_crab_B68   (σ : gm_S) (x1 : Int32) (x2 : Int32) (x3 : Int32) : Option (gm_S × Int32) := (gm_rd σ 1 (1)).bind fun v3 => if v3 = nI 12 then some (σ, (-4)) else (gm_rd σ 1 (1)).bind fun v4 => (gm_wr σ 1 ((nI 130) + (v4)) (x2)).bind fun σ5 => (gm_wr σ5 1 ((nI 142) + (v4)) (x1)).bind fun σ6 => (gm_wr σ6 1 ((nI 154) + (v4)) ((-1))).bind fun σ7 => (gm_wr σ7 1 ((nI 166) + (v4)) (1)).bind fun σ8 => (gm_wr σ8 1 ((nI 178) + (v4)) ((-1))).bind fun σ9 => (gm_wr σ9 1 ((nI 190) + (v4)) (0)).bind fun σ10 => (gm_wr σ10 1 ((nI 202) + (v4)) (0)).bind fun σ11 => (gm_wr σ11 1 ((nI 214) + (v4)) ((-1))).bind fun σ12 => (gm_wr σ12 1 ((nI 226) + (v4)) (0)).bind fun σ13 => if x3 = (-1) then fX3_crab_B210 σ13 (v4) else (fX3_goesIn (σ13) (v4) (x3)).bind fun r16 => fX3_crab_B210 r16 (v4)
set_option maxHeartbeats 4000000 in
theorem tX3_crab_B68 {w : gw_W} {X : gx_X} {r : gm_S × Int32} (hA : ∀ q, gm_A w q → gx_A X q) (hX : gx_O (gw_I w (gx_A X)) X iX3_crab 3 0 0 (gm_P w r.1) (.returned (some (.int r.2))))  {σ : gm_S} {x1 : Int32} {x2 : Int32} {x3 : Int32} (h : fX3_crab_B68 σ x1 x2 x3 = some r) : gx_G X (gm_P w σ) 0 0 [some (va_rf (some (gw_mo w))), some (.int (x1)), some (.int (x2)), some (.int (x3)), none] 68 [] := by
  unfold fX3_crab_B68 at h
  refine gx_aload_n hX dX3_crab_68 rfl ?_
  refine gm_getA hX 1 (by decide) (by decide) q1342 rfl dX3_crab_69 ?_
  refine gx_iconst (v := 1) hX dX3_crab_72 (by decide) ?_
  refine gm_ld hX (by decide) dX3_crab_73 h (fun v3 h => ?_)
  refine gx_bipush (v := nI 12) hX dX3_crab_74 (by decide) ?_
  refine gx_icmp_ne (tgt := 82) hX dX3_crab_76 (by decide) h (fun h => ?_) (fun h => ?_)
  · refine gx_bipush (v := (-4)) hX dX3_crab_79 (by decide) ?_
    cases h
    exact gx_iret hX rfl dX3_crab_81 rfl ⟨rfl, rfl⟩ (fun _ h => h)
  · refine gx_aload_n hX dX3_crab_82 rfl ?_
    refine gm_getA hX 1 (by decide) (by decide) q1342 rfl dX3_crab_83 ?_
    refine gx_iconst (v := 1) hX dX3_crab_86 (by decide) ?_
    refine gm_ld hX (by decide) dX3_crab_87 h (fun v4 h => ?_)
    refine gx_istore hX dX3_crab_88 (Nat.le_of_ble_eq_true rfl) gx_c1i (lv' := [some (va_rf (some (gw_mo w))), some (.int (x1)), some (.int (x2)), some (.int (x3)), some (.int (v4))]) rfl ?_
    refine gx_aload_n hX dX3_crab_90 rfl ?_
    refine gm_getA hX 1 (by decide) (by decide) q1342 rfl dX3_crab_91 ?_
    refine gx_sipush (v := nI 130) hX dX3_crab_94 (by decide) ?_
    refine gx_iload hX dX3_crab_97 rfl ?_
    refine gx_iadd hX dX3_crab_99 ?_
    refine gx_iload_n hX dX3_crab_100 rfl ?_
    refine gm_st hX hA (by decide) dX3_crab_101 h (fun σ5 h => ?_)
    refine gx_aload_n hX dX3_crab_102 rfl ?_
    refine gm_getA hX 1 (by decide) (by decide) q1342 rfl dX3_crab_103 ?_
    refine gx_sipush (v := nI 142) hX dX3_crab_106 (by decide) ?_
    refine gx_iload hX dX3_crab_109 rfl ?_
    refine gx_iadd hX dX3_crab_111 ?_
    refine gx_iload_n hX dX3_crab_112 rfl ?_
    refine gm_st hX hA (by decide) dX3_crab_113 h (fun σ6 h => ?_)
    refine gx_aload_n hX dX3_crab_114 rfl ?_
    refine gm_getA hX 1 (by decide) (by decide) q1342 rfl dX3_crab_115 ?_
    refine gx_sipush (v := nI 154) hX dX3_crab_118 (by decide) ?_
    refine gx_iload hX dX3_crab_121 rfl ?_
    refine gx_iadd hX dX3_crab_123 ?_
    refine gx_iconst (v := (-1)) hX dX3_crab_124 (by decide) ?_
    refine gm_st hX hA (by decide) dX3_crab_125 h (fun σ7 h => ?_)
    refine gx_aload_n hX dX3_crab_126 rfl ?_
    refine gm_getA hX 1 (by decide) (by decide) q1342 rfl dX3_crab_127 ?_
    refine gx_sipush (v := nI 166) hX dX3_crab_130 (by decide) ?_
    refine gx_iload hX dX3_crab_133 rfl ?_
    refine gx_iadd hX dX3_crab_135 ?_
    refine gx_iconst (v := 1) hX dX3_crab_136 (by decide) ?_
    refine gm_st hX hA (by decide) dX3_crab_137 h (fun σ8 h => ?_)
    refine gx_aload_n hX dX3_crab_138 rfl ?_
    refine gm_getA hX 1 (by decide) (by decide) q1342 rfl dX3_crab_139 ?_
    refine gx_sipush (v := nI 178) hX dX3_crab_142 (by decide) ?_
    refine gx_iload hX dX3_crab_145 rfl ?_
    refine gx_iadd hX dX3_crab_147 ?_
    refine gx_iconst (v := (-1)) hX dX3_crab_148 (by decide) ?_
    refine gm_st hX hA (by decide) dX3_crab_149 h (fun σ9 h => ?_)
    refine gx_aload_n hX dX3_crab_150 rfl ?_
    refine gm_getA hX 1 (by decide) (by decide) q1342 rfl dX3_crab_151 ?_
    refine gx_sipush (v := nI 190) hX dX3_crab_154 (by decide) ?_
    refine gx_iload hX dX3_crab_157 rfl ?_
    refine gx_iadd hX dX3_crab_159 ?_
    refine gx_iconst (v := 0) hX dX3_crab_160 (by decide) ?_
    refine gm_st hX hA (by decide) dX3_crab_161 h (fun σ10 h => ?_)
    refine gx_aload_n hX dX3_crab_162 rfl ?_
    refine gm_getA hX 1 (by decide) (by decide) q1342 rfl dX3_crab_163 ?_
    refine gx_sipush (v := nI 202) hX dX3_crab_166 (by decide) ?_
    refine gx_iload hX dX3_crab_169 rfl ?_
    refine gx_iadd hX dX3_crab_171 ?_
    refine gx_iconst (v := 0) hX dX3_crab_172 (by decide) ?_
    refine gm_st hX hA (by decide) dX3_crab_173 h (fun σ11 h => ?_)
    refine gx_aload_n hX dX3_crab_174 rfl ?_
    refine gm_getA hX 1 (by decide) (by decide) q1342 rfl dX3_crab_175 ?_
    refine gx_sipush (v := nI 214) hX dX3_crab_178 (by decide) ?_
    refine gx_iload hX dX3_crab_181 rfl ?_
    refine gx_iadd hX dX3_crab_183 ?_
    refine gx_iconst (v := (-1)) hX dX3_crab_184 (by decide) ?_
    refine gm_st hX hA (by decide) dX3_crab_185 h (fun σ12 h => ?_)
    refine gx_aload_n hX dX3_crab_186 rfl ?_
    refine gm_getA hX 1 (by decide) (by decide) q1342 rfl dX3_crab_187 ?_
    refine gx_sipush (v := nI 226) hX dX3_crab_190 (by decide) ?_
    refine gx_iload hX dX3_crab_193 rfl ?_
    refine gx_iadd hX dX3_crab_195 ?_
    refine gx_iconst (v := 0) hX dX3_crab_196 (by decide) ?_
    refine gm_st hX hA (by decide) dX3_crab_197 h (fun σ13 h => ?_)
    refine gx_iload_n hX dX3_crab_198 rfl ?_
    refine gx_iconst (v := (-1)) hX dX3_crab_199 (by decide) ?_
    refine gx_icmp_eq (tgt := 210) hX dX3_crab_200 (by decide) h (fun h => ?_) (fun h => ?_)
    · refine gx_sub hX (lv' := [some (va_rf (some (gw_mo w))), none, none, none, some (.int (v4))]) ⟨Or.inr rfl, ⟨Or.inl rfl, ⟨Or.inl rfl, ⟨Or.inl rfl, ⟨Or.inr rfl, trivial⟩⟩⟩⟩⟩ ?_
      exact tX3_crab_B210 hA hX  h
    · refine gx_aload_n hX dX3_crab_203 rfl ?_
      refine gx_iload hX dX3_crab_204 rfl ?_
      refine gx_iload_n hX dX3_crab_206 rfl ?_
      obtain ⟨r16, hr16, h⟩ := gx_bs h
      refine gx_cV (As := [.int (v4), .int (x3)]) (rest := []) (b := gw_mo w) hX (tX3_goesIn w _ hA (gx_l X) (σ13) (v4) (x3) hr16) (lw_V q1478 q1480 qs34 q92 q1481) ⟨rfl, dsX3_goesIn⟩ (by decide) (by decide) (gm_rc hX) rfl (gx_w8 gx_k0 (Nat.le_of_ble_eq_true rfl)) dX3_crab_207 ⟨Nat.le_refl _, Nat.le_refl _⟩ rfl ?_
      refine gx_sub hX (lv' := [some (va_rf (some (gw_mo w))), none, none, none, some (.int (v4))]) ⟨Or.inr rfl, ⟨Or.inl rfl, ⟨Or.inl rfl, ⟨Or.inl rfl, ⟨Or.inr rfl, trivial⟩⟩⟩⟩⟩ ?_
      exact tX3_crab_B210 hA hX  h
def fX3_crab_B22   (σ : gm_S) (x1 : Int32) (x2 : Int32) (x3 : Int32) : Option (gm_S × Int32) := (fX3_in  (x2) (1) (nI 40)).bind fun r2 => if r2 = 0 then some (σ, (-2)) else if x3 = (-1) then fX3_crab_B68 σ (x1) (x2) (x3) else (gm_rd σ 1 ((nI 90) + (x3))).bind fun v17 => if v17 = 0 then (gm_rd σ 1 ((nI 70) + (x3))).bind fun v18 => if v18 = x1 then fX3_crab_B68 σ (x1) (x2) (x3) else some (σ, (-3)) else some (σ, (-3))
set_option maxHeartbeats 4000000 in
theorem tX3_crab_B22 {w : gw_W} {X : gx_X} {r : gm_S × Int32} (hA : ∀ q, gm_A w q → gx_A X q) (hX : gx_O (gw_I w (gx_A X)) X iX3_crab 3 0 0 (gm_P w r.1) (.returned (some (.int r.2))))  {σ : gm_S} {x1 : Int32} {x2 : Int32} {x3 : Int32} (h : fX3_crab_B22 σ x1 x2 x3 = some r) : gx_G X (gm_P w σ) 0 0 [some (va_rf (some (gw_mo w))), some (.int (x1)), some (.int (x2)), some (.int (x3)), none] 22 [] := by
  unfold fX3_crab_B22 at h
  refine gx_iload_n hX dX3_crab_22 rfl ?_
  refine gx_iconst (v := 1) hX dX3_crab_23 (by decide) ?_
  refine gx_bipush (v := nI 40) hX dX3_crab_24 (by decide) ?_
  obtain ⟨r2, hr2, h⟩ := gx_bs h
  refine gx_cS (As := [.int (x2), .int (1), .int (nI 40)]) (rest := []) hX (tX3_in w (gx_A X) (gx_l X) (gm_P w σ) (x2) (1) (nI 40) hr2) (lw_S q1467 q1468 q92 q1469) dsX3_in (by decide) (by decide) rfl (gx_w8 gx_k0 (Nat.le_of_ble_eq_true rfl)) dX3_crab_26 ⟨Nat.le_refl _, Nat.le_refl _⟩ rfl ?_
  refine gx_if_ne (tgt := 35) hX dX3_crab_29 (by decide) h (fun h => ?_) (fun h => ?_)
  · refine gx_bipush (v := (-2)) hX dX3_crab_32 (by decide) ?_
    cases h
    exact gx_iret hX rfl dX3_crab_34 rfl ⟨rfl, rfl⟩ (fun _ h => h)
  · refine gx_iload_n hX dX3_crab_35 rfl ?_
    refine gx_iconst (v := (-1)) hX dX3_crab_36 (by decide) ?_
    refine gx_icmp_eq (tgt := 68) hX dX3_crab_37 (by decide) h (fun h => ?_) (fun h => ?_)
    · exact tX3_crab_B68 hA hX  h
    · refine gx_aload_n hX dX3_crab_40 rfl ?_
      refine gm_getA hX 1 (by decide) (by decide) q1342 rfl dX3_crab_41 ?_
      refine gx_bipush (v := nI 90) hX dX3_crab_44 (by decide) ?_
      refine gx_iload_n hX dX3_crab_46 rfl ?_
      refine gx_iadd hX dX3_crab_47 ?_
      refine gm_ld hX (by decide) dX3_crab_48 h (fun v17 h => ?_)
      refine gx_if_ne (tgt := 65) hX dX3_crab_49 (by decide) h (fun h => ?_) (fun h => ?_)
      · refine gx_aload_n hX dX3_crab_52 rfl ?_
        refine gm_getA hX 1 (by decide) (by decide) q1342 rfl dX3_crab_53 ?_
        refine gx_bipush (v := nI 70) hX dX3_crab_56 (by decide) ?_
        refine gx_iload_n hX dX3_crab_58 rfl ?_
        refine gx_iadd hX dX3_crab_59 ?_
        refine gm_ld hX (by decide) dX3_crab_60 h (fun v18 h => ?_)
        refine gx_iload_n hX dX3_crab_61 rfl ?_
        refine gx_icmp_eq (tgt := 68) hX dX3_crab_62 (by decide) h (fun h => ?_) (fun h => ?_)
        · exact tX3_crab_B68 hA hX  h
        · refine gx_bipush (v := (-3)) hX dX3_crab_65 (by decide) ?_
          cases h
          exact gx_iret hX rfl dX3_crab_67 rfl ⟨rfl, rfl⟩ (fun _ h => h)
      · refine gx_bipush (v := (-3)) hX dX3_crab_65 (by decide) ?_
        cases h
        exact gx_iret hX rfl dX3_crab_67 rfl ⟨rfl, rfl⟩ (fun _ h => h)
def fX3_crab (σ : gm_S) (x1 : Int32) (x2 : Int32) (x3 : Int32) : Option (gm_S × Int32) := (fX3_isCell  (x1)).bind fun r1 => if r1 = 0 then some (σ, (-1)) else if x3 = (-1) then fX3_crab_B22 σ (x1) (x2) (x3) else (fX3_isShell (σ) (x3)).bind fun r19 => if r19 = 0 then some (σ, (-1)) else fX3_crab_B22 σ (x1) (x2) (x3)
set_option maxHeartbeats 4000000 in
theorem tX3_crab (w : gw_W) (A : Nat → Prop) (hA : ∀ q, gm_A w q → A q) (l : Launch) (σ : gm_S) (x1 : Int32) (x2 : Int32) (x3 : Int32) {r : gm_S × Int32} (h : fX3_crab σ x1 x2 x3 = some r) : gx_T (gw_I w A) A l yX3_crab iX3_crab 3 [va_rf (some (gw_mo w)), .int (x1), .int (x2), .int (x3)] (gm_P w σ) 0 0 (gm_P w r.1) (.returned (some (.int r.2))) := by
  refine gx_T.of (gw_I.inv w A) (by decide) ⟨rfl, rfl⟩ (gx_kR (gx_kI (gx_kI (gx_kI gx_k0)))) (Nat.le_of_ble_eq_true rfl) (fun X hl hAx hX => ?_)
  subst hl
  subst hAx
  show gx_G X (gm_P w σ) 0 0 [some (va_rf (some (gw_mo w))), some (.int (x1)), some (.int (x2)), some (.int (x3)), none] 0 []
  unfold fX3_crab at h
  refine gx_iload_n hX dX3_crab_0 rfl ?_
  obtain ⟨r1, hr1, h⟩ := gx_bs h
  refine gx_cS (As := [.int (x1)]) (rest := []) hX (tX3_isCell w (gx_A X) (gx_l X) (gm_P w σ) (x1) hr1) (lw_S q1464 q1465 q92 q1466) dsX3_isCell (by decide) (by decide) rfl (gx_w8 gx_k0 (Nat.le_of_ble_eq_true rfl)) dX3_crab_1 ⟨Nat.le_refl _, Nat.le_refl _⟩ rfl ?_
  refine gx_if_eq (tgt := 20) hX dX3_crab_4 (by decide) h (fun h => ?_) (fun h => ?_)
  · refine gx_iconst (v := (-1)) hX dX3_crab_20 (by decide) ?_
    cases h
    exact gx_iret hX rfl dX3_crab_21 rfl ⟨rfl, rfl⟩ (fun _ h => h)
  · refine gx_iload_n hX dX3_crab_7 rfl ?_
    refine gx_iconst (v := (-1)) hX dX3_crab_8 (by decide) ?_
    refine gx_icmp_eq (tgt := 22) hX dX3_crab_9 (by decide) h (fun h => ?_) (fun h => ?_)
    · exact tX3_crab_B22 hA hX  h
    · refine gx_aload_n hX dX3_crab_12 rfl ?_
      refine gx_iload_n hX dX3_crab_13 rfl ?_
      obtain ⟨r19, hr19, h⟩ := gx_bs h
      refine gx_cV (As := [.int (x3)]) (rest := []) (b := gw_mo w) hX (tX3_isShell w _ hA (gx_l X) (σ) (x3) hr19) (lw_V q1474 q1476 qs33 q92 q1477) ⟨rfl, dsX3_isShell⟩ (by decide) (by decide) (gm_rc hX) rfl (gx_w8 gx_k0 (Nat.le_of_ble_eq_true rfl)) dX3_crab_14 ⟨Nat.le_refl _, Nat.le_refl _⟩ rfl ?_
      refine gx_if_ne (tgt := 22) hX dX3_crab_17 (by decide) h (fun h => ?_) (fun h => ?_)
      · refine gx_iconst (v := (-1)) hX dX3_crab_20 (by decide) ?_
        cases h
        exact gx_iret hX rfl dX3_crab_21 rfl ⟨rfl, rfl⟩ (fun _ h => h)
      · exact tX3_crab_B22 hA hX  h
abbrev iX3_isCrab : gx_M := (RX3, "isCrab", cX3_isCrab, 2, some .boolean)
theorem dsX3_isCrab : gx_ds yX3_isCrab 1 := by decide +kernel
def fX3_isCrab (σ : gm_S) (x1 : Int32) : Option (Int32) := (gm_rd σ 1 (1)).bind fun v1 => (fX3_in  (x1) (0) ((v1) - (1))).bind fun r2 => (gz (r2)).bind fun v3 => some (v3)
set_option maxHeartbeats 4000000 in
theorem tX3_isCrab (w : gw_W) (A : Nat → Prop) (hA : ∀ q, gm_A w q → A q) (l : Launch) (σ : gm_S) (x1 : Int32) {r : Int32} (h : fX3_isCrab σ x1 = some r) : gx_T (gw_I w A) A l yX3_isCrab iX3_isCrab 2 [va_rf (some (gw_mo w)), .int (x1)] (gm_P w σ) 0 0 (gm_P w σ) (.returned (some (.int r))) := by
  refine gx_T.of (gw_I.inv w A) (by decide) ⟨rfl, rfl⟩ (gx_kR (gx_kI gx_k0)) (Nat.le_of_ble_eq_true rfl) (fun X hl hAx hX => ?_)
  subst hl
  subst hAx
  show gx_G X (gm_P w σ) 0 0 [some (va_rf (some (gw_mo w))), some (.int (x1))] 0 []
  unfold fX3_isCrab at h
  refine gx_iload_n hX dX3_isCrab_0 rfl ?_
  refine gx_iconst (v := 0) hX dX3_isCrab_1 (by decide) ?_
  refine gx_aload_n hX dX3_isCrab_2 rfl ?_
  refine gm_getA hX 1 (by decide) (by decide) q1342 rfl dX3_isCrab_3 ?_
  refine gx_iconst (v := 1) hX dX3_isCrab_6 (by decide) ?_
  refine gm_ld hX (by decide) dX3_isCrab_7 h (fun v1 h => ?_)
  refine gx_iconst (v := 1) hX dX3_isCrab_8 (by decide) ?_
  refine gx_isub hX dX3_isCrab_9 ?_
  obtain ⟨r2, hr2, h⟩ := gx_bs h
  refine gx_cS (As := [.int (x1), .int (0), .int ((v1) - (1))]) (rest := []) hX (tX3_in w (gx_A X) (gx_l X) (gm_P w σ) (x1) (0) ((v1) - (1)) hr2) (lw_S q1467 q1468 q92 q1469) dsX3_in (by decide) (by decide) rfl (gx_w8 gx_k0 (Nat.le_of_ble_eq_true rfl)) dX3_isCrab_10 ⟨Nat.le_refl _, Nat.le_refl _⟩ rfl ?_
  exact gx_zretP hX rfl dX3_isCrab_13 h (fun h => by cases h; rfl) ⟨rfl, rfl⟩ (fun h => by cases h; exact fun _ h => h)
abbrev iX3_isHabit : gx_M := (RX3, "isHabit", cX3_isHabit, 2, some .boolean)
theorem dsX3_isHabit : gx_ds yX3_isHabit 1 := by decide +kernel
def fX3_isHabit (σ : gm_S) (x1 : Int32) : Option (Int32) := (fX3_in  (x1) (0) ((gs σ 5) - (1))).bind fun r1 => (gz (r1)).bind fun v2 => some (v2)
set_option maxHeartbeats 4000000 in
theorem tX3_isHabit (w : gw_W) (A : Nat → Prop) (hA : ∀ q, gm_A w q → A q) (l : Launch) (σ : gm_S) (x1 : Int32) {r : Int32} (h : fX3_isHabit σ x1 = some r) : gx_T (gw_I w A) A l yX3_isHabit iX3_isHabit 2 [va_rf (some (gw_mo w)), .int (x1)] (gm_P w σ) 0 0 (gm_P w σ) (.returned (some (.int r))) := by
  refine gx_T.of (gw_I.inv w A) (by decide) ⟨rfl, rfl⟩ (gx_kR (gx_kI gx_k0)) (Nat.le_of_ble_eq_true rfl) (fun X hl hAx hX => ?_)
  subst hl
  subst hAx
  show gx_G X (gm_P w σ) 0 0 [some (va_rf (some (gw_mo w))), some (.int (x1))] 0 []
  unfold fX3_isHabit at h
  refine gx_iload_n hX dX3_isHabit_0 rfl ?_
  refine gx_iconst (v := 0) hX dX3_isHabit_1 (by decide) ?_
  refine gx_aload_n hX dX3_isHabit_2 rfl ?_
  refine gm_getI hX 5 (by decide) rfl q1346 rfl dX3_isHabit_3 ?_
  refine gx_iconst (v := 1) hX dX3_isHabit_6 (by decide) ?_
  refine gx_isub hX dX3_isHabit_7 ?_
  obtain ⟨r1, hr1, h⟩ := gx_bs h
  refine gx_cS (As := [.int (x1), .int (0), .int ((gs σ 5) - (1))]) (rest := []) hX (tX3_in w (gx_A X) (gx_l X) (gm_P w σ) (x1) (0) ((gs σ 5) - (1)) hr1) (lw_S q1467 q1468 q92 q1469) dsX3_in (by decide) (by decide) rfl (gx_w8 gx_k0 (Nat.le_of_ble_eq_true rfl)) dX3_isHabit_8 ⟨Nat.le_refl _, Nat.le_refl _⟩ rfl ?_
  exact gx_zretP hX rfl dX3_isHabit_11 h (fun h => by cases h; rfl) ⟨rfl, rfl⟩ (fun h => by cases h; exact fun _ h => h)
abbrev iX3_habit : gx_M := (RX3, "habit", cX3_habit, 4, some .int)
theorem dsX3_habit : gx_ds yX3_habit 2 := by decide +kernel
def fX3_habit_B23   (σ : gm_S) (x1 : Int32) (x2 : Int32) : Option (gm_S × Int32) := (gm_rd σ 1 ((nI 154) + (x1))).bind fun v2 => (gm_wr σ 1 ((nI 154) + (x1)) (x2)).bind fun σ3 => if v2 = (-1) then some (σ3, (-5)) else some (σ3, v2)
set_option maxHeartbeats 4000000 in
theorem tX3_habit_B23 {w : gw_W} {X : gx_X} {r : gm_S × Int32} (hA : ∀ q, gm_A w q → gx_A X q) (hX : gx_O (gw_I w (gx_A X)) X iX3_habit 3 0 0 (gm_P w r.1) (.returned (some (.int r.2))))  {σ : gm_S} {x1 : Int32} {x2 : Int32} (h : fX3_habit_B23 σ x1 x2 = some r) : gx_G X (gm_P w σ) 0 0 [some (va_rf (some (gw_mo w))), some (.int (x1)), some (.int (x2)), none] 23 [] := by
  unfold fX3_habit_B23 at h
  refine gx_aload_n hX dX3_habit_23 rfl ?_
  refine gm_getA hX 1 (by decide) (by decide) q1342 rfl dX3_habit_24 ?_
  refine gx_sipush (v := nI 154) hX dX3_habit_27 (by decide) ?_
  refine gx_iload_n hX dX3_habit_30 rfl ?_
  refine gx_iadd hX dX3_habit_31 ?_
  refine gm_ld hX (by decide) dX3_habit_32 h (fun v2 h => ?_)
  refine gx_istore_n hX dX3_habit_33 (Nat.le_of_ble_eq_true rfl) gx_c1i (lv' := [some (va_rf (some (gw_mo w))), some (.int (x1)), some (.int (x2)), some (.int (v2))]) rfl ?_
  refine gx_aload_n hX dX3_habit_34 rfl ?_
  refine gm_getA hX 1 (by decide) (by decide) q1342 rfl dX3_habit_35 ?_
  refine gx_sipush (v := nI 154) hX dX3_habit_38 (by decide) ?_
  refine gx_iload_n hX dX3_habit_41 rfl ?_
  refine gx_iadd hX dX3_habit_42 ?_
  refine gx_iload_n hX dX3_habit_43 rfl ?_
  refine gm_st hX hA (by decide) dX3_habit_44 h (fun σ3 h => ?_)
  refine gx_iload_n hX dX3_habit_45 rfl ?_
  refine gx_iconst (v := (-1)) hX dX3_habit_46 (by decide) ?_
  refine gx_icmp_ne (tgt := 55) hX dX3_habit_47 (by decide) h (fun h => ?_) (fun h => ?_)
  · refine gx_bipush (v := (-5)) hX dX3_habit_50 (by decide) ?_
    refine gx_goto (tgt := 56) hX dX3_habit_52 (by decide) ?_
    cases h
    exact gx_iret hX rfl dX3_habit_56 rfl ⟨rfl, rfl⟩ (fun _ h => h)
  · refine gx_iload_n hX dX3_habit_55 rfl ?_
    cases h
    exact gx_iret hX rfl dX3_habit_56 rfl ⟨rfl, rfl⟩ (fun _ h => h)
def fX3_habit (σ : gm_S) (x1 : Int32) (x2 : Int32) : Option (gm_S × Int32) := (fX3_isCrab (σ) (x1)).bind fun r1 => if r1 = 0 then some (σ, (-1)) else if x2 = (-1) then fX3_habit_B23 σ (x1) (x2) else (fX3_isHabit (σ) (x2)).bind fun r4 => if r4 = 0 then some (σ, (-1)) else fX3_habit_B23 σ (x1) (x2)
set_option maxHeartbeats 4000000 in
theorem tX3_habit (w : gw_W) (A : Nat → Prop) (hA : ∀ q, gm_A w q → A q) (l : Launch) (σ : gm_S) (x1 : Int32) (x2 : Int32) {r : gm_S × Int32} (h : fX3_habit σ x1 x2 = some r) : gx_T (gw_I w A) A l yX3_habit iX3_habit 3 [va_rf (some (gw_mo w)), .int (x1), .int (x2)] (gm_P w σ) 0 0 (gm_P w r.1) (.returned (some (.int r.2))) := by
  refine gx_T.of (gw_I.inv w A) (by decide) ⟨rfl, rfl⟩ (gx_kR (gx_kI (gx_kI gx_k0))) (Nat.le_of_ble_eq_true rfl) (fun X hl hAx hX => ?_)
  subst hl
  subst hAx
  show gx_G X (gm_P w σ) 0 0 [some (va_rf (some (gw_mo w))), some (.int (x1)), some (.int (x2)), none] 0 []
  unfold fX3_habit at h
  refine gx_aload_n hX dX3_habit_0 rfl ?_
  refine gx_iload_n hX dX3_habit_1 rfl ?_
  obtain ⟨r1, hr1, h⟩ := gx_bs h
  refine gx_cV (As := [.int (x1)]) (rest := []) (b := gw_mo w) hX (tX3_isCrab w _ hA (gx_l X) (σ) (x1) hr1) (lw_V q1486 q1488 qs35 q92 q1489) ⟨rfl, dsX3_isCrab⟩ (by decide) (by decide) (gm_rc hX) rfl (gx_w8 gx_k0 (Nat.le_of_ble_eq_true rfl)) dX3_habit_2 ⟨Nat.le_refl _, Nat.le_refl _⟩ rfl ?_
  refine gx_if_eq (tgt := 21) hX dX3_habit_5 (by decide) h (fun h => ?_) (fun h => ?_)
  · refine gx_iconst (v := (-1)) hX dX3_habit_21 (by decide) ?_
    cases h
    exact gx_iret hX rfl dX3_habit_22 rfl ⟨rfl, rfl⟩ (fun _ h => h)
  · refine gx_iload_n hX dX3_habit_8 rfl ?_
    refine gx_iconst (v := (-1)) hX dX3_habit_9 (by decide) ?_
    refine gx_icmp_eq (tgt := 23) hX dX3_habit_10 (by decide) h (fun h => ?_) (fun h => ?_)
    · exact tX3_habit_B23 hA hX  h
    · refine gx_aload_n hX dX3_habit_13 rfl ?_
      refine gx_iload_n hX dX3_habit_14 rfl ?_
      obtain ⟨r4, hr4, h⟩ := gx_bs h
      refine gx_cV (As := [.int (x2)]) (rest := []) (b := gw_mo w) hX (tX3_isHabit w _ hA (gx_l X) (σ) (x2) hr4) (lw_V q1490 q1492 qs36 q92 q1493) ⟨rfl, dsX3_isHabit⟩ (by decide) (by decide) (gm_rc hX) rfl (gx_w8 gx_k0 (Nat.le_of_ble_eq_true rfl)) dX3_habit_15 ⟨Nat.le_refl _, Nat.le_refl _⟩ rfl ?_
      refine gx_if_ne (tgt := 23) hX dX3_habit_18 (by decide) h (fun h => ?_) (fun h => ?_)
      · refine gx_iconst (v := (-1)) hX dX3_habit_21 (by decide) ?_
        cases h
        exact gx_iret hX rfl dX3_habit_22 rfl ⟨rfl, rfl⟩ (fun _ h => h)
      · exact tX3_habit_B23 hA hX  h
abbrev iX3_walk : gx_M := (RX3, "walk", cX3_walk, 4, some .int)
theorem dsX3_walk : gx_ds yX3_walk 2 := by decide +kernel
def fX3_walk (σ : gm_S) (x1 : Int32) (x2 : Int32) : Option (gm_S × Int32) := (fX3_isCrab (σ) (x1)).bind fun r1 => if r1 = 0 then some (σ, (-1)) else (fX3_isCell  (x2)).bind fun r2 => if r2 = 0 then some (σ, (-1)) else (gm_rd σ 1 ((nI 166) + (x1))).bind fun v3 => if v3 = 2 then some (σ, (-3)) else (gm_rd σ 1 ((nI 142) + (x1))).bind fun v4 => (gm_wr σ 1 ((nI 142) + (x1)) (x2)).bind fun σ5 => (gm_rd σ5 1 ((nI 178) + (x1))).bind fun v6 => if v6 = (-1) then some (σ5, v4) else (gm_rd σ5 1 ((nI 178) + (x1))).bind fun v7 => (gm_wr σ5 1 ((nI 70) + (v7)) (x2)).bind fun σ8 => some (σ8, v4)
set_option maxHeartbeats 4000000 in
theorem tX3_walk (w : gw_W) (A : Nat → Prop) (hA : ∀ q, gm_A w q → A q) (l : Launch) (σ : gm_S) (x1 : Int32) (x2 : Int32) {r : gm_S × Int32} (h : fX3_walk σ x1 x2 = some r) : gx_T (gw_I w A) A l yX3_walk iX3_walk 3 [va_rf (some (gw_mo w)), .int (x1), .int (x2)] (gm_P w σ) 0 0 (gm_P w r.1) (.returned (some (.int r.2))) := by
  refine gx_T.of (gw_I.inv w A) (by decide) ⟨rfl, rfl⟩ (gx_kR (gx_kI (gx_kI gx_k0))) (Nat.le_of_ble_eq_true rfl) (fun X hl hAx hX => ?_)
  subst hl
  subst hAx
  show gx_G X (gm_P w σ) 0 0 [some (va_rf (some (gw_mo w))), some (.int (x1)), some (.int (x2)), none] 0 []
  unfold fX3_walk at h
  refine gx_aload_n hX dX3_walk_0 rfl ?_
  refine gx_iload_n hX dX3_walk_1 rfl ?_
  obtain ⟨r1, hr1, h⟩ := gx_bs h
  refine gx_cV (As := [.int (x1)]) (rest := []) (b := gw_mo w) hX (tX3_isCrab w _ hA (gx_l X) (σ) (x1) hr1) (lw_V q1486 q1488 qs35 q92 q1489) ⟨rfl, dsX3_isCrab⟩ (by decide) (by decide) (gm_rc hX) rfl (gx_w8 gx_k0 (Nat.le_of_ble_eq_true rfl)) dX3_walk_2 ⟨Nat.le_refl _, Nat.le_refl _⟩ rfl ?_
  refine gx_if_eq (tgt := 15) hX dX3_walk_5 (by decide) h (fun h => ?_) (fun h => ?_)
  · refine gx_iconst (v := (-1)) hX dX3_walk_15 (by decide) ?_
    cases h
    exact gx_iret hX rfl dX3_walk_16 rfl ⟨rfl, rfl⟩ (fun _ h => h)
  · refine gx_iload_n hX dX3_walk_8 rfl ?_
    obtain ⟨r2, hr2, h⟩ := gx_bs h
    refine gx_cS (As := [.int (x2)]) (rest := []) hX (tX3_isCell w (gx_A X) (gx_l X) (gm_P w σ) (x2) hr2) (lw_S q1464 q1465 q92 q1466) dsX3_isCell (by decide) (by decide) rfl (gx_w8 gx_k0 (Nat.le_of_ble_eq_true rfl)) dX3_walk_9 ⟨Nat.le_refl _, Nat.le_refl _⟩ rfl ?_
    refine gx_if_ne (tgt := 17) hX dX3_walk_12 (by decide) h (fun h => ?_) (fun h => ?_)
    · refine gx_iconst (v := (-1)) hX dX3_walk_15 (by decide) ?_
      cases h
      exact gx_iret hX rfl dX3_walk_16 rfl ⟨rfl, rfl⟩ (fun _ h => h)
    · refine gx_aload_n hX dX3_walk_17 rfl ?_
      refine gm_getA hX 1 (by decide) (by decide) q1342 rfl dX3_walk_18 ?_
      refine gx_sipush (v := nI 166) hX dX3_walk_21 (by decide) ?_
      refine gx_iload_n hX dX3_walk_24 rfl ?_
      refine gx_iadd hX dX3_walk_25 ?_
      refine gm_ld hX (by decide) dX3_walk_26 h (fun v3 h => ?_)
      refine gx_iconst (v := 2) hX dX3_walk_27 (by decide) ?_
      refine gx_icmp_ne (tgt := 34) hX dX3_walk_28 (by decide) h (fun h => ?_) (fun h => ?_)
      · refine gx_bipush (v := (-3)) hX dX3_walk_31 (by decide) ?_
        cases h
        exact gx_iret hX rfl dX3_walk_33 rfl ⟨rfl, rfl⟩ (fun _ h => h)
      · refine gx_aload_n hX dX3_walk_34 rfl ?_
        refine gm_getA hX 1 (by decide) (by decide) q1342 rfl dX3_walk_35 ?_
        refine gx_sipush (v := nI 142) hX dX3_walk_38 (by decide) ?_
        refine gx_iload_n hX dX3_walk_41 rfl ?_
        refine gx_iadd hX dX3_walk_42 ?_
        refine gm_ld hX (by decide) dX3_walk_43 h (fun v4 h => ?_)
        refine gx_istore_n hX dX3_walk_44 (Nat.le_of_ble_eq_true rfl) gx_c1i (lv' := [some (va_rf (some (gw_mo w))), some (.int (x1)), some (.int (x2)), some (.int (v4))]) rfl ?_
        refine gx_aload_n hX dX3_walk_45 rfl ?_
        refine gm_getA hX 1 (by decide) (by decide) q1342 rfl dX3_walk_46 ?_
        refine gx_sipush (v := nI 142) hX dX3_walk_49 (by decide) ?_
        refine gx_iload_n hX dX3_walk_52 rfl ?_
        refine gx_iadd hX dX3_walk_53 ?_
        refine gx_iload_n hX dX3_walk_54 rfl ?_
        refine gm_st hX hA (by decide) dX3_walk_55 h (fun σ5 h => ?_)
        refine gx_aload_n hX dX3_walk_56 rfl ?_
        refine gm_getA hX 1 (by decide) (by decide) q1342 rfl dX3_walk_57 ?_
        refine gx_sipush (v := nI 178) hX dX3_walk_60 (by decide) ?_
        refine gx_iload_n hX dX3_walk_63 rfl ?_
        refine gx_iadd hX dX3_walk_64 ?_
        refine gm_ld hX (by decide) dX3_walk_65 h (fun v6 h => ?_)
        refine gx_iconst (v := (-1)) hX dX3_walk_66 (by decide) ?_
        refine gx_icmp_eq (tgt := 89) hX dX3_walk_67 (by decide) h (fun h => ?_) (fun h => ?_)
        · refine gx_iload_n hX dX3_walk_89 rfl ?_
          cases h
          exact gx_iret hX rfl dX3_walk_90 rfl ⟨rfl, rfl⟩ (fun _ h => h)
        · refine gx_aload_n hX dX3_walk_70 rfl ?_
          refine gm_getA hX 1 (by decide) (by decide) q1342 rfl dX3_walk_71 ?_
          refine gx_bipush (v := nI 70) hX dX3_walk_74 (by decide) ?_
          refine gx_aload_n hX dX3_walk_76 rfl ?_
          refine gm_getA hX 1 (by decide) (by decide) q1342 rfl dX3_walk_77 ?_
          refine gx_sipush (v := nI 178) hX dX3_walk_80 (by decide) ?_
          refine gx_iload_n hX dX3_walk_83 rfl ?_
          refine gx_iadd hX dX3_walk_84 ?_
          refine gm_ld hX (by decide) dX3_walk_85 h (fun v7 h => ?_)
          refine gx_iadd hX dX3_walk_86 ?_
          refine gx_iload_n hX dX3_walk_87 rfl ?_
          refine gm_st hX hA (by decide) dX3_walk_88 h (fun σ8 h => ?_)
          refine gx_iload_n hX dX3_walk_89 rfl ?_
          cases h
          exact gx_iret hX rfl dX3_walk_90 rfl ⟨rfl, rfl⟩ (fun _ h => h)
abbrev iX3_of : gx_M := (RX3, "of", cX3_of, 3, some .int)
theorem dsX3_of : gx_ds yX3_of 2 := by decide +kernel
def fX3_of (σ : gm_S) (x1 : Int32) (x2 : Int32) : Option (Int32) := (fX3_isShell (σ) (x1)).bind fun r1 => if r1 = 0 then some ((-1)) else if x2 = 0 then (gm_rd σ 1 ((nI 90) + (x1))).bind fun v2 => some (v2) else if x2 = 1 then (gm_rd σ 1 ((nI 70) + (x1))).bind fun v3 => some (v3) else if x2 = 2 then (gm_rd σ 1 ((nI 10) + (x1))).bind fun v4 => some (v4) else if x2 = 3 then (gm_rd σ 1 ((nI 30) + (x1))).bind fun v5 => some (v5) else if x2 = 4 then (gm_rd σ 1 ((nI 50) + (x1))).bind fun v6 => some (v6) else if x2 = 5 then (gm_rd σ 1 ((nI 110) + (x1))).bind fun v7 => if v7 = (-1) then some ((-5)) else (gm_rd σ 1 ((nI 110) + (x1))).bind fun v8 => some (v8) else some ((-1))
set_option maxHeartbeats 4000000 in
theorem tX3_of (w : gw_W) (A : Nat → Prop) (hA : ∀ q, gm_A w q → A q) (l : Launch) (σ : gm_S) (x1 : Int32) (x2 : Int32) {r : Int32} (h : fX3_of σ x1 x2 = some r) : gx_T (gw_I w A) A l yX3_of iX3_of 3 [va_rf (some (gw_mo w)), .int (x1), .int (x2)] (gm_P w σ) 0 0 (gm_P w σ) (.returned (some (.int r))) := by
  refine gx_T.of (gw_I.inv w A) (by decide) ⟨rfl, rfl⟩ (gx_kR (gx_kI (gx_kI gx_k0))) (Nat.le_of_ble_eq_true rfl) (fun X hl hAx hX => ?_)
  subst hl
  subst hAx
  show gx_G X (gm_P w σ) 0 0 [some (va_rf (some (gw_mo w))), some (.int (x1)), some (.int (x2))] 0 []
  unfold fX3_of at h
  refine gx_aload_n hX dX3_of_0 rfl ?_
  refine gx_iload_n hX dX3_of_1 rfl ?_
  obtain ⟨r1, hr1, h⟩ := gx_bs h
  refine gx_cV (As := [.int (x1)]) (rest := []) (b := gw_mo w) hX (tX3_isShell w _ hA (gx_l X) (σ) (x1) hr1) (lw_V q1474 q1476 qs33 q92 q1477) ⟨rfl, dsX3_isShell⟩ (by decide) (by decide) (gm_rc hX) rfl (gx_w8 gx_k0 (Nat.le_of_ble_eq_true rfl)) dX3_of_2 ⟨Nat.le_refl _, Nat.le_refl _⟩ rfl ?_
  refine gx_if_ne (tgt := 10) hX dX3_of_5 (by decide) h (fun h => ?_) (fun h => ?_)
  · refine gx_iconst (v := (-1)) hX dX3_of_8 (by decide) ?_
    cases h
    exact gx_iret hX rfl dX3_of_9 rfl ⟨rfl, rfl⟩ (fun _ h => h)
  · refine gx_iload_n hX dX3_of_10 rfl ?_
    by_cases c0 : x2 = 0
    · rw [if_pos c0] at h
      refine gx_tsw (off := 37) (tgt := 48) hX dX3_of_11 (by decide) (by rw [c0]; decide) (by decide) ?_
      refine gx_aload_n hX dX3_of_48 rfl ?_
      refine gm_getA hX 1 (by decide) (by decide) q1342 rfl dX3_of_49 ?_
      refine gx_bipush (v := nI 90) hX dX3_of_52 (by decide) ?_
      refine gx_iload_n hX dX3_of_54 rfl ?_
      refine gx_iadd hX dX3_of_55 ?_
      refine gm_ld hX (by decide) dX3_of_56 h (fun v2 h => ?_)
      cases h
      exact gx_iret hX rfl dX3_of_57 rfl ⟨rfl, rfl⟩ (fun _ h => h)
    · rw [if_neg c0] at h
      by_cases c1 : x2 = 1
      · rw [if_pos c1] at h
        refine gx_tsw (off := 47) (tgt := 58) hX dX3_of_11 (by decide) (by rw [c1]; decide) (by decide) ?_
        refine gx_aload_n hX dX3_of_58 rfl ?_
        refine gm_getA hX 1 (by decide) (by decide) q1342 rfl dX3_of_59 ?_
        refine gx_bipush (v := nI 70) hX dX3_of_62 (by decide) ?_
        refine gx_iload_n hX dX3_of_64 rfl ?_
        refine gx_iadd hX dX3_of_65 ?_
        refine gm_ld hX (by decide) dX3_of_66 h (fun v3 h => ?_)
        cases h
        exact gx_iret hX rfl dX3_of_67 rfl ⟨rfl, rfl⟩ (fun _ h => h)
      · rw [if_neg c1] at h
        by_cases c2 : x2 = 2
        · rw [if_pos c2] at h
          refine gx_tsw (off := 57) (tgt := 68) hX dX3_of_11 (by decide) (by rw [c2]; decide) (by decide) ?_
          refine gx_aload_n hX dX3_of_68 rfl ?_
          refine gm_getA hX 1 (by decide) (by decide) q1342 rfl dX3_of_69 ?_
          refine gx_bipush (v := nI 10) hX dX3_of_72 (by decide) ?_
          refine gx_iload_n hX dX3_of_74 rfl ?_
          refine gx_iadd hX dX3_of_75 ?_
          refine gm_ld hX (by decide) dX3_of_76 h (fun v4 h => ?_)
          cases h
          exact gx_iret hX rfl dX3_of_77 rfl ⟨rfl, rfl⟩ (fun _ h => h)
        · rw [if_neg c2] at h
          by_cases c3 : x2 = 3
          · rw [if_pos c3] at h
            refine gx_tsw (off := 67) (tgt := 78) hX dX3_of_11 (by decide) (by rw [c3]; decide) (by decide) ?_
            refine gx_aload_n hX dX3_of_78 rfl ?_
            refine gm_getA hX 1 (by decide) (by decide) q1342 rfl dX3_of_79 ?_
            refine gx_bipush (v := nI 30) hX dX3_of_82 (by decide) ?_
            refine gx_iload_n hX dX3_of_84 rfl ?_
            refine gx_iadd hX dX3_of_85 ?_
            refine gm_ld hX (by decide) dX3_of_86 h (fun v5 h => ?_)
            cases h
            exact gx_iret hX rfl dX3_of_87 rfl ⟨rfl, rfl⟩ (fun _ h => h)
          · rw [if_neg c3] at h
            by_cases c4 : x2 = 4
            · rw [if_pos c4] at h
              refine gx_tsw (off := 77) (tgt := 88) hX dX3_of_11 (by decide) (by rw [c4]; decide) (by decide) ?_
              refine gx_aload_n hX dX3_of_88 rfl ?_
              refine gm_getA hX 1 (by decide) (by decide) q1342 rfl dX3_of_89 ?_
              refine gx_bipush (v := nI 50) hX dX3_of_92 (by decide) ?_
              refine gx_iload_n hX dX3_of_94 rfl ?_
              refine gx_iadd hX dX3_of_95 ?_
              refine gm_ld hX (by decide) dX3_of_96 h (fun v6 h => ?_)
              cases h
              exact gx_iret hX rfl dX3_of_97 rfl ⟨rfl, rfl⟩ (fun _ h => h)
            · rw [if_neg c4] at h
              by_cases c5 : x2 = 5
              · rw [if_pos c5] at h
                refine gx_tsw (off := 87) (tgt := 98) hX dX3_of_11 (by decide) (by rw [c5]; decide) (by decide) ?_
                refine gx_aload_n hX dX3_of_98 rfl ?_
                refine gm_getA hX 1 (by decide) (by decide) q1342 rfl dX3_of_99 ?_
                refine gx_bipush (v := nI 110) hX dX3_of_102 (by decide) ?_
                refine gx_iload_n hX dX3_of_104 rfl ?_
                refine gx_iadd hX dX3_of_105 ?_
                refine gm_ld hX (by decide) dX3_of_106 h (fun v7 h => ?_)
                refine gx_iconst (v := (-1)) hX dX3_of_107 (by decide) ?_
                refine gx_icmp_ne (tgt := 116) hX dX3_of_108 (by decide) h (fun h => ?_) (fun h => ?_)
                · refine gx_bipush (v := (-5)) hX dX3_of_111 (by decide) ?_
                  refine gx_goto (tgt := 125) hX dX3_of_113 (by decide) ?_
                  cases h
                  exact gx_iret hX rfl dX3_of_125 rfl ⟨rfl, rfl⟩ (fun _ h => h)
                · refine gx_aload_n hX dX3_of_116 rfl ?_
                  refine gm_getA hX 1 (by decide) (by decide) q1342 rfl dX3_of_117 ?_
                  refine gx_bipush (v := nI 110) hX dX3_of_120 (by decide) ?_
                  refine gx_iload_n hX dX3_of_122 rfl ?_
                  refine gx_iadd hX dX3_of_123 ?_
                  refine gm_ld hX (by decide) dX3_of_124 h (fun v8 h => ?_)
                  cases h
                  exact gx_iret hX rfl dX3_of_125 rfl ⟨rfl, rfl⟩ (fun _ h => h)
              · rw [if_neg c5] at h
                have e0 : (x2).toInt ≠ 0 := gx_nei c0
                have e1 : (x2).toInt ≠ 1 := gx_nei c1
                have e2 : (x2).toInt ≠ 2 := gx_nei c2
                have e3 : (x2).toInt ≠ 3 := gx_nei c3
                have e4 : (x2).toInt ≠ 4 := gx_nei c4
                have e5 : (x2).toInt ≠ 5 := gx_nei c5
                refine gx_tsw (off := 115) (tgt := 126) hX dX3_of_11 (by decide) (by unfold gx_to; rw [if_pos (by omega)]) (by decide) ?_
                refine gx_iconst (v := (-1)) hX dX3_of_126 (by decide) ?_
                cases h
                exact gx_iret hX rfl dX3_of_127 rfl ⟨rfl, rfl⟩ (fun _ h => h)
abbrev iX3_isAhead : gx_M := (RX3, "isAhead", cX3_isAhead, 3, some .boolean)
theorem dsX3_isAhead : gx_ds yX3_isAhead 2 := by decide +kernel
def fX3_isAhead_B51 (σ : gm_S)   : Option (Int32) := some (1)
set_option maxHeartbeats 4000000 in
theorem tX3_isAhead_B51 {w : gw_W} {X : gx_X} {σ : gm_S} {r : Int32} (hA : ∀ q, gm_A w q → gx_A X q) (hX : gx_O (gw_I w (gx_A X)) X iX3_isAhead 1 0 0 (gm_P w σ) (.returned (some (.int r))))   (h : fX3_isAhead_B51 σ = some r) : gx_G X (gm_P w σ) 0 0 [none, none, none] 51 [] := by
  unfold fX3_isAhead_B51 at h
  refine gx_iconst (v := 1) hX dX3_isAhead_51 (by decide) ?_
  refine gx_goto (tgt := 56) hX dX3_isAhead_52 (by decide) ?_
  cases h
  exact gx_zret hX rfl rfl dX3_isAhead_56 rfl ⟨rfl, rfl⟩ (fun _ h => h)
def fX3_isAhead (σ : gm_S) (x1 : Int32) (x2 : Int32) : Option (Int32) := (gm_rd σ 1 ((nI 130) + (x1))).bind fun v1 => (gm_rd σ 1 ((nI 130) + (x2))).bind fun v2 => if (v2) < v1 then fX3_isAhead_B51 σ else (gm_rd σ 1 ((nI 130) + (x1))).bind fun v3 => (gm_rd σ 1 ((nI 130) + (x2))).bind fun v4 => if v3 = v4 then if (x2) ≤ x1 then some (0) else fX3_isAhead_B51 σ else some (0)
set_option maxHeartbeats 4000000 in
theorem tX3_isAhead (w : gw_W) (A : Nat → Prop) (hA : ∀ q, gm_A w q → A q) (l : Launch) (σ : gm_S) (x1 : Int32) (x2 : Int32) {r : Int32} (h : fX3_isAhead σ x1 x2 = some r) : gx_T (gw_I w A) A l yX3_isAhead iX3_isAhead 1 [va_rf (some (gw_mo w)), .int (x1), .int (x2)] (gm_P w σ) 0 0 (gm_P w σ) (.returned (some (.int r))) := by
  refine gx_T.of (gw_I.inv w A) (by decide) ⟨rfl, rfl⟩ (gx_kR (gx_kI (gx_kI gx_k0))) (Nat.le_of_ble_eq_true rfl) (fun X hl hAx hX => ?_)
  subst hl
  subst hAx
  show gx_G X (gm_P w σ) 0 0 [some (va_rf (some (gw_mo w))), some (.int (x1)), some (.int (x2))] 0 []
  unfold fX3_isAhead at h
  refine gx_aload_n hX dX3_isAhead_0 rfl ?_
  refine gm_getA hX 1 (by decide) (by decide) q1342 rfl dX3_isAhead_1 ?_
  refine gx_sipush (v := nI 130) hX dX3_isAhead_4 (by decide) ?_
  refine gx_iload_n hX dX3_isAhead_7 rfl ?_
  refine gx_iadd hX dX3_isAhead_8 ?_
  refine gm_ld hX (by decide) dX3_isAhead_9 h (fun v1 h => ?_)
  refine gx_aload_n hX dX3_isAhead_10 rfl ?_
  refine gm_getA hX 1 (by decide) (by decide) q1342 rfl dX3_isAhead_11 ?_
  refine gx_sipush (v := nI 130) hX dX3_isAhead_14 (by decide) ?_
  refine gx_iload_n hX dX3_isAhead_17 rfl ?_
  refine gx_iadd hX dX3_isAhead_18 ?_
  refine gm_ld hX (by decide) dX3_isAhead_19 h (fun v2 h => ?_)
  refine gx_icmp_gt (tgt := 51) hX dX3_isAhead_20 (by decide) h (fun h => ?_) (fun h => ?_)
  · refine gx_sub hX (lv' := [none, none, none]) ⟨Or.inl rfl, ⟨Or.inl rfl, ⟨Or.inl rfl, trivial⟩⟩⟩ ?_
    exact tX3_isAhead_B51 hA hX  h
  · refine gx_aload_n hX dX3_isAhead_23 rfl ?_
    refine gm_getA hX 1 (by decide) (by decide) q1342 rfl dX3_isAhead_24 ?_
    refine gx_sipush (v := nI 130) hX dX3_isAhead_27 (by decide) ?_
    refine gx_iload_n hX dX3_isAhead_30 rfl ?_
    refine gx_iadd hX dX3_isAhead_31 ?_
    refine gm_ld hX (by decide) dX3_isAhead_32 h (fun v3 h => ?_)
    refine gx_aload_n hX dX3_isAhead_33 rfl ?_
    refine gm_getA hX 1 (by decide) (by decide) q1342 rfl dX3_isAhead_34 ?_
    refine gx_sipush (v := nI 130) hX dX3_isAhead_37 (by decide) ?_
    refine gx_iload_n hX dX3_isAhead_40 rfl ?_
    refine gx_iadd hX dX3_isAhead_41 ?_
    refine gm_ld hX (by decide) dX3_isAhead_42 h (fun v4 h => ?_)
    refine gx_icmp_ne (tgt := 55) hX dX3_isAhead_43 (by decide) h (fun h => ?_) (fun h => ?_)
    · refine gx_iload_n hX dX3_isAhead_46 rfl ?_
      refine gx_iload_n hX dX3_isAhead_47 rfl ?_
      refine gx_icmp_ge (tgt := 55) hX dX3_isAhead_48 (by decide) h (fun h => ?_) (fun h => ?_)
      · refine gx_iconst (v := 0) hX dX3_isAhead_55 (by decide) ?_
        cases h
        exact gx_zret hX rfl rfl dX3_isAhead_56 rfl ⟨rfl, rfl⟩ (fun _ h => h)
      · refine gx_sub hX (lv' := [none, none, none]) ⟨Or.inl rfl, ⟨Or.inl rfl, ⟨Or.inl rfl, trivial⟩⟩⟩ ?_
        exact tX3_isAhead_B51 hA hX  h
    · refine gx_iconst (v := 0) hX dX3_isAhead_55 (by decide) ?_
      cases h
      exact gx_zret hX rfl rfl dX3_isAhead_56 rfl ⟨rfl, rfl⟩ (fun _ h => h)
abbrev iX3_isHoused : gx_M := (RX3, "isHoused", cX3_isHoused, 2, some .boolean)
theorem dsX3_isHoused : gx_ds yX3_isHoused 1 := by decide +kernel
def fX3_isHoused (σ : gm_S) (x1 : Int32) : Option (Int32) := (gm_rd σ 1 ((nI 166) + (x1))).bind fun v1 => if v1 = 0 then some (1) else some (0)
set_option maxHeartbeats 4000000 in
theorem tX3_isHoused (w : gw_W) (A : Nat → Prop) (hA : ∀ q, gm_A w q → A q) (l : Launch) (σ : gm_S) (x1 : Int32) {r : Int32} (h : fX3_isHoused σ x1 = some r) : gx_T (gw_I w A) A l yX3_isHoused iX3_isHoused 1 [va_rf (some (gw_mo w)), .int (x1)] (gm_P w σ) 0 0 (gm_P w σ) (.returned (some (.int r))) := by
  refine gx_T.of (gw_I.inv w A) (by decide) ⟨rfl, rfl⟩ (gx_kR (gx_kI gx_k0)) (Nat.le_of_ble_eq_true rfl) (fun X hl hAx hX => ?_)
  subst hl
  subst hAx
  show gx_G X (gm_P w σ) 0 0 [some (va_rf (some (gw_mo w))), some (.int (x1))] 0 []
  unfold fX3_isHoused at h
  refine gx_aload_n hX dX3_isHoused_0 rfl ?_
  refine gm_getA hX 1 (by decide) (by decide) q1342 rfl dX3_isHoused_1 ?_
  refine gx_sipush (v := nI 166) hX dX3_isHoused_4 (by decide) ?_
  refine gx_iload_n hX dX3_isHoused_7 rfl ?_
  refine gx_iadd hX dX3_isHoused_8 ?_
  refine gm_ld hX (by decide) dX3_isHoused_9 h (fun v1 h => ?_)
  refine gx_if_ne (tgt := 17) hX dX3_isHoused_10 (by decide) h (fun h => ?_) (fun h => ?_)
  · refine gx_iconst (v := 1) hX dX3_isHoused_13 (by decide) ?_
    refine gx_goto (tgt := 18) hX dX3_isHoused_14 (by decide) ?_
    cases h
    exact gx_zret hX rfl rfl dX3_isHoused_18 rfl ⟨rfl, rfl⟩ (fun _ h => h)
  · refine gx_iconst (v := 0) hX dX3_isHoused_17 (by decide) ?_
    cases h
    exact gx_zret hX rfl rfl dX3_isHoused_18 rfl ⟨rfl, rfl⟩ (fun _ h => h)
abbrev iX3_waits : gx_M := (RX3, "waits", cX3_waits, 2, some .boolean)
theorem dsX3_waits : gx_ds yX3_waits 1 := by decide +kernel
def fX3_waits (σ : gm_S) (x1 : Int32) : Option (Int32) := (fX3_isHoused (σ) (x1)).bind fun r1 => if r1 = 0 then some (0) else (gm_rd σ 1 ((nI 226) + (x1))).bind fun v2 => if v2 = 1 then some (1) else some (0)
set_option maxHeartbeats 4000000 in
theorem tX3_waits (w : gw_W) (A : Nat → Prop) (hA : ∀ q, gm_A w q → A q) (l : Launch) (σ : gm_S) (x1 : Int32) {r : Int32} (h : fX3_waits σ x1 = some r) : gx_T (gw_I w A) A l yX3_waits iX3_waits 2 [va_rf (some (gw_mo w)), .int (x1)] (gm_P w σ) 0 0 (gm_P w σ) (.returned (some (.int r))) := by
  refine gx_T.of (gw_I.inv w A) (by decide) ⟨rfl, rfl⟩ (gx_kR (gx_kI gx_k0)) (Nat.le_of_ble_eq_true rfl) (fun X hl hAx hX => ?_)
  subst hl
  subst hAx
  show gx_G X (gm_P w σ) 0 0 [some (va_rf (some (gw_mo w))), some (.int (x1))] 0 []
  unfold fX3_waits at h
  refine gx_aload_n hX dX3_waits_0 rfl ?_
  refine gx_iload_n hX dX3_waits_1 rfl ?_
  obtain ⟨r1, hr1, h⟩ := gx_bs h
  refine gx_cV (As := [.int (x1)]) (rest := []) (b := gw_mo w) hX (tX3_isHoused w _ hA (gx_l X) (σ) (x1) hr1) (lw_V q1510 q1512 qs38 q92 q1513) ⟨rfl, dsX3_isHoused⟩ (by decide) (by decide) (gm_rc hX) rfl (gx_w8 gx_k0 (Nat.le_of_ble_eq_true rfl)) dX3_waits_2 ⟨Nat.le_refl _, Nat.le_refl _⟩ rfl ?_
  refine gx_if_eq (tgt := 26) hX dX3_waits_5 (by decide) h (fun h => ?_) (fun h => ?_)
  · refine gx_iconst (v := 0) hX dX3_waits_26 (by decide) ?_
    cases h
    exact gx_zret hX rfl rfl dX3_waits_27 rfl ⟨rfl, rfl⟩ (fun _ h => h)
  · refine gx_aload_n hX dX3_waits_8 rfl ?_
    refine gm_getA hX 1 (by decide) (by decide) q1342 rfl dX3_waits_9 ?_
    refine gx_sipush (v := nI 226) hX dX3_waits_12 (by decide) ?_
    refine gx_iload_n hX dX3_waits_15 rfl ?_
    refine gx_iadd hX dX3_waits_16 ?_
    refine gm_ld hX (by decide) dX3_waits_17 h (fun v2 h => ?_)
    refine gx_iconst (v := 1) hX dX3_waits_18 (by decide) ?_
    refine gx_icmp_ne (tgt := 26) hX dX3_waits_19 (by decide) h (fun h => ?_) (fun h => ?_)
    · refine gx_iconst (v := 1) hX dX3_waits_22 (by decide) ?_
      refine gx_goto (tgt := 27) hX dX3_waits_23 (by decide) ?_
      cases h
      exact gx_zret hX rfl rfl dX3_waits_27 rfl ⟨rfl, rfl⟩ (fun _ h => h)
    · refine gx_iconst (v := 0) hX dX3_waits_26 (by decide) ?_
      cases h
      exact gx_zret hX rfl rfl dX3_waits_27 rfl ⟨rfl, rfl⟩ (fun _ h => h)
abbrev iX3_kindOf : gx_M := (RX3, "kindOf", cX3_kindOf, 4, some .int)
theorem dsX3_kindOf : gx_ds yX3_kindOf 1 := by decide +kernel
def fX3_kindOf_B125 (N : Nat) (σ : gm_S) (K61 : Int32 → Int32 → Int32 → Option (Int32)) (x1 : Int32) (x3 : Int32) (y0 : Int32) : Option (Int32) := K61 (x1) (y0) ((x3) + 1)
set_option maxHeartbeats 4000000 in
theorem tX3_kindOf_B125 {w : gw_W} {X : gx_X} {N : Nat} {σ : gm_S} {r : Int32} (hA : ∀ q, gm_A w q → gx_A X q) (hX : gx_O (gw_I w (gx_A X)) X iX3_kindOf 3 0 0 (gm_P w σ) (.returned (some (.int r)))) {K61 : Int32 → Int32 → Int32 → Option (Int32)} (hK61 : ∀ (x1 : Int32) (x2 : Int32) (x3 : Int32), K61 x1 x2 x3 = some r → gx_G X (gm_P w σ) 0 0 [some (va_rf (some (gw_mo w))), some (.int (x1)), some (.int (x2)), some (.int (x3))] 61 []) {x1 : Int32} {x3 : Int32} {y0 : Int32} (h : fX3_kindOf_B125 N σ K61 x1 x3 y0 = some r) : gx_G X (gm_P w σ) 0 0 [some (va_rf (some (gw_mo w))), some (.int (x1)), none, some (.int (x3))] 125 [.int (y0)] := by
  unfold fX3_kindOf_B125 at h
  refine gx_istore_n hX dX3_kindOf_125 (Nat.le_of_ble_eq_true rfl) gx_c1i (lv' := [some (va_rf (some (gw_mo w))), some (.int (x1)), some (.int (y0)), some (.int (x3))]) rfl ?_
  refine gx_iinc (v := 1) hX dX3_kindOf_126 rfl (by decide) gx_c1i (lv' := [some (va_rf (some (gw_mo w))), some (.int (x1)), some (.int (y0)), some (.int ((x3) + 1))]) rfl ?_
  refine gx_goto (tgt := 61) hX dX3_kindOf_129 (by decide) ?_
  exact hK61 _ _ _ h
def fX3_kindOf_B120 (N : Nat) (σ : gm_S) (K61 : Int32 → Int32 → Int32 → Option (Int32)) (x1 : Int32) (x3 : Int32) : Option (Int32) := fX3_kindOf_B125 N σ K61 (x1) (x3) (1)
set_option maxHeartbeats 4000000 in
theorem tX3_kindOf_B120 {w : gw_W} {X : gx_X} {N : Nat} {σ : gm_S} {r : Int32} (hA : ∀ q, gm_A w q → gx_A X q) (hX : gx_O (gw_I w (gx_A X)) X iX3_kindOf 3 0 0 (gm_P w σ) (.returned (some (.int r)))) {K61 : Int32 → Int32 → Int32 → Option (Int32)} (hK61 : ∀ (x1 : Int32) (x2 : Int32) (x3 : Int32), K61 x1 x2 x3 = some r → gx_G X (gm_P w σ) 0 0 [some (va_rf (some (gw_mo w))), some (.int (x1)), some (.int (x2)), some (.int (x3))] 61 []) {x1 : Int32} {x3 : Int32} (h : fX3_kindOf_B120 N σ K61 x1 x3 = some r) : gx_G X (gm_P w σ) 0 0 [some (va_rf (some (gw_mo w))), some (.int (x1)), none, some (.int (x3))] 120 [] := by
  unfold fX3_kindOf_B120 at h
  refine gx_iconst (v := 1) hX dX3_kindOf_120 (by decide) ?_
  refine gx_goto (tgt := 125) hX dX3_kindOf_121 (by decide) ?_
  exact tX3_kindOf_B125 hA hX hK61 h
def fX3_kindOf_B124 (N : Nat) (σ : gm_S) (K61 : Int32 → Int32 → Int32 → Option (Int32)) (x1 : Int32) (x3 : Int32) : Option (Int32) := fX3_kindOf_B125 N σ K61 (x1) (x3) (0)
set_option maxHeartbeats 4000000 in
theorem tX3_kindOf_B124 {w : gw_W} {X : gx_X} {N : Nat} {σ : gm_S} {r : Int32} (hA : ∀ q, gm_A w q → gx_A X q) (hX : gx_O (gw_I w (gx_A X)) X iX3_kindOf 3 0 0 (gm_P w σ) (.returned (some (.int r)))) {K61 : Int32 → Int32 → Int32 → Option (Int32)} (hK61 : ∀ (x1 : Int32) (x2 : Int32) (x3 : Int32), K61 x1 x2 x3 = some r → gx_G X (gm_P w σ) 0 0 [some (va_rf (some (gw_mo w))), some (.int (x1)), some (.int (x2)), some (.int (x3))] 61 []) {x1 : Int32} {x3 : Int32} (h : fX3_kindOf_B124 N σ K61 x1 x3 = some r) : gx_G X (gm_P w σ) 0 0 [some (va_rf (some (gw_mo w))), some (.int (x1)), none, some (.int (x3))] 124 [] := by
  unfold fX3_kindOf_B124 at h
  refine gx_iconst (v := 0) hX dX3_kindOf_124 (by decide) ?_
  exact tX3_kindOf_B125 hA hX hK61 h
def fX3_kindOf_L61 (N : Nat) (σ : gm_S)  : Nat → Int32 → Int32 → Int32 → Option (Int32)
  | 0, _, _, _ => none
  | k + 1, x1, x2, x3 => (gm_rd σ 1 (1)).bind fun v3 => if (v3) ≤ x3 then if x2 = 0 then some (3) else some (4) else if x2 = 0 then if x3 = x1 then fX3_kindOf_B124 N σ (fX3_kindOf_L61 N σ k) (x1) (x3) else (fX3_waits (σ) (x3)).bind fun r4 => if r4 = 0 then fX3_kindOf_B124 N σ (fX3_kindOf_L61 N σ k) (x1) (x3) else (gm_rd σ 1 ((nI 142) + (x3))).bind fun v5 => (gm_rd σ 1 ((nI 142) + (x1))).bind fun v6 => if v5 = v6 then (fX3_isAhead (σ) (x3) (x1)).bind fun r7 => if r7 = 0 then fX3_kindOf_B124 N σ (fX3_kindOf_L61 N σ k) (x1) (x3) else fX3_kindOf_B120 N σ (fX3_kindOf_L61 N σ k) (x1) (x3) else fX3_kindOf_B124 N σ (fX3_kindOf_L61 N σ k) (x1) (x3) else fX3_kindOf_B120 N σ (fX3_kindOf_L61 N σ k) (x1) (x3)
set_option maxHeartbeats 4000000 in
theorem tX3_kindOf_L61 {w : gw_W} {X : gx_X} {N : Nat} {σ : gm_S} {r : Int32} (hA : ∀ q, gm_A w q → gx_A X q) (hX : gx_O (gw_I w (gx_A X)) X iX3_kindOf 3 0 0 (gm_P w σ) (.returned (some (.int r))))  : ∀ (k : Nat) (x1 : Int32) (x2 : Int32) (x3 : Int32), fX3_kindOf_L61 N σ k x1 x2 x3 = some r → gx_G X (gm_P w σ) 0 0 [some (va_rf (some (gw_mo w))), some (.int (x1)), some (.int (x2)), some (.int (x3))] 61 [] := by
  intro k
  induction k with
  | zero =>
    intro x1 x2 x3 h
    unfold fX3_kindOf_L61 at h
    cases h
  | succ k ih =>
    intro x1 x2 x3 h
    unfold fX3_kindOf_L61 at h
    refine gx_iload_n hX dX3_kindOf_61 rfl ?_
    refine gx_aload_n hX dX3_kindOf_62 rfl ?_
    refine gm_getA hX 1 (by decide) (by decide) q1342 rfl dX3_kindOf_63 ?_
    refine gx_iconst (v := 1) hX dX3_kindOf_66 (by decide) ?_
    refine gm_ld hX (by decide) dX3_kindOf_67 h (fun v3 h => ?_)
    refine gx_icmp_ge (tgt := 132) hX dX3_kindOf_68 (by decide) h (fun h => ?_) (fun h => ?_)
    · refine gx_iload_n hX dX3_kindOf_132 rfl ?_
      refine gx_if_eq (tgt := 140) hX dX3_kindOf_133 (by decide) h (fun h => ?_) (fun h => ?_)
      · refine gx_iconst (v := 3) hX dX3_kindOf_140 (by decide) ?_
        cases h
        exact gx_iret hX rfl dX3_kindOf_141 rfl ⟨rfl, rfl⟩ (fun _ h => h)
      · refine gx_iconst (v := 4) hX dX3_kindOf_136 (by decide) ?_
        refine gx_goto (tgt := 141) hX dX3_kindOf_137 (by decide) ?_
        cases h
        exact gx_iret hX rfl dX3_kindOf_141 rfl ⟨rfl, rfl⟩ (fun _ h => h)
    · refine gx_iload_n hX dX3_kindOf_71 rfl ?_
      refine gx_if_ne (tgt := 120) hX dX3_kindOf_72 (by decide) h (fun h => ?_) (fun h => ?_)
      · refine gx_iload_n hX dX3_kindOf_75 rfl ?_
        refine gx_iload_n hX dX3_kindOf_76 rfl ?_
        refine gx_icmp_eq (tgt := 124) hX dX3_kindOf_77 (by decide) h (fun h => ?_) (fun h => ?_)
        · refine gx_sub hX (lv' := [some (va_rf (some (gw_mo w))), some (.int (x1)), none, some (.int (x3))]) ⟨Or.inr rfl, ⟨Or.inr rfl, ⟨Or.inl rfl, ⟨Or.inr rfl, trivial⟩⟩⟩⟩ ?_
          exact tX3_kindOf_B124 hA hX ih h
        · refine gx_aload_n hX dX3_kindOf_80 rfl ?_
          refine gx_iload_n hX dX3_kindOf_81 rfl ?_
          obtain ⟨r4, hr4, h⟩ := gx_bs h
          refine gx_cV (As := [.int (x3)]) (rest := []) (b := gw_mo w) hX (tX3_waits w _ hA (gx_l X) (σ) (x3) hr4) (lw_V q1514 q1516 qs39 q92 q1517) ⟨rfl, dsX3_waits⟩ (by decide) (by decide) (gm_rc hX) rfl (gx_w8 gx_k0 (Nat.le_of_ble_eq_true rfl)) dX3_kindOf_82 ⟨Nat.le_refl _, Nat.le_refl _⟩ rfl ?_
          refine gx_if_eq (tgt := 124) hX dX3_kindOf_85 (by decide) h (fun h => ?_) (fun h => ?_)
          · refine gx_sub hX (lv' := [some (va_rf (some (gw_mo w))), some (.int (x1)), none, some (.int (x3))]) ⟨Or.inr rfl, ⟨Or.inr rfl, ⟨Or.inl rfl, ⟨Or.inr rfl, trivial⟩⟩⟩⟩ ?_
            exact tX3_kindOf_B124 hA hX ih h
          · refine gx_aload_n hX dX3_kindOf_88 rfl ?_
            refine gm_getA hX 1 (by decide) (by decide) q1342 rfl dX3_kindOf_89 ?_
            refine gx_sipush (v := nI 142) hX dX3_kindOf_92 (by decide) ?_
            refine gx_iload_n hX dX3_kindOf_95 rfl ?_
            refine gx_iadd hX dX3_kindOf_96 ?_
            refine gm_ld hX (by decide) dX3_kindOf_97 h (fun v5 h => ?_)
            refine gx_aload_n hX dX3_kindOf_98 rfl ?_
            refine gm_getA hX 1 (by decide) (by decide) q1342 rfl dX3_kindOf_99 ?_
            refine gx_sipush (v := nI 142) hX dX3_kindOf_102 (by decide) ?_
            refine gx_iload_n hX dX3_kindOf_105 rfl ?_
            refine gx_iadd hX dX3_kindOf_106 ?_
            refine gm_ld hX (by decide) dX3_kindOf_107 h (fun v6 h => ?_)
            refine gx_icmp_ne (tgt := 124) hX dX3_kindOf_108 (by decide) h (fun h => ?_) (fun h => ?_)
            · refine gx_aload_n hX dX3_kindOf_111 rfl ?_
              refine gx_iload_n hX dX3_kindOf_112 rfl ?_
              refine gx_iload_n hX dX3_kindOf_113 rfl ?_
              obtain ⟨r7, hr7, h⟩ := gx_bs h
              refine gx_cV (As := [.int (x3), .int (x1)]) (rest := []) (b := gw_mo w) hX (tX3_isAhead w _ hA (gx_l X) (σ) (x3) (x1) hr7) (lw_V q1518 q1520 qs40 q92 q1521) ⟨rfl, dsX3_isAhead⟩ (by decide) (by decide) (gm_rc hX) rfl (gx_w8 gx_k0 (Nat.le_of_ble_eq_true rfl)) dX3_kindOf_114 ⟨Nat.le_refl _, Nat.le_refl _⟩ rfl ?_
              refine gx_if_eq (tgt := 124) hX dX3_kindOf_117 (by decide) h (fun h => ?_) (fun h => ?_)
              · refine gx_sub hX (lv' := [some (va_rf (some (gw_mo w))), some (.int (x1)), none, some (.int (x3))]) ⟨Or.inr rfl, ⟨Or.inr rfl, ⟨Or.inl rfl, ⟨Or.inr rfl, trivial⟩⟩⟩⟩ ?_
                exact tX3_kindOf_B124 hA hX ih h
              · refine gx_sub hX (lv' := [some (va_rf (some (gw_mo w))), some (.int (x1)), none, some (.int (x3))]) ⟨Or.inr rfl, ⟨Or.inr rfl, ⟨Or.inl rfl, ⟨Or.inr rfl, trivial⟩⟩⟩⟩ ?_
                exact tX3_kindOf_B120 hA hX ih h
            · refine gx_sub hX (lv' := [some (va_rf (some (gw_mo w))), some (.int (x1)), none, some (.int (x3))]) ⟨Or.inr rfl, ⟨Or.inr rfl, ⟨Or.inl rfl, ⟨Or.inr rfl, trivial⟩⟩⟩⟩ ?_
              exact tX3_kindOf_B124 hA hX ih h
      · refine gx_sub hX (lv' := [some (va_rf (some (gw_mo w))), some (.int (x1)), none, some (.int (x3))]) ⟨Or.inr rfl, ⟨Or.inr rfl, ⟨Or.inl rfl, ⟨Or.inr rfl, trivial⟩⟩⟩⟩ ?_
        exact tX3_kindOf_B120 hA hX ih h
def fX3_kindOf (N : Nat) (σ : gm_S) (x1 : Int32) : Option (Int32) := (fX3_isHoused (σ) (x1)).bind fun r1 => if r1 = 0 then (gm_rd σ 1 ((nI 166) + (x1))).bind fun v9 => if v9 = 2 then some (nI 6) else some (2) else (fX3_waits (σ) (x1)).bind fun r2 => if r2 = 0 then (gm_rd σ 1 ((nI 226) + (x1))).bind fun v8 => if v8 = 2 then some (5) else some (1) else fX3_kindOf_L61 N σ N (x1) (0) (0)
set_option maxHeartbeats 4000000 in
theorem tX3_kindOf (w : gw_W) (A : Nat → Prop) (hA : ∀ q, gm_A w q → A q) (l : Launch) (N : Nat) (σ : gm_S) (x1 : Int32) {r : Int32} (h : fX3_kindOf N σ x1 = some r) : gx_T (gw_I w A) A l yX3_kindOf iX3_kindOf 3 [va_rf (some (gw_mo w)), .int (x1)] (gm_P w σ) 0 0 (gm_P w σ) (.returned (some (.int r))) := by
  refine gx_T.of (gw_I.inv w A) (by decide) ⟨rfl, rfl⟩ (gx_kR (gx_kI gx_k0)) (Nat.le_of_ble_eq_true rfl) (fun X hl hAx hX => ?_)
  subst hl
  subst hAx
  show gx_G X (gm_P w σ) 0 0 [some (va_rf (some (gw_mo w))), some (.int (x1)), none, none] 0 []
  unfold fX3_kindOf at h
  refine gx_aload_n hX dX3_kindOf_0 rfl ?_
  refine gx_iload_n hX dX3_kindOf_1 rfl ?_
  obtain ⟨r1, hr1, h⟩ := gx_bs h
  refine gx_cV (As := [.int (x1)]) (rest := []) (b := gw_mo w) hX (tX3_isHoused w _ hA (gx_l X) (σ) (x1) hr1) (lw_V q1510 q1512 qs38 q92 q1513) ⟨rfl, dsX3_isHoused⟩ (by decide) (by decide) (gm_rc hX) rfl (gx_w8 gx_k0 (Nat.le_of_ble_eq_true rfl)) dX3_kindOf_2 ⟨Nat.le_refl _, Nat.le_refl _⟩ rfl ?_
  refine gx_if_ne (tgt := 29) hX dX3_kindOf_5 (by decide) h (fun h => ?_) (fun h => ?_)
  · refine gx_aload_n hX dX3_kindOf_8 rfl ?_
    refine gm_getA hX 1 (by decide) (by decide) q1342 rfl dX3_kindOf_9 ?_
    refine gx_sipush (v := nI 166) hX dX3_kindOf_12 (by decide) ?_
    refine gx_iload_n hX dX3_kindOf_15 rfl ?_
    refine gx_iadd hX dX3_kindOf_16 ?_
    refine gm_ld hX (by decide) dX3_kindOf_17 h (fun v9 h => ?_)
    refine gx_iconst (v := 2) hX dX3_kindOf_18 (by decide) ?_
    refine gx_icmp_ne (tgt := 27) hX dX3_kindOf_19 (by decide) h (fun h => ?_) (fun h => ?_)
    · refine gx_bipush (v := nI 6) hX dX3_kindOf_22 (by decide) ?_
      refine gx_goto (tgt := 28) hX dX3_kindOf_24 (by decide) ?_
      cases h
      exact gx_iret hX rfl dX3_kindOf_28 rfl ⟨rfl, rfl⟩ (fun _ h => h)
    · refine gx_iconst (v := 2) hX dX3_kindOf_27 (by decide) ?_
      cases h
      exact gx_iret hX rfl dX3_kindOf_28 rfl ⟨rfl, rfl⟩ (fun _ h => h)
  · refine gx_aload_n hX dX3_kindOf_29 rfl ?_
    refine gx_iload_n hX dX3_kindOf_30 rfl ?_
    obtain ⟨r2, hr2, h⟩ := gx_bs h
    refine gx_cV (As := [.int (x1)]) (rest := []) (b := gw_mo w) hX (tX3_waits w _ hA (gx_l X) (σ) (x1) hr2) (lw_V q1514 q1516 qs39 q92 q1517) ⟨rfl, dsX3_waits⟩ (by decide) (by decide) (gm_rc hX) rfl (gx_w8 gx_k0 (Nat.le_of_ble_eq_true rfl)) dX3_kindOf_31 ⟨Nat.le_refl _, Nat.le_refl _⟩ rfl ?_
    refine gx_if_ne (tgt := 57) hX dX3_kindOf_34 (by decide) h (fun h => ?_) (fun h => ?_)
    · refine gx_aload_n hX dX3_kindOf_37 rfl ?_
      refine gm_getA hX 1 (by decide) (by decide) q1342 rfl dX3_kindOf_38 ?_
      refine gx_sipush (v := nI 226) hX dX3_kindOf_41 (by decide) ?_
      refine gx_iload_n hX dX3_kindOf_44 rfl ?_
      refine gx_iadd hX dX3_kindOf_45 ?_
      refine gm_ld hX (by decide) dX3_kindOf_46 h (fun v8 h => ?_)
      refine gx_iconst (v := 2) hX dX3_kindOf_47 (by decide) ?_
      refine gx_icmp_ne (tgt := 55) hX dX3_kindOf_48 (by decide) h (fun h => ?_) (fun h => ?_)
      · refine gx_iconst (v := 5) hX dX3_kindOf_51 (by decide) ?_
        refine gx_goto (tgt := 56) hX dX3_kindOf_52 (by decide) ?_
        cases h
        exact gx_iret hX rfl dX3_kindOf_56 rfl ⟨rfl, rfl⟩ (fun _ h => h)
      · refine gx_iconst (v := 1) hX dX3_kindOf_55 (by decide) ?_
        cases h
        exact gx_iret hX rfl dX3_kindOf_56 rfl ⟨rfl, rfl⟩ (fun _ h => h)
    · refine gx_iconst (v := 0) hX dX3_kindOf_57 (by decide) ?_
      refine gx_istore_n hX dX3_kindOf_58 (Nat.le_of_ble_eq_true rfl) gx_c1i (lv' := [some (va_rf (some (gw_mo w))), some (.int (x1)), some (.int (0)), none]) rfl ?_
      refine gx_iconst (v := 0) hX dX3_kindOf_59 (by decide) ?_
      refine gx_istore_n hX dX3_kindOf_60 (Nat.le_of_ble_eq_true rfl) gx_c1i (lv' := [some (va_rf (some (gw_mo w))), some (.int (x1)), some (.int (0)), some (.int (0))]) rfl ?_
      exact tX3_kindOf_L61 hA hX  N _ _ _ h
abbrev iX3_fitOf : gx_M := (RX3, "fitOf", cX3_fitOf, 5, some .int)
theorem dsX3_fitOf : gx_ds yX3_fitOf 4 := by decide +kernel
def fX3_fitOf_B22   (x1 : Int32) (x2 : Int32) (y0 : Int32) (y1 : Int32) : Option (Int32) := (gx_dv (x1) (4)).bind fun v1 => some ((((y1) - (y0)) - ((2) * (x2))) - (v1))
set_option maxHeartbeats 4000000 in
theorem tX3_fitOf_B22 {w : gw_W} {X : gx_X} {P : Heap → Prop} {r : Int32} (hX : gx_O (gw_I w (gx_A X)) X iX3_fitOf 1 0 0 (P) (.returned (some (.int r))))  {x1 : Int32} {x2 : Int32} {y0 : Int32} {y1 : Int32} (h : fX3_fitOf_B22 x1 x2 y0 y1 = some r) : gx_G X (P) 0 0 [none, some (.int (x1)), some (.int (x2)), none, none] 22 [.int (y0), .int (y1)] := by
  unfold fX3_fitOf_B22 at h
  refine gx_isub hX dX3_fitOf_22 ?_
  refine gx_iconst (v := 2) hX dX3_fitOf_23 (by decide) ?_
  refine gx_iload_n hX dX3_fitOf_24 rfl ?_
  refine gx_imul hX dX3_fitOf_25 ?_
  refine gx_isub hX dX3_fitOf_26 ?_
  refine gx_iload_n hX dX3_fitOf_27 rfl ?_
  refine gx_iconst (v := 4) hX dX3_fitOf_28 (by decide) ?_
  refine gx_idivP hX dX3_fitOf_29 h (fun v1 h => ?_)
  refine gx_isub hX dX3_fitOf_30 ?_
  cases h
  exact gx_iret hX rfl dX3_fitOf_31 rfl ⟨rfl, rfl⟩ (fun _ h => h)
def fX3_fitOf (x0 : Int32) (x1 : Int32) (x2 : Int32) (x3 : Int32) : Option (Int32) := if ((x0) - (x3)) < 0 then fX3_fitOf_B22 (x1) (x2) (((-3)) * ((x0) - (x3))) (nI 30) else fX3_fitOf_B22 (x1) (x2) ((x0) - (x3)) (nI 30)
set_option maxHeartbeats 4000000 in
theorem tX3_fitOf (w : gw_W) (A : Nat → Prop) (l : Launch) (P : Heap → Prop) (x0 : Int32) (x1 : Int32) (x2 : Int32) (x3 : Int32) {r : Int32} (h : fX3_fitOf x0 x1 x2 x3 = some r) : gx_T (gw_I w A) A l yX3_fitOf iX3_fitOf 1 [.int (x0), .int (x1), .int (x2), .int (x3)] (P) 0 0 (P) (.returned (some (.int r))) := by
  refine gx_T.of (gw_I.inv w A) (by decide) ⟨rfl, rfl⟩ (gx_kI (gx_kI (gx_kI (gx_kI gx_k0)))) (Nat.le_of_ble_eq_true rfl) (fun X hl hAx hX => ?_)
  subst hl
  subst hAx
  show gx_G X (P) 0 0 [some (.int (x0)), some (.int (x1)), some (.int (x2)), some (.int (x3)), none] 0 []
  unfold fX3_fitOf at h
  refine gx_iload_n hX dX3_fitOf_0 rfl ?_
  refine gx_iload_n hX dX3_fitOf_1 rfl ?_
  refine gx_isub hX dX3_fitOf_2 ?_
  refine gx_istore hX dX3_fitOf_3 (Nat.le_of_ble_eq_true rfl) gx_c1i (lv' := [some (.int (x0)), some (.int (x1)), some (.int (x2)), some (.int (x3)), some (.int ((x0) - (x3)))]) rfl ?_
  refine gx_bipush (v := nI 30) hX dX3_fitOf_5 (by decide) ?_
  refine gx_iload hX dX3_fitOf_7 rfl ?_
  refine gx_if_lt (tgt := 17) hX dX3_fitOf_9 (by decide) h (fun h => ?_) (fun h => ?_)
  · refine gx_bipush (v := (-3)) hX dX3_fitOf_17 (by decide) ?_
    refine gx_iload hX dX3_fitOf_19 rfl ?_
    refine gx_imul hX dX3_fitOf_21 ?_
    refine gx_sub hX (lv' := [none, some (.int (x1)), some (.int (x2)), none, none]) ⟨Or.inl rfl, ⟨Or.inr rfl, ⟨Or.inr rfl, ⟨Or.inl rfl, ⟨Or.inl rfl, trivial⟩⟩⟩⟩⟩ ?_
    exact tX3_fitOf_B22 hX  h
  · refine gx_iload hX dX3_fitOf_12 rfl ?_
    refine gx_goto (tgt := 22) hX dX3_fitOf_14 (by decide) ?_
    refine gx_sub hX (lv' := [none, some (.int (x1)), some (.int (x2)), none, none]) ⟨Or.inl rfl, ⟨Or.inr rfl, ⟨Or.inr rfl, ⟨Or.inl rfl, ⟨Or.inl rfl, trivial⟩⟩⟩⟩⟩ ?_
    exact tX3_fitOf_B22 hX  h
abbrev iX3_fitFor : gx_M := (RX3, "fitFor", cX3_fitFor, 3, some .int)
theorem dsX3_fitFor : gx_ds yX3_fitFor 2 := by decide +kernel
def fX3_fitFor (σ : gm_S) (x1 : Int32) (x2 : Int32) : Option (Int32) := (gm_rd σ 1 ((nI 10) + (x1))).bind fun v1 => (gm_rd σ 1 ((nI 30) + (x1))).bind fun v2 => (gm_rd σ 1 ((nI 50) + (x1))).bind fun v3 => (fX3_fitOf  (v1) (v2) (v3) (x2)).bind fun r4 => some (r4)
set_option maxHeartbeats 4000000 in
theorem tX3_fitFor (w : gw_W) (A : Nat → Prop) (hA : ∀ q, gm_A w q → A q) (l : Launch) (σ : gm_S) (x1 : Int32) (x2 : Int32) {r : Int32} (h : fX3_fitFor σ x1 x2 = some r) : gx_T (gw_I w A) A l yX3_fitFor iX3_fitFor 2 [va_rf (some (gw_mo w)), .int (x1), .int (x2)] (gm_P w σ) 0 0 (gm_P w σ) (.returned (some (.int r))) := by
  refine gx_T.of (gw_I.inv w A) (by decide) ⟨rfl, rfl⟩ (gx_kR (gx_kI (gx_kI gx_k0))) (Nat.le_of_ble_eq_true rfl) (fun X hl hAx hX => ?_)
  subst hl
  subst hAx
  show gx_G X (gm_P w σ) 0 0 [some (va_rf (some (gw_mo w))), some (.int (x1)), some (.int (x2))] 0 []
  unfold fX3_fitFor at h
  refine gx_aload_n hX dX3_fitFor_0 rfl ?_
  refine gm_getA hX 1 (by decide) (by decide) q1342 rfl dX3_fitFor_1 ?_
  refine gx_bipush (v := nI 10) hX dX3_fitFor_4 (by decide) ?_
  refine gx_iload_n hX dX3_fitFor_6 rfl ?_
  refine gx_iadd hX dX3_fitFor_7 ?_
  refine gm_ld hX (by decide) dX3_fitFor_8 h (fun v1 h => ?_)
  refine gx_aload_n hX dX3_fitFor_9 rfl ?_
  refine gm_getA hX 1 (by decide) (by decide) q1342 rfl dX3_fitFor_10 ?_
  refine gx_bipush (v := nI 30) hX dX3_fitFor_13 (by decide) ?_
  refine gx_iload_n hX dX3_fitFor_15 rfl ?_
  refine gx_iadd hX dX3_fitFor_16 ?_
  refine gm_ld hX (by decide) dX3_fitFor_17 h (fun v2 h => ?_)
  refine gx_aload_n hX dX3_fitFor_18 rfl ?_
  refine gm_getA hX 1 (by decide) (by decide) q1342 rfl dX3_fitFor_19 ?_
  refine gx_bipush (v := nI 50) hX dX3_fitFor_22 (by decide) ?_
  refine gx_iload_n hX dX3_fitFor_24 rfl ?_
  refine gx_iadd hX dX3_fitFor_25 ?_
  refine gm_ld hX (by decide) dX3_fitFor_26 h (fun v3 h => ?_)
  refine gx_iload_n hX dX3_fitFor_27 rfl ?_
  obtain ⟨r4, hr4, h⟩ := gx_bs h
  refine gx_cS (As := [.int (v1), .int (v2), .int (v3), .int (x2)]) (rest := []) hX (tX3_fitOf w (gx_A X) (gx_l X) (gm_P w σ) (v1) (v2) (v3) (x2) hr4) (lw_S q1530 q1531 q92 q1532) dsX3_fitOf (by decide) (by decide) rfl (gx_w8 gx_k0 (Nat.le_of_ble_eq_true rfl)) dX3_fitFor_28 ⟨Nat.le_refl _, Nat.le_refl _⟩ rfl ?_
  cases h
  exact gx_iret hX rfl dX3_fitFor_31 rfl ⟨rfl, rfl⟩ (fun _ h => h)
abbrev iX3_own : gx_M := (RX3, "own", cX3_own, 2, some .int)
theorem dsX3_own : gx_ds yX3_own 1 := by decide +kernel
def fX3_own (σ : gm_S) (x1 : Int32) : Option (Int32) := (fX3_isHoused (σ) (x1)).bind fun r1 => if r1 = 0 then (gm_rd σ 1 ((nI 166) + (x1))).bind fun v2 => if v2 = 1 then some ((-50)) else some ((-100)) else (gm_rd σ 1 ((nI 178) + (x1))).bind fun v3 => (gm_rd σ 1 ((nI 130) + (x1))).bind fun v4 => (fX3_fitFor (σ) (v3) (v4)).bind fun r5 => some (r5)
set_option maxHeartbeats 4000000 in
theorem tX3_own (w : gw_W) (A : Nat → Prop) (hA : ∀ q, gm_A w q → A q) (l : Launch) (σ : gm_S) (x1 : Int32) {r : Int32} (h : fX3_own σ x1 = some r) : gx_T (gw_I w A) A l yX3_own iX3_own 3 [va_rf (some (gw_mo w)), .int (x1)] (gm_P w σ) 0 0 (gm_P w σ) (.returned (some (.int r))) := by
  refine gx_T.of (gw_I.inv w A) (by decide) ⟨rfl, rfl⟩ (gx_kR (gx_kI gx_k0)) (Nat.le_of_ble_eq_true rfl) (fun X hl hAx hX => ?_)
  subst hl
  subst hAx
  show gx_G X (gm_P w σ) 0 0 [some (va_rf (some (gw_mo w))), some (.int (x1))] 0 []
  unfold fX3_own at h
  refine gx_aload_n hX dX3_own_0 rfl ?_
  refine gx_iload_n hX dX3_own_1 rfl ?_
  obtain ⟨r1, hr1, h⟩ := gx_bs h
  refine gx_cV (As := [.int (x1)]) (rest := []) (b := gw_mo w) hX (tX3_isHoused w _ hA (gx_l X) (σ) (x1) hr1) (lw_V q1510 q1512 qs38 q92 q1513) ⟨rfl, dsX3_isHoused⟩ (by decide) (by decide) (gm_rc hX) rfl (gx_w8 gx_k0 (Nat.le_of_ble_eq_true rfl)) dX3_own_2 ⟨Nat.le_refl _, Nat.le_refl _⟩ rfl ?_
  refine gx_if_eq (tgt := 35) hX dX3_own_5 (by decide) h (fun h => ?_) (fun h => ?_)
  · refine gx_aload_n hX dX3_own_35 rfl ?_
    refine gm_getA hX 1 (by decide) (by decide) q1342 rfl dX3_own_36 ?_
    refine gx_sipush (v := nI 166) hX dX3_own_39 (by decide) ?_
    refine gx_iload_n hX dX3_own_42 rfl ?_
    refine gx_iadd hX dX3_own_43 ?_
    refine gm_ld hX (by decide) dX3_own_44 h (fun v2 h => ?_)
    refine gx_iconst (v := 1) hX dX3_own_45 (by decide) ?_
    refine gx_icmp_ne (tgt := 54) hX dX3_own_46 (by decide) h (fun h => ?_) (fun h => ?_)
    · refine gx_bipush (v := (-50)) hX dX3_own_49 (by decide) ?_
      refine gx_goto (tgt := 56) hX dX3_own_51 (by decide) ?_
      cases h
      exact gx_iret hX rfl dX3_own_56 rfl ⟨rfl, rfl⟩ (fun _ h => h)
    · refine gx_bipush (v := (-100)) hX dX3_own_54 (by decide) ?_
      cases h
      exact gx_iret hX rfl dX3_own_56 rfl ⟨rfl, rfl⟩ (fun _ h => h)
  · refine gx_aload_n hX dX3_own_8 rfl ?_
    refine gx_aload_n hX dX3_own_9 rfl ?_
    refine gm_getA hX 1 (by decide) (by decide) q1342 rfl dX3_own_10 ?_
    refine gx_sipush (v := nI 178) hX dX3_own_13 (by decide) ?_
    refine gx_iload_n hX dX3_own_16 rfl ?_
    refine gx_iadd hX dX3_own_17 ?_
    refine gm_ld hX (by decide) dX3_own_18 h (fun v3 h => ?_)
    refine gx_aload_n hX dX3_own_19 rfl ?_
    refine gm_getA hX 1 (by decide) (by decide) q1342 rfl dX3_own_20 ?_
    refine gx_sipush (v := nI 130) hX dX3_own_23 (by decide) ?_
    refine gx_iload_n hX dX3_own_26 rfl ?_
    refine gx_iadd hX dX3_own_27 ?_
    refine gm_ld hX (by decide) dX3_own_28 h (fun v4 h => ?_)
    obtain ⟨r5, hr5, h⟩ := gx_bs h
    refine gx_cV (As := [.int (v3), .int (v4)]) (rest := []) (b := gw_mo w) hX (tX3_fitFor w _ hA (gx_l X) (σ) (v3) (v4) hr5) (lw_V q1526 q1528 qs42 q92 q1529) ⟨rfl, dsX3_fitFor⟩ (by decide) (by decide) (gm_rc hX) rfl (gx_w8 gx_k0 (Nat.le_of_ble_eq_true rfl)) dX3_own_29 ⟨Nat.le_refl _, Nat.le_refl _⟩ rfl ?_
    refine gx_goto (tgt := 56) hX dX3_own_32 (by decide) ?_
    cases h
    exact gx_iret hX rfl dX3_own_56 rfl ⟨rfl, rfl⟩ (fun _ h => h)
abbrev iX3_about : gx_M := (RX3, "about", cX3_about, 3, some .int)
theorem dsX3_about : gx_ds yX3_about 2 := by decide +kernel
def fX3_about (N : Nat) (σ : gm_S) (x1 : Int32) (x2 : Int32) : Option (Int32) := (fX3_isCrab (σ) (x1)).bind fun r1 => if r1 = 0 then some ((-1)) else if x2 = 0 then (fX3_kindOf N (σ) (x1)).bind fun r2 => some (r2) else if x2 = 1 then (gm_rd σ 1 ((nI 142) + (x1))).bind fun v3 => some (v3) else if x2 = 2 then (gm_rd σ 1 ((nI 130) + (x1))).bind fun v4 => some (v4) else if x2 = 3 then (gm_rd σ 1 ((nI 178) + (x1))).bind fun v5 => if v5 = (-1) then some ((-5)) else (gm_rd σ 1 ((nI 178) + (x1))).bind fun v6 => some (v6) else if x2 = 4 then (gm_rd σ 1 ((nI 190) + (x1))).bind fun v7 => some (v7) else if x2 = 5 then (fX3_own (σ) (x1)).bind fun r8 => some (r8) else if x2 = nI 6 then (gm_rd σ 1 ((nI 202) + (x1))).bind fun v9 => some (v9) else if x2 = nI 7 then (gm_rd σ 1 ((nI 214) + (x1))).bind fun v10 => if v10 = (-1) then some ((-5)) else (gm_rd σ 1 ((nI 214) + (x1))).bind fun v11 => some (v11) else some ((-1))
set_option maxHeartbeats 4000000 in
theorem tX3_about (w : gw_W) (A : Nat → Prop) (hA : ∀ q, gm_A w q → A q) (l : Launch) (N : Nat) (σ : gm_S) (x1 : Int32) (x2 : Int32) {r : Int32} (h : fX3_about N σ x1 x2 = some r) : gx_T (gw_I w A) A l yX3_about iX3_about 4 [va_rf (some (gw_mo w)), .int (x1), .int (x2)] (gm_P w σ) 0 0 (gm_P w σ) (.returned (some (.int r))) := by
  refine gx_T.of (gw_I.inv w A) (by decide) ⟨rfl, rfl⟩ (gx_kR (gx_kI (gx_kI gx_k0))) (Nat.le_of_ble_eq_true rfl) (fun X hl hAx hX => ?_)
  subst hl
  subst hAx
  show gx_G X (gm_P w σ) 0 0 [some (va_rf (some (gw_mo w))), some (.int (x1)), some (.int (x2))] 0 []
  unfold fX3_about at h
  refine gx_aload_n hX dX3_about_0 rfl ?_
  refine gx_iload_n hX dX3_about_1 rfl ?_
  obtain ⟨r1, hr1, h⟩ := gx_bs h
  refine gx_cV (As := [.int (x1)]) (rest := []) (b := gw_mo w) hX (tX3_isCrab w _ hA (gx_l X) (σ) (x1) hr1) (lw_V q1486 q1488 qs35 q92 q1489) ⟨rfl, dsX3_isCrab⟩ (by decide) (by decide) (gm_rc hX) rfl (gx_w8 gx_k0 (Nat.le_of_ble_eq_true rfl)) dX3_about_2 ⟨Nat.le_refl _, Nat.le_refl _⟩ rfl ?_
  refine gx_if_ne (tgt := 10) hX dX3_about_5 (by decide) h (fun h => ?_) (fun h => ?_)
  · refine gx_iconst (v := (-1)) hX dX3_about_8 (by decide) ?_
    cases h
    exact gx_iret hX rfl dX3_about_9 rfl ⟨rfl, rfl⟩ (fun _ h => h)
  · refine gx_iload_n hX dX3_about_10 rfl ?_
    by_cases c0 : x2 = 0
    · rw [if_pos c0] at h
      refine gx_tsw (off := 45) (tgt := 56) hX dX3_about_11 (by decide) (by rw [c0]; decide) (by decide) ?_
      refine gx_aload_n hX dX3_about_56 rfl ?_
      refine gx_iload_n hX dX3_about_57 rfl ?_
      obtain ⟨r2, hr2, h⟩ := gx_bs h
      refine gx_cV (As := [.int (x1)]) (rest := []) (b := gw_mo w) hX (tX3_kindOf w _ hA (gx_l X) N (σ) (x1) hr2) (lw_V q1506 q1508 qs37 q92 q1509) ⟨rfl, dsX3_kindOf⟩ (by decide) (by decide) (gm_rc hX) rfl (gx_w8 gx_k0 (Nat.le_of_ble_eq_true rfl)) dX3_about_58 ⟨Nat.le_refl _, Nat.le_refl _⟩ rfl ?_
      cases h
      exact gx_iret hX rfl dX3_about_61 rfl ⟨rfl, rfl⟩ (fun _ h => h)
    · rw [if_neg c0] at h
      by_cases c1 : x2 = 1
      · rw [if_pos c1] at h
        refine gx_tsw (off := 51) (tgt := 62) hX dX3_about_11 (by decide) (by rw [c1]; decide) (by decide) ?_
        refine gx_aload_n hX dX3_about_62 rfl ?_
        refine gm_getA hX 1 (by decide) (by decide) q1342 rfl dX3_about_63 ?_
        refine gx_sipush (v := nI 142) hX dX3_about_66 (by decide) ?_
        refine gx_iload_n hX dX3_about_69 rfl ?_
        refine gx_iadd hX dX3_about_70 ?_
        refine gm_ld hX (by decide) dX3_about_71 h (fun v3 h => ?_)
        cases h
        exact gx_iret hX rfl dX3_about_72 rfl ⟨rfl, rfl⟩ (fun _ h => h)
      · rw [if_neg c1] at h
        by_cases c2 : x2 = 2
        · rw [if_pos c2] at h
          refine gx_tsw (off := 62) (tgt := 73) hX dX3_about_11 (by decide) (by rw [c2]; decide) (by decide) ?_
          refine gx_aload_n hX dX3_about_73 rfl ?_
          refine gm_getA hX 1 (by decide) (by decide) q1342 rfl dX3_about_74 ?_
          refine gx_sipush (v := nI 130) hX dX3_about_77 (by decide) ?_
          refine gx_iload_n hX dX3_about_80 rfl ?_
          refine gx_iadd hX dX3_about_81 ?_
          refine gm_ld hX (by decide) dX3_about_82 h (fun v4 h => ?_)
          cases h
          exact gx_iret hX rfl dX3_about_83 rfl ⟨rfl, rfl⟩ (fun _ h => h)
        · rw [if_neg c2] at h
          by_cases c3 : x2 = 3
          · rw [if_pos c3] at h
            refine gx_tsw (off := 73) (tgt := 84) hX dX3_about_11 (by decide) (by rw [c3]; decide) (by decide) ?_
            refine gx_aload_n hX dX3_about_84 rfl ?_
            refine gm_getA hX 1 (by decide) (by decide) q1342 rfl dX3_about_85 ?_
            refine gx_sipush (v := nI 178) hX dX3_about_88 (by decide) ?_
            refine gx_iload_n hX dX3_about_91 rfl ?_
            refine gx_iadd hX dX3_about_92 ?_
            refine gm_ld hX (by decide) dX3_about_93 h (fun v5 h => ?_)
            refine gx_iconst (v := (-1)) hX dX3_about_94 (by decide) ?_
            refine gx_icmp_ne (tgt := 103) hX dX3_about_95 (by decide) h (fun h => ?_) (fun h => ?_)
            · refine gx_bipush (v := (-5)) hX dX3_about_98 (by decide) ?_
              refine gx_goto (tgt := 113) hX dX3_about_100 (by decide) ?_
              cases h
              exact gx_iret hX rfl dX3_about_113 rfl ⟨rfl, rfl⟩ (fun _ h => h)
            · refine gx_aload_n hX dX3_about_103 rfl ?_
              refine gm_getA hX 1 (by decide) (by decide) q1342 rfl dX3_about_104 ?_
              refine gx_sipush (v := nI 178) hX dX3_about_107 (by decide) ?_
              refine gx_iload_n hX dX3_about_110 rfl ?_
              refine gx_iadd hX dX3_about_111 ?_
              refine gm_ld hX (by decide) dX3_about_112 h (fun v6 h => ?_)
              cases h
              exact gx_iret hX rfl dX3_about_113 rfl ⟨rfl, rfl⟩ (fun _ h => h)
          · rw [if_neg c3] at h
            by_cases c4 : x2 = 4
            · rw [if_pos c4] at h
              refine gx_tsw (off := 103) (tgt := 114) hX dX3_about_11 (by decide) (by rw [c4]; decide) (by decide) ?_
              refine gx_aload_n hX dX3_about_114 rfl ?_
              refine gm_getA hX 1 (by decide) (by decide) q1342 rfl dX3_about_115 ?_
              refine gx_sipush (v := nI 190) hX dX3_about_118 (by decide) ?_
              refine gx_iload_n hX dX3_about_121 rfl ?_
              refine gx_iadd hX dX3_about_122 ?_
              refine gm_ld hX (by decide) dX3_about_123 h (fun v7 h => ?_)
              cases h
              exact gx_iret hX rfl dX3_about_124 rfl ⟨rfl, rfl⟩ (fun _ h => h)
            · rw [if_neg c4] at h
              by_cases c5 : x2 = 5
              · rw [if_pos c5] at h
                refine gx_tsw (off := 114) (tgt := 125) hX dX3_about_11 (by decide) (by rw [c5]; decide) (by decide) ?_
                refine gx_aload_n hX dX3_about_125 rfl ?_
                refine gx_iload_n hX dX3_about_126 rfl ?_
                obtain ⟨r8, hr8, h⟩ := gx_bs h
                refine gx_cV (As := [.int (x1)]) (rest := []) (b := gw_mo w) hX (tX3_own w _ hA (gx_l X) (σ) (x1) hr8) (lw_V q1522 q1524 qs41 q92 q1525) ⟨rfl, dsX3_own⟩ (by decide) (by decide) (gm_rc hX) rfl (gx_w8 gx_k0 (Nat.le_of_ble_eq_true rfl)) dX3_about_127 ⟨Nat.le_refl _, Nat.le_refl _⟩ rfl ?_
                cases h
                exact gx_iret hX rfl dX3_about_130 rfl ⟨rfl, rfl⟩ (fun _ h => h)
              · rw [if_neg c5] at h
                by_cases c6 : x2 = nI 6
                · rw [if_pos c6] at h
                  refine gx_tsw (off := 120) (tgt := 131) hX dX3_about_11 (by decide) (by rw [c6]; decide) (by decide) ?_
                  refine gx_aload_n hX dX3_about_131 rfl ?_
                  refine gm_getA hX 1 (by decide) (by decide) q1342 rfl dX3_about_132 ?_
                  refine gx_sipush (v := nI 202) hX dX3_about_135 (by decide) ?_
                  refine gx_iload_n hX dX3_about_138 rfl ?_
                  refine gx_iadd hX dX3_about_139 ?_
                  refine gm_ld hX (by decide) dX3_about_140 h (fun v9 h => ?_)
                  cases h
                  exact gx_iret hX rfl dX3_about_141 rfl ⟨rfl, rfl⟩ (fun _ h => h)
                · rw [if_neg c6] at h
                  by_cases c7 : x2 = nI 7
                  · rw [if_pos c7] at h
                    refine gx_tsw (off := 131) (tgt := 142) hX dX3_about_11 (by decide) (by rw [c7]; decide) (by decide) ?_
                    refine gx_aload_n hX dX3_about_142 rfl ?_
                    refine gm_getA hX 1 (by decide) (by decide) q1342 rfl dX3_about_143 ?_
                    refine gx_sipush (v := nI 214) hX dX3_about_146 (by decide) ?_
                    refine gx_iload_n hX dX3_about_149 rfl ?_
                    refine gx_iadd hX dX3_about_150 ?_
                    refine gm_ld hX (by decide) dX3_about_151 h (fun v10 h => ?_)
                    refine gx_iconst (v := (-1)) hX dX3_about_152 (by decide) ?_
                    refine gx_icmp_ne (tgt := 161) hX dX3_about_153 (by decide) h (fun h => ?_) (fun h => ?_)
                    · refine gx_bipush (v := (-5)) hX dX3_about_156 (by decide) ?_
                      refine gx_goto (tgt := 171) hX dX3_about_158 (by decide) ?_
                      cases h
                      exact gx_iret hX rfl dX3_about_171 rfl ⟨rfl, rfl⟩ (fun _ h => h)
                    · refine gx_aload_n hX dX3_about_161 rfl ?_
                      refine gm_getA hX 1 (by decide) (by decide) q1342 rfl dX3_about_162 ?_
                      refine gx_sipush (v := nI 214) hX dX3_about_165 (by decide) ?_
                      refine gx_iload_n hX dX3_about_168 rfl ?_
                      refine gx_iadd hX dX3_about_169 ?_
                      refine gm_ld hX (by decide) dX3_about_170 h (fun v11 h => ?_)
                      cases h
                      exact gx_iret hX rfl dX3_about_171 rfl ⟨rfl, rfl⟩ (fun _ h => h)
                  · rw [if_neg c7] at h
                    have e0 : (x2).toInt ≠ 0 := gx_nei c0
                    have e1 : (x2).toInt ≠ 1 := gx_nei c1
                    have e2 : (x2).toInt ≠ 2 := gx_nei c2
                    have e3 : (x2).toInt ≠ 3 := gx_nei c3
                    have e4 : (x2).toInt ≠ 4 := gx_nei c4
                    have e5 : (x2).toInt ≠ 5 := gx_nei c5
                    have e6 : (x2).toInt ≠ 6 := gx_nei c6
                    have e7 : (x2).toInt ≠ 7 := gx_nei c7
                    refine gx_tsw (off := 161) (tgt := 172) hX dX3_about_11 (by decide) (by unfold gx_to; rw [if_pos (by omega)]) (by decide) ?_
                    refine gx_iconst (v := (-1)) hX dX3_about_172 (by decide) ?_
                    cases h
                    exact gx_iret hX rfl dX3_about_173 rfl ⟨rfl, rfl⟩ (fun _ h => h)
abbrev iX3_fit : gx_M := (RX3, "fit", cX3_fit, 3, some .int)
theorem dsX3_fit : gx_ds yX3_fit 2 := by decide +kernel
def fX3_fit (σ : gm_S) (x1 : Int32) (x2 : Int32) : Option (Int32) := (fX3_isShell (σ) (x1)).bind fun r1 => if r1 = 0 then some ((-1)) else (fX3_in  (x2) (1) (nI 40)).bind fun r2 => if r2 = 0 then some ((-2)) else (fX3_fitFor (σ) (x1) (x2)).bind fun r3 => some (r3)
set_option maxHeartbeats 4000000 in
theorem tX3_fit (w : gw_W) (A : Nat → Prop) (hA : ∀ q, gm_A w q → A q) (l : Launch) (σ : gm_S) (x1 : Int32) (x2 : Int32) {r : Int32} (h : fX3_fit σ x1 x2 = some r) : gx_T (gw_I w A) A l yX3_fit iX3_fit 3 [va_rf (some (gw_mo w)), .int (x1), .int (x2)] (gm_P w σ) 0 0 (gm_P w σ) (.returned (some (.int r))) := by
  refine gx_T.of (gw_I.inv w A) (by decide) ⟨rfl, rfl⟩ (gx_kR (gx_kI (gx_kI gx_k0))) (Nat.le_of_ble_eq_true rfl) (fun X hl hAx hX => ?_)
  subst hl
  subst hAx
  show gx_G X (gm_P w σ) 0 0 [some (va_rf (some (gw_mo w))), some (.int (x1)), some (.int (x2))] 0 []
  unfold fX3_fit at h
  refine gx_aload_n hX dX3_fit_0 rfl ?_
  refine gx_iload_n hX dX3_fit_1 rfl ?_
  obtain ⟨r1, hr1, h⟩ := gx_bs h
  refine gx_cV (As := [.int (x1)]) (rest := []) (b := gw_mo w) hX (tX3_isShell w _ hA (gx_l X) (σ) (x1) hr1) (lw_V q1474 q1476 qs33 q92 q1477) ⟨rfl, dsX3_isShell⟩ (by decide) (by decide) (gm_rc hX) rfl (gx_w8 gx_k0 (Nat.le_of_ble_eq_true rfl)) dX3_fit_2 ⟨Nat.le_refl _, Nat.le_refl _⟩ rfl ?_
  refine gx_if_ne (tgt := 10) hX dX3_fit_5 (by decide) h (fun h => ?_) (fun h => ?_)
  · refine gx_iconst (v := (-1)) hX dX3_fit_8 (by decide) ?_
    cases h
    exact gx_iret hX rfl dX3_fit_9 rfl ⟨rfl, rfl⟩ (fun _ h => h)
  · refine gx_iload_n hX dX3_fit_10 rfl ?_
    refine gx_iconst (v := 1) hX dX3_fit_11 (by decide) ?_
    refine gx_bipush (v := nI 40) hX dX3_fit_12 (by decide) ?_
    obtain ⟨r2, hr2, h⟩ := gx_bs h
    refine gx_cS (As := [.int (x2), .int (1), .int (nI 40)]) (rest := []) hX (tX3_in w (gx_A X) (gx_l X) (gm_P w σ) (x2) (1) (nI 40) hr2) (lw_S q1467 q1468 q92 q1469) dsX3_in (by decide) (by decide) rfl (gx_w8 gx_k0 (Nat.le_of_ble_eq_true rfl)) dX3_fit_14 ⟨Nat.le_refl _, Nat.le_refl _⟩ rfl ?_
    refine gx_if_eq (tgt := 29) hX dX3_fit_17 (by decide) h (fun h => ?_) (fun h => ?_)
    · refine gx_bipush (v := (-2)) hX dX3_fit_29 (by decide) ?_
      cases h
      exact gx_iret hX rfl dX3_fit_31 rfl ⟨rfl, rfl⟩ (fun _ h => h)
    · refine gx_aload_n hX dX3_fit_20 rfl ?_
      refine gx_iload_n hX dX3_fit_21 rfl ?_
      refine gx_iload_n hX dX3_fit_22 rfl ?_
      obtain ⟨r3, hr3, h⟩ := gx_bs h
      refine gx_cV (As := [.int (x1), .int (x2)]) (rest := []) (b := gw_mo w) hX (tX3_fitFor w _ hA (gx_l X) (σ) (x1) (x2) hr3) (lw_V q1526 q1528 qs42 q92 q1529) ⟨rfl, dsX3_fitFor⟩ (by decide) (by decide) (gm_rc hX) rfl (gx_w8 gx_k0 (Nat.le_of_ble_eq_true rfl)) dX3_fit_23 ⟨Nat.le_refl _, Nat.le_refl _⟩ rfl ?_
      refine gx_goto (tgt := 31) hX dX3_fit_26 (by decide) ?_
      cases h
      exact gx_iret hX rfl dX3_fit_31 rfl ⟨rfl, rfl⟩ (fun _ h => h)
abbrev iX3_end : gx_M := (RX3, "end", cX3_end, 5, some .int)
theorem dsX3_end : gx_ds yX3_end 2 := by decide +kernel
def fX3_end_B149   (σ : gm_S) (x3 : Int32) (y0 : Int32) (y1 : Int32) : Option (gm_S × Int32) := (gm_wr σ 1 (y1) (y0)).bind fun σ4 => some (σ4, x3)
set_option maxHeartbeats 4000000 in
theorem tX3_end_B149 {w : gw_W} {X : gx_X} {r : gm_S × Int32} (hA : ∀ q, gm_A w q → gx_A X q) (hX : gx_O (gw_I w (gx_A X)) X iX3_end 3 0 0 (gm_P w r.1) (.returned (some (.int r.2))))  {σ : gm_S} {x3 : Int32} {y0 : Int32} {y1 : Int32} (h : fX3_end_B149 σ x3 y0 y1 = some r) : gx_G X (gm_P w σ) 0 0 [none, none, none, some (.int (x3)), none] 149 [.int (y0), .int (y1), va_rf (some (gm_a w 1))] := by
  unfold fX3_end_B149 at h
  refine gm_st hX hA (by decide) dX3_end_149 h (fun σ4 h => ?_)
  refine gx_iload_n hX dX3_end_150 rfl ?_
  cases h
  exact gx_iret hX rfl dX3_end_151 rfl ⟨rfl, rfl⟩ (fun _ h => h)
def fX3_end_B123   (σ : gm_S) (x1 : Int32) (x2 : Int32) (x3 : Int32) : Option (gm_S × Int32) := if x2 = 0 then fX3_end_B149 σ (x3) (4) ((nI 90) + (x1)) else if x2 = 1 then fX3_end_B149 σ (x3) (3) ((nI 90) + (x1)) else fX3_end_B149 σ (x3) (0) ((nI 90) + (x1))
set_option maxHeartbeats 4000000 in
theorem tX3_end_B123 {w : gw_W} {X : gx_X} {r : gm_S × Int32} (hA : ∀ q, gm_A w q → gx_A X q) (hX : gx_O (gw_I w (gx_A X)) X iX3_end 3 0 0 (gm_P w r.1) (.returned (some (.int r.2))))  {σ : gm_S} {x1 : Int32} {x2 : Int32} {x3 : Int32} (h : fX3_end_B123 σ x1 x2 x3 = some r) : gx_G X (gm_P w σ) 0 0 [some (va_rf (some (gw_mo w))), some (.int (x1)), some (.int (x2)), some (.int (x3)), none] 123 [] := by
  unfold fX3_end_B123 at h
  refine gx_aload_n hX dX3_end_123 rfl ?_
  refine gm_getA hX 1 (by decide) (by decide) q1342 rfl dX3_end_124 ?_
  refine gx_bipush (v := nI 90) hX dX3_end_127 (by decide) ?_
  refine gx_iload_n hX dX3_end_129 rfl ?_
  refine gx_iadd hX dX3_end_130 ?_
  refine gx_iload_n hX dX3_end_131 rfl ?_
  refine gx_if_ne (tgt := 139) hX dX3_end_132 (by decide) h (fun h => ?_) (fun h => ?_)
  · refine gx_iconst (v := 4) hX dX3_end_135 (by decide) ?_
    refine gx_goto (tgt := 149) hX dX3_end_136 (by decide) ?_
    refine gx_sub hX (lv' := [none, none, none, some (.int (x3)), none]) ⟨Or.inl rfl, ⟨Or.inl rfl, ⟨Or.inl rfl, ⟨Or.inr rfl, ⟨Or.inr rfl, trivial⟩⟩⟩⟩⟩ ?_
    exact tX3_end_B149 hA hX  h
  · refine gx_iload_n hX dX3_end_139 rfl ?_
    refine gx_iconst (v := 1) hX dX3_end_140 (by decide) ?_
    refine gx_icmp_ne (tgt := 148) hX dX3_end_141 (by decide) h (fun h => ?_) (fun h => ?_)
    · refine gx_iconst (v := 3) hX dX3_end_144 (by decide) ?_
      refine gx_goto (tgt := 149) hX dX3_end_145 (by decide) ?_
      refine gx_sub hX (lv' := [none, none, none, some (.int (x3)), none]) ⟨Or.inl rfl, ⟨Or.inl rfl, ⟨Or.inl rfl, ⟨Or.inr rfl, ⟨Or.inr rfl, trivial⟩⟩⟩⟩⟩ ?_
      exact tX3_end_B149 hA hX  h
    · refine gx_iconst (v := 0) hX dX3_end_148 (by decide) ?_
      refine gx_sub hX (lv' := [none, none, none, some (.int (x3)), none]) ⟨Or.inl rfl, ⟨Or.inl rfl, ⟨Or.inl rfl, ⟨Or.inr rfl, ⟨Or.inr rfl, trivial⟩⟩⟩⟩⟩ ?_
      exact tX3_end_B149 hA hX  h
def fX3_end_B113   (σ : gm_S) (x1 : Int32) (x2 : Int32) (x3 : Int32) : Option (gm_S × Int32) := (gm_wr σ 1 ((nI 110) + (x1)) ((-1))).bind fun σ6 => fX3_end_B123 σ6 (x1) (x2) (x3)
set_option maxHeartbeats 4000000 in
theorem tX3_end_B113 {w : gw_W} {X : gx_X} {r : gm_S × Int32} (hA : ∀ q, gm_A w q → gx_A X q) (hX : gx_O (gw_I w (gx_A X)) X iX3_end 3 0 0 (gm_P w r.1) (.returned (some (.int r.2))))  {σ : gm_S} {x1 : Int32} {x2 : Int32} {x3 : Int32} (h : fX3_end_B113 σ x1 x2 x3 = some r) : gx_G X (gm_P w σ) 0 0 [some (va_rf (some (gw_mo w))), some (.int (x1)), some (.int (x2)), some (.int (x3)), none] 113 [] := by
  unfold fX3_end_B113 at h
  refine gx_aload_n hX dX3_end_113 rfl ?_
  refine gm_getA hX 1 (by decide) (by decide) q1342 rfl dX3_end_114 ?_
  refine gx_bipush (v := nI 110) hX dX3_end_117 (by decide) ?_
  refine gx_iload_n hX dX3_end_119 rfl ?_
  refine gx_iadd hX dX3_end_120 ?_
  refine gx_iconst (v := (-1)) hX dX3_end_121 (by decide) ?_
  refine gm_st hX hA (by decide) dX3_end_122 h (fun σ6 h => ?_)
  exact tX3_end_B123 hA hX  h
def fX3_end_B56   (σ : gm_S) (x1 : Int32) (x2 : Int32) (x3 : Int32) : Option (gm_S × Int32) := if x2 = 0 then (gm_rd σ 1 ((nI 110) + (x1))).bind fun v5 => if v5 = (-1) then fX3_end_B113 σ (x1) (x2) (x3) else (gm_wr σ 1 ((nI 166) + (v5)) (1)).bind fun σ7 => (gm_wr σ7 1 ((nI 178) + (v5)) ((-1))).bind fun σ8 => (gm_wr σ8 1 ((nI 190) + (v5)) (0)).bind fun σ9 => fX3_end_B113 σ9 (x1) (x2) (x3) else fX3_end_B123 σ (x1) (x2) (x3)
set_option maxHeartbeats 4000000 in
theorem tX3_end_B56 {w : gw_W} {X : gx_X} {r : gm_S × Int32} (hA : ∀ q, gm_A w q → gx_A X q) (hX : gx_O (gw_I w (gx_A X)) X iX3_end 3 0 0 (gm_P w r.1) (.returned (some (.int r.2))))  {σ : gm_S} {x1 : Int32} {x2 : Int32} {x3 : Int32} (h : fX3_end_B56 σ x1 x2 x3 = some r) : gx_G X (gm_P w σ) 0 0 [some (va_rf (some (gw_mo w))), some (.int (x1)), some (.int (x2)), some (.int (x3)), none] 56 [] := by
  unfold fX3_end_B56 at h
  refine gx_iload_n hX dX3_end_56 rfl ?_
  refine gx_if_ne (tgt := 123) hX dX3_end_57 (by decide) h (fun h => ?_) (fun h => ?_)
  · refine gx_aload_n hX dX3_end_60 rfl ?_
    refine gm_getA hX 1 (by decide) (by decide) q1342 rfl dX3_end_61 ?_
    refine gx_bipush (v := nI 110) hX dX3_end_64 (by decide) ?_
    refine gx_iload_n hX dX3_end_66 rfl ?_
    refine gx_iadd hX dX3_end_67 ?_
    refine gm_ld hX (by decide) dX3_end_68 h (fun v5 h => ?_)
    refine gx_istore hX dX3_end_69 (Nat.le_of_ble_eq_true rfl) gx_c1i (lv' := [some (va_rf (some (gw_mo w))), some (.int (x1)), some (.int (x2)), some (.int (x3)), some (.int (v5))]) rfl ?_
    refine gx_iload hX dX3_end_71 rfl ?_
    refine gx_iconst (v := (-1)) hX dX3_end_73 (by decide) ?_
    refine gx_icmp_eq (tgt := 113) hX dX3_end_74 (by decide) h (fun h => ?_) (fun h => ?_)
    · refine gx_sub hX (lv' := [some (va_rf (some (gw_mo w))), some (.int (x1)), some (.int (x2)), some (.int (x3)), none]) ⟨Or.inr rfl, ⟨Or.inr rfl, ⟨Or.inr rfl, ⟨Or.inr rfl, ⟨Or.inl rfl, trivial⟩⟩⟩⟩⟩ ?_
      exact tX3_end_B113 hA hX  h
    · refine gx_aload_n hX dX3_end_77 rfl ?_
      refine gm_getA hX 1 (by decide) (by decide) q1342 rfl dX3_end_78 ?_
      refine gx_sipush (v := nI 166) hX dX3_end_81 (by decide) ?_
      refine gx_iload hX dX3_end_84 rfl ?_
      refine gx_iadd hX dX3_end_86 ?_
      refine gx_iconst (v := 1) hX dX3_end_87 (by decide) ?_
      refine gm_st hX hA (by decide) dX3_end_88 h (fun σ7 h => ?_)
      refine gx_aload_n hX dX3_end_89 rfl ?_
      refine gm_getA hX 1 (by decide) (by decide) q1342 rfl dX3_end_90 ?_
      refine gx_sipush (v := nI 178) hX dX3_end_93 (by decide) ?_
      refine gx_iload hX dX3_end_96 rfl ?_
      refine gx_iadd hX dX3_end_98 ?_
      refine gx_iconst (v := (-1)) hX dX3_end_99 (by decide) ?_
      refine gm_st hX hA (by decide) dX3_end_100 h (fun σ8 h => ?_)
      refine gx_aload_n hX dX3_end_101 rfl ?_
      refine gm_getA hX 1 (by decide) (by decide) q1342 rfl dX3_end_102 ?_
      refine gx_sipush (v := nI 190) hX dX3_end_105 (by decide) ?_
      refine gx_iload hX dX3_end_108 rfl ?_
      refine gx_iadd hX dX3_end_110 ?_
      refine gx_iconst (v := 0) hX dX3_end_111 (by decide) ?_
      refine gm_st hX hA (by decide) dX3_end_112 h (fun σ9 h => ?_)
      refine gx_sub hX (lv' := [some (va_rf (some (gw_mo w))), some (.int (x1)), some (.int (x2)), some (.int (x3)), none]) ⟨Or.inr rfl, ⟨Or.inr rfl, ⟨Or.inr rfl, ⟨Or.inr rfl, ⟨Or.inl rfl, trivial⟩⟩⟩⟩⟩ ?_
      exact tX3_end_B113 hA hX  h
  · exact tX3_end_B123 hA hX  h
def fX3_end_B43   (σ : gm_S) (x1 : Int32) (x2 : Int32) (x3 : Int32) : Option (gm_S × Int32) := if x2 = 2 then if x3 = 3 then fX3_end_B56 σ (x1) (x2) (x3) else some (σ, (-3)) else fX3_end_B56 σ (x1) (x2) (x3)
set_option maxHeartbeats 4000000 in
theorem tX3_end_B43 {w : gw_W} {X : gx_X} {r : gm_S × Int32} (hA : ∀ q, gm_A w q → gx_A X q) (hX : gx_O (gw_I w (gx_A X)) X iX3_end 3 0 0 (gm_P w r.1) (.returned (some (.int r.2))))  {σ : gm_S} {x1 : Int32} {x2 : Int32} {x3 : Int32} (h : fX3_end_B43 σ x1 x2 x3 = some r) : gx_G X (gm_P w σ) 0 0 [some (va_rf (some (gw_mo w))), some (.int (x1)), some (.int (x2)), some (.int (x3)), none] 43 [] := by
  unfold fX3_end_B43 at h
  refine gx_iload_n hX dX3_end_43 rfl ?_
  refine gx_iconst (v := 2) hX dX3_end_44 (by decide) ?_
  refine gx_icmp_ne (tgt := 56) hX dX3_end_45 (by decide) h (fun h => ?_) (fun h => ?_)
  · refine gx_iload_n hX dX3_end_48 rfl ?_
    refine gx_iconst (v := 3) hX dX3_end_49 (by decide) ?_
    refine gx_icmp_eq (tgt := 56) hX dX3_end_50 (by decide) h (fun h => ?_) (fun h => ?_)
    · exact tX3_end_B56 hA hX  h
    · refine gx_bipush (v := (-3)) hX dX3_end_53 (by decide) ?_
      cases h
      exact gx_iret hX rfl dX3_end_55 rfl ⟨rfl, rfl⟩ (fun _ h => h)
  · exact tX3_end_B56 hA hX  h
def fX3_end (σ : gm_S) (x1 : Int32) (x2 : Int32) : Option (gm_S × Int32) := (fX3_isShell (σ) (x1)).bind fun r1 => if r1 = 0 then some (σ, (-1)) else (fX3_in  (x2) (0) (2)).bind fun r2 => if r2 = 0 then some (σ, (-1)) else (gm_rd σ 1 ((nI 90) + (x1))).bind fun v3 => if v3 = 4 then some (σ, (-3)) else if x2 = 1 then if v3 = 0 then fX3_end_B43 σ (x1) (x2) (v3) else some (σ, (-3)) else fX3_end_B43 σ (x1) (x2) (v3)
set_option maxHeartbeats 4000000 in
theorem tX3_end (w : gw_W) (A : Nat → Prop) (hA : ∀ q, gm_A w q → A q) (l : Launch) (σ : gm_S) (x1 : Int32) (x2 : Int32) {r : gm_S × Int32} (h : fX3_end σ x1 x2 = some r) : gx_T (gw_I w A) A l yX3_end iX3_end 3 [va_rf (some (gw_mo w)), .int (x1), .int (x2)] (gm_P w σ) 0 0 (gm_P w r.1) (.returned (some (.int r.2))) := by
  refine gx_T.of (gw_I.inv w A) (by decide) ⟨rfl, rfl⟩ (gx_kR (gx_kI (gx_kI gx_k0))) (Nat.le_of_ble_eq_true rfl) (fun X hl hAx hX => ?_)
  subst hl
  subst hAx
  show gx_G X (gm_P w σ) 0 0 [some (va_rf (some (gw_mo w))), some (.int (x1)), some (.int (x2)), none, none] 0 []
  unfold fX3_end at h
  refine gx_aload_n hX dX3_end_0 rfl ?_
  refine gx_iload_n hX dX3_end_1 rfl ?_
  obtain ⟨r1, hr1, h⟩ := gx_bs h
  refine gx_cV (As := [.int (x1)]) (rest := []) (b := gw_mo w) hX (tX3_isShell w _ hA (gx_l X) (σ) (x1) hr1) (lw_V q1474 q1476 qs33 q92 q1477) ⟨rfl, dsX3_isShell⟩ (by decide) (by decide) (gm_rc hX) rfl (gx_w8 gx_k0 (Nat.le_of_ble_eq_true rfl)) dX3_end_2 ⟨Nat.le_refl _, Nat.le_refl _⟩ rfl ?_
  refine gx_if_eq (tgt := 17) hX dX3_end_5 (by decide) h (fun h => ?_) (fun h => ?_)
  · refine gx_iconst (v := (-1)) hX dX3_end_17 (by decide) ?_
    cases h
    exact gx_iret hX rfl dX3_end_18 rfl ⟨rfl, rfl⟩ (fun _ h => h)
  · refine gx_iload_n hX dX3_end_8 rfl ?_
    refine gx_iconst (v := 0) hX dX3_end_9 (by decide) ?_
    refine gx_iconst (v := 2) hX dX3_end_10 (by decide) ?_
    obtain ⟨r2, hr2, h⟩ := gx_bs h
    refine gx_cS (As := [.int (x2), .int (0), .int (2)]) (rest := []) hX (tX3_in w (gx_A X) (gx_l X) (gm_P w σ) (x2) (0) (2) hr2) (lw_S q1467 q1468 q92 q1469) dsX3_in (by decide) (by decide) rfl (gx_w8 gx_k0 (Nat.le_of_ble_eq_true rfl)) dX3_end_11 ⟨Nat.le_refl _, Nat.le_refl _⟩ rfl ?_
    refine gx_if_ne (tgt := 19) hX dX3_end_14 (by decide) h (fun h => ?_) (fun h => ?_)
    · refine gx_iconst (v := (-1)) hX dX3_end_17 (by decide) ?_
      cases h
      exact gx_iret hX rfl dX3_end_18 rfl ⟨rfl, rfl⟩ (fun _ h => h)
    · refine gx_aload_n hX dX3_end_19 rfl ?_
      refine gm_getA hX 1 (by decide) (by decide) q1342 rfl dX3_end_20 ?_
      refine gx_bipush (v := nI 90) hX dX3_end_23 (by decide) ?_
      refine gx_iload_n hX dX3_end_25 rfl ?_
      refine gx_iadd hX dX3_end_26 ?_
      refine gm_ld hX (by decide) dX3_end_27 h (fun v3 h => ?_)
      refine gx_istore_n hX dX3_end_28 (Nat.le_of_ble_eq_true rfl) gx_c1i (lv' := [some (va_rf (some (gw_mo w))), some (.int (x1)), some (.int (x2)), some (.int (v3)), none]) rfl ?_
      refine gx_iload_n hX dX3_end_29 rfl ?_
      refine gx_iconst (v := 4) hX dX3_end_30 (by decide) ?_
      refine gx_icmp_eq (tgt := 53) hX dX3_end_31 (by decide) h (fun h => ?_) (fun h => ?_)
      · refine gx_bipush (v := (-3)) hX dX3_end_53 (by decide) ?_
        cases h
        exact gx_iret hX rfl dX3_end_55 rfl ⟨rfl, rfl⟩ (fun _ h => h)
      · refine gx_iload_n hX dX3_end_34 rfl ?_
        refine gx_iconst (v := 1) hX dX3_end_35 (by decide) ?_
        refine gx_icmp_ne (tgt := 43) hX dX3_end_36 (by decide) h (fun h => ?_) (fun h => ?_)
        · refine gx_iload_n hX dX3_end_39 rfl ?_
          refine gx_if_ne (tgt := 53) hX dX3_end_40 (by decide) h (fun h => ?_) (fun h => ?_)
          · exact tX3_end_B43 hA hX  h
          · refine gx_bipush (v := (-3)) hX dX3_end_53 (by decide) ?_
            cases h
            exact gx_iret hX rfl dX3_end_55 rfl ⟨rfl, rfl⟩ (fun _ h => h)
        · exact tX3_end_B43 hA hX  h
abbrev iX3_lies : gx_M := (RX3, "lies", cX3_lies, 2, none)
theorem dsX3_lies : gx_ds yX3_lies 1 := by decide +kernel
def fX3_lies (σ : gm_S) (x1 : Int32) : Option (gm_S) := (gm_wr σ 1 ((nI 90) + (x1)) (0)).bind fun σ1 => (gm_wr σ1 1 ((nI 110) + (x1)) ((-1))).bind fun σ2 => some σ2
set_option maxHeartbeats 4000000 in
theorem tX3_lies (w : gw_W) (A : Nat → Prop) (hA : ∀ q, gm_A w q → A q) (l : Launch) (σ : gm_S) (x1 : Int32) {r : gm_S} (h : fX3_lies σ x1 = some r) : gx_T (gw_I w A) A l yX3_lies iX3_lies 1 [va_rf (some (gw_mo w)), .int (x1)] (gm_P w σ) 0 0 (gm_P w r) (.returned (none)) := by
  refine gx_T.of (gw_I.inv w A) (by decide) ⟨rfl, rfl⟩ (gx_kR (gx_kI gx_k0)) (Nat.le_of_ble_eq_true rfl) (fun X hl hAx hX => ?_)
  subst hl
  subst hAx
  show gx_G X (gm_P w σ) 0 0 [some (va_rf (some (gw_mo w))), some (.int (x1))] 0 []
  unfold fX3_lies at h
  refine gx_aload_n hX dX3_lies_0 rfl ?_
  refine gm_getA hX 1 (by decide) (by decide) q1342 rfl dX3_lies_1 ?_
  refine gx_bipush (v := nI 90) hX dX3_lies_4 (by decide) ?_
  refine gx_iload_n hX dX3_lies_6 rfl ?_
  refine gx_iadd hX dX3_lies_7 ?_
  refine gx_iconst (v := 0) hX dX3_lies_8 (by decide) ?_
  refine gm_st hX hA (by decide) dX3_lies_9 h (fun σ1 h => ?_)
  refine gx_aload_n hX dX3_lies_10 rfl ?_
  refine gm_getA hX 1 (by decide) (by decide) q1342 rfl dX3_lies_11 ?_
  refine gx_bipush (v := nI 110) hX dX3_lies_14 (by decide) ?_
  refine gx_iload_n hX dX3_lies_16 rfl ?_
  refine gx_iadd hX dX3_lies_17 ?_
  refine gx_iconst (v := (-1)) hX dX3_lies_18 (by decide) ?_
  refine gm_st hX hA (by decide) dX3_lies_19 h (fun σ2 h => ?_)
  cases h
  exact gx_vret hX rfl dX3_lies_20 rfl ⟨rfl, rfl⟩ (fun _ h => h)
abbrev iX3_eat : gx_M := (RX3, "eat", cX3_eat, 4, some .int)
theorem dsX3_eat : gx_ds yX3_eat 1 := by decide +kernel
def fX3_eat_B115 (N : Nat)  (K13 : gm_S → Int32 → Int32 → Int32 → Option (gm_S × Int32)) (σ : gm_S) (x1 : Int32) (x2 : Int32) (x3 : Int32) : Option (gm_S × Int32) := K13 σ (x1) (x2) ((x3) + 1)
set_option maxHeartbeats 4000000 in
theorem tX3_eat_B115 {w : gw_W} {X : gx_X} {N : Nat} {r : gm_S × Int32} (hA : ∀ q, gm_A w q → gx_A X q) (hX : gx_O (gw_I w (gx_A X)) X iX3_eat 3 0 0 (gm_P w r.1) (.returned (some (.int r.2)))) {K13 : gm_S → Int32 → Int32 → Int32 → Option (gm_S × Int32)} (hK13 : ∀ (σ : gm_S) (x1 : Int32) (x2 : Int32) (x3 : Int32), K13 σ x1 x2 x3 = some r → gx_G X (gm_P w σ) 0 0 [some (va_rf (some (gw_mo w))), some (.int (x1)), some (.int (x2)), some (.int (x3))] 13 []) {σ : gm_S} {x1 : Int32} {x2 : Int32} {x3 : Int32} (h : fX3_eat_B115 N K13 σ x1 x2 x3 = some r) : gx_G X (gm_P w σ) 0 0 [some (va_rf (some (gw_mo w))), some (.int (x1)), some (.int (x2)), some (.int (x3))] 115 [] := by
  unfold fX3_eat_B115 at h
  refine gx_iinc (v := 1) hX dX3_eat_115 rfl (by decide) gx_c1i (lv' := [some (va_rf (some (gw_mo w))), some (.int (x1)), some (.int (x2)), some (.int ((x3) + 1))]) rfl ?_
  refine gx_goto (tgt := 13) hX dX3_eat_118 (by decide) ?_
  exact hK13 _ _ _ _ h
def fX3_eat_B79 (N : Nat)  (K13 : gm_S → Int32 → Int32 → Int32 → Option (gm_S × Int32)) (σ : gm_S) (x1 : Int32) (x2 : Int32) (x3 : Int32) : Option (gm_S × Int32) := (gm_wr σ 1 ((nI 166) + (x3)) (2)).bind fun σ6 => (gm_wr σ6 1 ((nI 178) + (x3)) ((-1))).bind fun σ7 => (gm_wr σ7 1 ((nI 190) + (x3)) (0)).bind fun σ8 => fX3_eat_B115 N K13 σ8 (x1) ((x2) + 1) (x3)
set_option maxHeartbeats 4000000 in
theorem tX3_eat_B79 {w : gw_W} {X : gx_X} {N : Nat} {r : gm_S × Int32} (hA : ∀ q, gm_A w q → gx_A X q) (hX : gx_O (gw_I w (gx_A X)) X iX3_eat 3 0 0 (gm_P w r.1) (.returned (some (.int r.2)))) {K13 : gm_S → Int32 → Int32 → Int32 → Option (gm_S × Int32)} (hK13 : ∀ (σ : gm_S) (x1 : Int32) (x2 : Int32) (x3 : Int32), K13 σ x1 x2 x3 = some r → gx_G X (gm_P w σ) 0 0 [some (va_rf (some (gw_mo w))), some (.int (x1)), some (.int (x2)), some (.int (x3))] 13 []) {σ : gm_S} {x1 : Int32} {x2 : Int32} {x3 : Int32} (h : fX3_eat_B79 N K13 σ x1 x2 x3 = some r) : gx_G X (gm_P w σ) 0 0 [some (va_rf (some (gw_mo w))), some (.int (x1)), some (.int (x2)), some (.int (x3))] 79 [] := by
  unfold fX3_eat_B79 at h
  refine gx_aload_n hX dX3_eat_79 rfl ?_
  refine gm_getA hX 1 (by decide) (by decide) q1342 rfl dX3_eat_80 ?_
  refine gx_sipush (v := nI 166) hX dX3_eat_83 (by decide) ?_
  refine gx_iload_n hX dX3_eat_86 rfl ?_
  refine gx_iadd hX dX3_eat_87 ?_
  refine gx_iconst (v := 2) hX dX3_eat_88 (by decide) ?_
  refine gm_st hX hA (by decide) dX3_eat_89 h (fun σ6 h => ?_)
  refine gx_aload_n hX dX3_eat_90 rfl ?_
  refine gm_getA hX 1 (by decide) (by decide) q1342 rfl dX3_eat_91 ?_
  refine gx_sipush (v := nI 178) hX dX3_eat_94 (by decide) ?_
  refine gx_iload_n hX dX3_eat_97 rfl ?_
  refine gx_iadd hX dX3_eat_98 ?_
  refine gx_iconst (v := (-1)) hX dX3_eat_99 (by decide) ?_
  refine gm_st hX hA (by decide) dX3_eat_100 h (fun σ7 h => ?_)
  refine gx_aload_n hX dX3_eat_101 rfl ?_
  refine gm_getA hX 1 (by decide) (by decide) q1342 rfl dX3_eat_102 ?_
  refine gx_sipush (v := nI 190) hX dX3_eat_105 (by decide) ?_
  refine gx_iload_n hX dX3_eat_108 rfl ?_
  refine gx_iadd hX dX3_eat_109 ?_
  refine gx_iconst (v := 0) hX dX3_eat_110 (by decide) ?_
  refine gm_st hX hA (by decide) dX3_eat_111 h (fun σ8 h => ?_)
  refine gx_iinc (v := 1) hX dX3_eat_112 rfl (by decide) gx_c1i (lv' := [some (va_rf (some (gw_mo w))), some (.int (x1)), some (.int ((x2) + 1)), some (.int (x3))]) rfl ?_
  exact tX3_eat_B115 hA hX hK13 h
def fX3_eat_L13 (N : Nat)   : Nat → gm_S → Int32 → Int32 → Int32 → Option (gm_S × Int32)
  | 0, _, _, _, _ => none
  | k + 1, σ, x1, x2, x3 => (gm_rd σ 1 (1)).bind fun v2 => if (v2) ≤ x3 then some (σ, x2) else (gm_rd σ 1 ((nI 166) + (x3))).bind fun v3 => if v3 = 1 then (gm_rd σ 1 ((nI 142) + (x3))).bind fun v4 => if v4 = x1 then (gm_rd σ 1 ((nI 178) + (x3))).bind fun v5 => if v5 = (-1) then fX3_eat_B79 N (fX3_eat_L13 N k) σ (x1) (x2) (x3) else (gm_rd σ 1 ((nI 178) + (x3))).bind fun v9 => (fX3_lies (σ) (v9)).bind fun r10 => fX3_eat_B79 N (fX3_eat_L13 N k) r10 (x1) (x2) (x3) else fX3_eat_B115 N (fX3_eat_L13 N k) σ (x1) (x2) (x3) else fX3_eat_B115 N (fX3_eat_L13 N k) σ (x1) (x2) (x3)
set_option maxHeartbeats 4000000 in
theorem tX3_eat_L13 {w : gw_W} {X : gx_X} {N : Nat} {r : gm_S × Int32} (hA : ∀ q, gm_A w q → gx_A X q) (hX : gx_O (gw_I w (gx_A X)) X iX3_eat 3 0 0 (gm_P w r.1) (.returned (some (.int r.2))))  : ∀ (k : Nat) (σ : gm_S) (x1 : Int32) (x2 : Int32) (x3 : Int32), fX3_eat_L13 N k σ x1 x2 x3 = some r → gx_G X (gm_P w σ) 0 0 [some (va_rf (some (gw_mo w))), some (.int (x1)), some (.int (x2)), some (.int (x3))] 13 [] := by
  intro k
  induction k with
  | zero =>
    intro σ x1 x2 x3 h
    unfold fX3_eat_L13 at h
    cases h
  | succ k ih =>
    intro σ x1 x2 x3 h
    unfold fX3_eat_L13 at h
    refine gx_iload_n hX dX3_eat_13 rfl ?_
    refine gx_aload_n hX dX3_eat_14 rfl ?_
    refine gm_getA hX 1 (by decide) (by decide) q1342 rfl dX3_eat_15 ?_
    refine gx_iconst (v := 1) hX dX3_eat_18 (by decide) ?_
    refine gm_ld hX (by decide) dX3_eat_19 h (fun v2 h => ?_)
    refine gx_icmp_ge (tgt := 121) hX dX3_eat_20 (by decide) h (fun h => ?_) (fun h => ?_)
    · refine gx_iload_n hX dX3_eat_121 rfl ?_
      cases h
      exact gx_iret hX rfl dX3_eat_122 rfl ⟨rfl, rfl⟩ (fun _ h => h)
    · refine gx_aload_n hX dX3_eat_23 rfl ?_
      refine gm_getA hX 1 (by decide) (by decide) q1342 rfl dX3_eat_24 ?_
      refine gx_sipush (v := nI 166) hX dX3_eat_27 (by decide) ?_
      refine gx_iload_n hX dX3_eat_30 rfl ?_
      refine gx_iadd hX dX3_eat_31 ?_
      refine gm_ld hX (by decide) dX3_eat_32 h (fun v3 h => ?_)
      refine gx_iconst (v := 1) hX dX3_eat_33 (by decide) ?_
      refine gx_icmp_ne (tgt := 115) hX dX3_eat_34 (by decide) h (fun h => ?_) (fun h => ?_)
      · refine gx_aload_n hX dX3_eat_37 rfl ?_
        refine gm_getA hX 1 (by decide) (by decide) q1342 rfl dX3_eat_38 ?_
        refine gx_sipush (v := nI 142) hX dX3_eat_41 (by decide) ?_
        refine gx_iload_n hX dX3_eat_44 rfl ?_
        refine gx_iadd hX dX3_eat_45 ?_
        refine gm_ld hX (by decide) dX3_eat_46 h (fun v4 h => ?_)
        refine gx_iload_n hX dX3_eat_47 rfl ?_
        refine gx_icmp_ne (tgt := 115) hX dX3_eat_48 (by decide) h (fun h => ?_) (fun h => ?_)
        · refine gx_aload_n hX dX3_eat_51 rfl ?_
          refine gm_getA hX 1 (by decide) (by decide) q1342 rfl dX3_eat_52 ?_
          refine gx_sipush (v := nI 178) hX dX3_eat_55 (by decide) ?_
          refine gx_iload_n hX dX3_eat_58 rfl ?_
          refine gx_iadd hX dX3_eat_59 ?_
          refine gm_ld hX (by decide) dX3_eat_60 h (fun v5 h => ?_)
          refine gx_iconst (v := (-1)) hX dX3_eat_61 (by decide) ?_
          refine gx_icmp_eq (tgt := 79) hX dX3_eat_62 (by decide) h (fun h => ?_) (fun h => ?_)
          · exact tX3_eat_B79 hA hX ih h
          · refine gx_aload_n hX dX3_eat_65 rfl ?_
            refine gx_aload_n hX dX3_eat_66 rfl ?_
            refine gm_getA hX 1 (by decide) (by decide) q1342 rfl dX3_eat_67 ?_
            refine gx_sipush (v := nI 178) hX dX3_eat_70 (by decide) ?_
            refine gx_iload_n hX dX3_eat_73 rfl ?_
            refine gx_iadd hX dX3_eat_74 ?_
            refine gm_ld hX (by decide) dX3_eat_75 h (fun v9 h => ?_)
            obtain ⟨r10, hr10, h⟩ := gx_bs h
            refine gx_cV (As := [.int (v9)]) (rest := []) (b := gw_mo w) hX (tX3_lies w _ hA (gx_l X) (σ) (v9) hr10) (lw_V q1545 q1547 qs43 q92 q1548) ⟨rfl, dsX3_lies⟩ (by decide) (by decide) (gm_rc hX) rfl (gx_w8 gx_k0 (Nat.le_of_ble_eq_true rfl)) dX3_eat_76 ⟨Nat.le_refl _, Nat.le_refl _⟩ rfl ?_
            exact tX3_eat_B79 hA hX ih h
        · exact tX3_eat_B115 hA hX ih h
      · exact tX3_eat_B115 hA hX ih h
def fX3_eat (N : Nat) (σ : gm_S) (x1 : Int32) : Option (gm_S × Int32) := (fX3_isCell  (x1)).bind fun r1 => if r1 = 0 then some (σ, (-1)) else fX3_eat_L13 N N σ (x1) (0) (0)
set_option maxHeartbeats 4000000 in
theorem tX3_eat (w : gw_W) (A : Nat → Prop) (hA : ∀ q, gm_A w q → A q) (l : Launch) (N : Nat) (σ : gm_S) (x1 : Int32) {r : gm_S × Int32} (h : fX3_eat N σ x1 = some r) : gx_T (gw_I w A) A l yX3_eat iX3_eat 3 [va_rf (some (gw_mo w)), .int (x1)] (gm_P w σ) 0 0 (gm_P w r.1) (.returned (some (.int r.2))) := by
  refine gx_T.of (gw_I.inv w A) (by decide) ⟨rfl, rfl⟩ (gx_kR (gx_kI gx_k0)) (Nat.le_of_ble_eq_true rfl) (fun X hl hAx hX => ?_)
  subst hl
  subst hAx
  show gx_G X (gm_P w σ) 0 0 [some (va_rf (some (gw_mo w))), some (.int (x1)), none, none] 0 []
  unfold fX3_eat at h
  refine gx_iload_n hX dX3_eat_0 rfl ?_
  obtain ⟨r1, hr1, h⟩ := gx_bs h
  refine gx_cS (As := [.int (x1)]) (rest := []) hX (tX3_isCell w (gx_A X) (gx_l X) (gm_P w σ) (x1) hr1) (lw_S q1464 q1465 q92 q1466) dsX3_isCell (by decide) (by decide) rfl (gx_w8 gx_k0 (Nat.le_of_ble_eq_true rfl)) dX3_eat_1 ⟨Nat.le_refl _, Nat.le_refl _⟩ rfl ?_
  refine gx_if_ne (tgt := 9) hX dX3_eat_4 (by decide) h (fun h => ?_) (fun h => ?_)
  · refine gx_iconst (v := (-1)) hX dX3_eat_7 (by decide) ?_
    cases h
    exact gx_iret hX rfl dX3_eat_8 rfl ⟨rfl, rfl⟩ (fun _ h => h)
  · refine gx_iconst (v := 0) hX dX3_eat_9 (by decide) ?_
    refine gx_istore_n hX dX3_eat_10 (Nat.le_of_ble_eq_true rfl) gx_c1i (lv' := [some (va_rf (some (gw_mo w))), some (.int (x1)), some (.int (0)), none]) rfl ?_
    refine gx_iconst (v := 0) hX dX3_eat_11 (by decide) ?_
    refine gx_istore_n hX dX3_eat_12 (Nat.le_of_ble_eq_true rfl) gx_c1i (lv' := [some (va_rf (some (gw_mo w))), some (.int (x1)), some (.int (0)), some (.int (0))]) rfl ?_
    exact tX3_eat_L13 hA hX  N _ _ _ _ h
abbrev iX3_emits : gx_M := (RX3, "emits", cX3_emits, 2, none)
theorem dsX3_emits : gx_ds yX3_emits 1 := by decide +kernel
def fX3_emits (σ : gm_S) (x1 : Int32) : Option (gm_S) := if gs σ 14 = 0 then (gm_rd σ 18 (gs σ 12)).bind fun v1 => (gm_wr σ 17 (((nI 140) * (gs σ 12)) + (v1)) (x1)).bind fun σ2 => (gm_rd σ2 18 (gs σ2 12)).bind fun v3 => (gm_wr σ2 18 (gs σ2 12) ((v3) + (1))).bind fun σ4 => some σ4 else some σ
set_option maxHeartbeats 4000000 in
theorem tX3_emits (w : gw_W) (A : Nat → Prop) (hA : ∀ q, gm_A w q → A q) (l : Launch) (σ : gm_S) (x1 : Int32) {r : gm_S} (h : fX3_emits σ x1 = some r) : gx_T (gw_I w A) A l yX3_emits iX3_emits 1 [va_rf (some (gw_mo w)), .int (x1)] (gm_P w σ) 0 0 (gm_P w r) (.returned (none)) := by
  refine gx_T.of (gw_I.inv w A) (by decide) ⟨rfl, rfl⟩ (gx_kR (gx_kI gx_k0)) (Nat.le_of_ble_eq_true rfl) (fun X hl hAx hX => ?_)
  subst hl
  subst hAx
  show gx_G X (gm_P w σ) 0 0 [some (va_rf (some (gw_mo w))), some (.int (x1))] 0 []
  unfold fX3_emits at h
  refine gx_aload_n hX dX3_emits_0 rfl ?_
  refine gm_getI hX 14 (by decide) rfl q1355 rfl dX3_emits_1 ?_
  refine gx_if_ne (tgt := 44) hX dX3_emits_4 (by decide) h (fun h => ?_) (fun h => ?_)
  · refine gx_aload_n hX dX3_emits_7 rfl ?_
    refine gm_getA hX 17 (by decide) (by decide) q1358 rfl dX3_emits_8 ?_
    refine gx_sipush (v := nI 140) hX dX3_emits_11 (by decide) ?_
    refine gx_aload_n hX dX3_emits_14 rfl ?_
    refine gm_getI hX 12 (by decide) rfl q1353 rfl dX3_emits_15 ?_
    refine gx_imul hX dX3_emits_18 ?_
    refine gx_aload_n hX dX3_emits_19 rfl ?_
    refine gm_getA hX 18 (by decide) (by decide) q1359 rfl dX3_emits_20 ?_
    refine gx_aload_n hX dX3_emits_23 rfl ?_
    refine gm_getI hX 12 (by decide) rfl q1353 rfl dX3_emits_24 ?_
    refine gm_ld hX (by decide) dX3_emits_27 h (fun v1 h => ?_)
    refine gx_iadd hX dX3_emits_28 ?_
    refine gx_iload_n hX dX3_emits_29 rfl ?_
    refine gm_st hX hA (by decide) dX3_emits_30 h (fun σ2 h => ?_)
    refine gx_aload_n hX dX3_emits_31 rfl ?_
    refine gm_getA hX 18 (by decide) (by decide) q1359 rfl dX3_emits_32 ?_
    refine gx_aload_n hX dX3_emits_35 rfl ?_
    refine gm_getI hX 12 (by decide) rfl q1353 rfl dX3_emits_36 ?_
    refine gx_dup2 hX dX3_emits_39 rfl (gx_cat _) ?_
    refine gm_ld hX (by decide) dX3_emits_40 h (fun v3 h => ?_)
    refine gx_iconst (v := 1) hX dX3_emits_41 (by decide) ?_
    refine gx_iadd hX dX3_emits_42 ?_
    refine gm_st hX hA (by decide) dX3_emits_43 h (fun σ4 h => ?_)
    cases h
    exact gx_vret hX rfl dX3_emits_44 rfl ⟨rfl, rfl⟩ (fun _ h => h)
  · cases h
    exact gx_vret hX rfl dX3_emits_44 rfl ⟨rfl, rfl⟩ (fun _ h => h)
abbrev iX3_here : gx_M := (RX3, "here", cX3_here, 1, some .int)
theorem dsX3_here : gx_ds yX3_here 0 := by decide +kernel
def fX3_here (σ : gm_S)  : Option (Int32) := (gm_rd σ 10 (gs σ 12)).bind fun v1 => if (v1) ≤ gs σ 13 then some ((-1)) else (gm_rd σ 9 (((nI 120) * (gs σ 12)) + (gs σ 13))).bind fun v2 => some (v2)
set_option maxHeartbeats 4000000 in
theorem tX3_here (w : gw_W) (A : Nat → Prop) (hA : ∀ q, gm_A w q → A q) (l : Launch) (σ : gm_S)  {r : Int32} (h : fX3_here σ = some r) : gx_T (gw_I w A) A l yX3_here iX3_here 1 [va_rf (some (gw_mo w))] (gm_P w σ) 0 0 (gm_P w σ) (.returned (some (.int r))) := by
  refine gx_T.of (gw_I.inv w A) (by decide) ⟨rfl, rfl⟩ (gx_kR gx_k0) (Nat.le_of_ble_eq_true rfl) (fun X hl hAx hX => ?_)
  subst hl
  subst hAx
  show gx_G X (gm_P w σ) 0 0 [some (va_rf (some (gw_mo w)))] 0 []
  unfold fX3_here at h
  refine gx_aload_n hX dX3_here_0 rfl ?_
  refine gm_getI hX 13 (by decide) rfl q1354 rfl dX3_here_1 ?_
  refine gx_aload_n hX dX3_here_4 rfl ?_
  refine gm_getA hX 10 (by decide) (by decide) q1351 rfl dX3_here_5 ?_
  refine gx_aload_n hX dX3_here_8 rfl ?_
  refine gm_getI hX 12 (by decide) rfl q1353 rfl dX3_here_9 ?_
  refine gm_ld hX (by decide) dX3_here_12 h (fun v1 h => ?_)
  refine gx_icmp_ge (tgt := 36) hX dX3_here_13 (by decide) h (fun h => ?_) (fun h => ?_)
  · refine gx_iconst (v := (-1)) hX dX3_here_36 (by decide) ?_
    cases h
    exact gx_iret hX rfl dX3_here_37 rfl ⟨rfl, rfl⟩ (fun _ h => h)
  · refine gx_aload_n hX dX3_here_16 rfl ?_
    refine gm_getA hX 9 (by decide) (by decide) q1350 rfl dX3_here_17 ?_
    refine gx_bipush (v := nI 120) hX dX3_here_20 (by decide) ?_
    refine gx_aload_n hX dX3_here_22 rfl ?_
    refine gm_getI hX 12 (by decide) rfl q1353 rfl dX3_here_23 ?_
    refine gx_imul hX dX3_here_26 ?_
    refine gx_aload_n hX dX3_here_27 rfl ?_
    refine gm_getI hX 13 (by decide) rfl q1354 rfl dX3_here_28 ?_
    refine gx_iadd hX dX3_here_31 ?_
    refine gm_ld hX (by decide) dX3_here_32 h (fun v2 h => ?_)
    refine gx_goto (tgt := 37) hX dX3_here_33 (by decide) ?_
    cases h
    exact gx_iret hX rfl dX3_here_37 rfl ⟨rfl, rfl⟩ (fun _ h => h)
