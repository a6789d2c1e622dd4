set_option maxRecDepth 100000
/-! STRINGS: the four constants of the Model, their length and characters -/
section GS
variable {w : gw_W} {X : gx_X} {mi : gx_M} {n dc ds : Nat} {P' : Heap → Prop} {oc : Outcome} {P : Heap → Prop} {cs ss pc : Nat} {lv : List (Option Value)} {rest : List Value}
theorem gs_S (hX : gx_O (gw_I w (gx_A X)) X mi n dc ds P' oc) : vk_S 4 gw_len gw_byt (gw_sK w) (gw_sV w) (gx_A X) (gx_s X) (gx_s X).heap := hX.2.2.2.2.2.2.2.1.2.2.2.2.2.2.2.2.2.1
theorem gs_coder (hX : gx_O (gw_I w (gx_A X)) X mi n dc ds P' oc) {i index : Nat} (hi : i < 4) (hq : Cond.fieldLink mi.1 index "java/lang/String" "coder" "B" ∈ lw_all) (hd : decode mi.2.2.1 pc = .ok (.getfield index, 3)) (k : gx_G X P cs ss lv (pc + 3) (.int 0 :: rest)) : gx_G X P cs ss lv pc (va_rf (some (gw_sK w i)) :: rest) := fun H locs ls hP hS hl =>
  vk_getf hX.1 hX.2.1 ((gs_S hX).1 i hi).2.1 hS hX.2.2.2.2.1 (hX.2.2.2.2.2.1 _ hq) (fun _ h => h) hd (k H locs ls hP hS hl)
theorem gs_value (hX : gx_O (gw_I w (gx_A X)) X mi n dc ds P' oc) {i index : Nat} (hi : i < 4) (hq : Cond.fieldLink mi.1 index "java/lang/String" "value" "[B" ∈ lw_all) (hd : decode mi.2.2.1 pc = .ok (.getfield index, 3)) (k : gx_G X P cs ss lv (pc + 3) (va_rf (some (gw_sV w i)) :: rest)) : gx_G X P cs ss lv pc (va_rf (some (gw_sK w i)) :: rest) := fun H locs ls hP hS hl =>
  vk_getf hX.1 hX.2.1 ((gs_S hX).1 i hi).2.2.1 hS hX.2.2.2.2.1 (hX.2.2.2.2.2.1 _ hq) (fun _ h => h) hd (k H locs ls hP hS hl)
theorem gs_alen (hX : gx_O (gw_I w (gx_A X)) X mi n dc ds P' oc) {i : Nat} (hi : i < 4) (hd : decode mi.2.2.1 pc = .ok (.arraylength, 1)) (k : gx_G X P cs ss lv (pc + 1) (.int (nI (gw_len.getD i 0)) :: rest)) : gx_G X P cs ss lv pc (va_rf (some (gw_sV w i)) :: rest) := fun H locs ls hP hS hl =>
  va_tlen hX.1 hX.2.1 ((gs_S hX).1 i hi).2.2.2 hS rfl hd (k H locs ls hP hS hl)
theorem gs_ld (hX : gx_O (gw_I w (gx_A X)) X mi n dc ds P' oc) {i j : Nat} (hi : i < 4) (hj : j < gw_len.getD i 0) (hl4 : gw_len.getD i 0 < 2 ^ 31) (hd : decode mi.2.2.1 pc = .ok (.baload, 1)) (k : gx_G X P cs ss lv (pc + 1) (.int ((gw_byt.getD i []).getD j 0) :: rest)) : gx_G X P cs ss lv pc (.int (nI j) :: va_rf (some (gw_sV w i)) :: rest) := fun H locs ls hP hS hl =>
  va_tb hX.1 hX.2.1 ((gs_S hX).1 i hi).2.2.2 hS (vp_in_nI hj hl4) (by rw [nI_clamp (Nat.lt_trans hj hl4)]) hd (k H locs ls hP hS hl)
theorem gs_cs (hX : gx_O (gw_I w (gx_A X)) X mi n dc ds P' oc) {index : Nat} (hq : Cond.fieldLink mi.1 index "java/lang/String" "COMPACT_STRINGS" "Z" ∈ lw_all) (hd : decode mi.2.2.1 pc = .ok (.getstatic index, 3)) (k : gx_G X P cs ss lv (pc + 3) (.int 1 :: rest)) : gx_G X P cs ss lv pc rest := fun H locs ls hP hS hl =>
  va_gets hX.1 hX.2.1 hX.2.2.2.2.2.2.2.1.2.2.2.2.2.2.1 hS hX.2.2.2.2.1 (hX.2.2.2.2.2.1 _ hq) (fun _ h => h) hd (k H locs ls hP hS hl)
theorem gs_fm (hX : gx_O (gw_I w (gx_A X)) X mi n dc ds P' oc) {index : Nat} (hq : Cond.fieldLink mi.1 index "jdk/internal/util/Preconditions" "SIOOBE_FORMATTER" "Ljava/util/function/BiFunction;" ∈ lw_all) (hd : decode mi.2.2.1 pc = .ok (.getstatic index, 3)) (k : gx_G X P cs ss lv (pc + 3) (va_rf (gw_fm w) :: rest)) : gx_G X P cs ss lv pc rest := fun H locs ls hP hS hl =>
  va_gets hX.1 hX.2.1 hX.2.2.2.2.2.2.2.1.2.2.2.2.2.2.2.1 hS hX.2.2.2.2.1 (hX.2.2.2.2.2.1 _ hq) (fun _ h => h) hd (k H locs ls hP hS hl)
theorem gs_ldc (hX : gx_O (gw_I w (gx_A X)) X mi n dc ds P' oc) {i index : Nat} (hi : i < 4) (hx : mi.1 = "ShellBeachModel" ∧ (gw_sx.getD i (0, "")).1 = index) (hd : decode mi.2.2.1 pc = .ok (.ldc index, 2)) (k : gx_G X P cs ss lv (pc + 2) (va_rf (some (gw_sK w i)) :: rest)) : gx_G X P cs ss lv pc rest := fun H locs ls hP hS hl => by
  have hZ := hX.2.2.2.2.2.2.2.1.2.2.2.2.2.2.2.2.1 i hi
  rw [hx.2, ← hx.1] at hZ
  exact va_ldcS hX.1 hX.2.1 hX.2.2.2.2.1 hZ hd (k H locs ls hP hS hl)
theorem gs_recv (hX : gx_O (gw_I w (gx_A X)) X mi n dc ds P' oc) {i : Nat} (hi : i < 4) {H : Heap} {locs : List Loc} (hS : va_S (gx_A X) (gx_s X).heap H locs) : ∃ cell : Cell, H[gw_sK w i]? = some cell ∧ cell.vm.isStatics = false ∧ (gx_s X).vm.findClass "java/lang/String" = some cell.cls := vk_recv (gs_S hX) hi hS
end GS
section GSC
variable {w : gw_W} {X : gx_X} {mi : gx_M} {n dc ds : Nat} {P' : Heap → Prop} {oc : Outcome} {P : Heap → Prop} {cs ss pc : Nat} {lv : List (Option Value)} {rest st : List Value}
variable {y : MethodName} {mi2 : gx_M} {n2 mc ms index : Nat} {As : List Value} {P2 : Heap → Prop} {v : Option Value}
/-- a String's method -/
theorem gs_cV (hX : gx_O (gw_I w (gx_A X)) X mi n dc ds P' oc) {i : Nat} (hi : i < 4) (hM : gx_T (gw_I w (gx_A X)) (gx_A X) (gx_l X) y mi2 n2 (va_rf (some (gw_sK w i)) :: As) P mc ms P2 (.returned v)) (hG : GoodIn lw_all (wsV mi.1 index "java/lang/String" y (ws_ y mi2.2.2.1 mi2.2.2.2.1 mi2.2.2.2.2))) (hy : y.cls = "java/lang/String" ∧ gx_ds y As.length) (hn : n2 + 1 ≤ n) (hL : mi2.2.2.2.1 ≤ 21)
    (hst : st = As.reverse ++ va_rf (some (gw_sK w i)) :: rest) (hW : (rest.map fun v => v.category).sum ≤ 8) (hd : decode mi.2.2.1 pc = .ok (.invokevirtual index, 3)) (hf : cs + mc ≤ dc ∧ ss + ms ≤ ds) (hlen : mi.2.2.2.1 = lv.length) (k : gx_G X P2 (cs + mc) (ss + ms) lv (pc + 3) (v.toList ++ rest)) : gx_G X P cs ss lv pc st := fun H locs ls hP hS hl => by
  subst hst
  exact gx_back hX (va_runV (As := As) (rest := rest) (b := gw_sK w i) (gx_fix hX) hM (cwV As.length hX.2.2.2.2.2.1 hG rfl rfl rfl hy (gx_room hX hn hL)) ⟨gx_blind hX.2.2.2.2.2.2.2.2.2.2.2.2, gs_recv hX hi hS, fun U hU hW => ⟨rfl, gx_pre hX hP hS hU hW⟩⟩ rfl rfl (hl.1.trans hlen.symm) rfl (by show 2 * 0 + _ ≤ 8; omega) hd (gx_fits hX hf)) hS hl k
end GSC
abbrev iJ10_isLatin1 : gx_M := (RJ10, "isLatin1", cJ10_isLatin1, 1, some .boolean)
theorem dsJ10_isLatin1 : gx_ds yJ10_isLatin1 0 := by decide +kernel
theorem tJ10_isLatin1 (w : gw_W) (A : Nat → Prop) (l : Launch) (P : Heap → Prop) (i : Nat) (hi : i < 4) : gx_T (gw_I w A) A l yJ10_isLatin1 iJ10_isLatin1 1 [va_rf (some (gw_sK w i))] P 0 0 P (.returned (some (.int 1))) := by
  refine gx_T.of (gw_I.inv w A) (by decide) ⟨rfl, rfl⟩ (gx_kR gx_k0) (Nat.le_of_ble_eq_true rfl) (fun X hl hAx hX => ?_)
  subst hl
  subst hAx
  show gx_G X P 0 0 [some (va_rf (some (gw_sK w i)))] 0 []
  have h : (if (1 : Int32) = 0 then (none : Option Unit) else some ()) = some () := by decide
  refine gs_cs hX q1583 dJ10_isLatin1_0 ?_
  refine gx_if_eq (tgt := 17) hX dJ10_isLatin1_3 (by decide) h (fun h => by cases h) (fun _ => ?_)
  refine gx_aload_n hX dJ10_isLatin1_6 rfl ?_
  refine gs_coder hX hi q1915 dJ10_isLatin1_7 ?_
  have h : (if (0 : Int32) = 0 then some () else (none : Option Unit)) = some () := by decide
  refine gx_if_ne (tgt := 17) hX dJ10_isLatin1_10 (by decide) h (fun _ => ?_) (fun h => by cases h)
  refine gx_iconst (v := 1) hX dJ10_isLatin1_13 (by decide) ?_
  refine gx_goto (tgt := 18) hX dJ10_isLatin1_14 (by decide) ?_
  exact gx_zret hX rfl rfl dJ10_isLatin1_18 rfl ⟨rfl, rfl⟩ (fun _ h => h)
abbrev iJ10_coder : gx_M := (RJ10, "coder", cJ10_coder, 1, some .byte)
theorem dsJ10_coder : gx_ds yJ10_coder 0 := by decide +kernel
theorem tJ10_coder (w : gw_W) (A : Nat → Prop) (l : Launch) (P : Heap → Prop) (i : Nat) (hi : i < 4) : gx_T (gw_I w A) A l yJ10_coder iJ10_coder 1 [va_rf (some (gw_sK w i))] P 0 0 P (.returned (some (.int 0))) := by
  refine gx_T.of (gw_I.inv w A) (by decide) ⟨rfl, rfl⟩ (gx_kR gx_k0) (Nat.le_of_ble_eq_true rfl) (fun X hl hAx hX => ?_)
  subst hl
  subst hAx
  show gx_G X P 0 0 [some (va_rf (some (gw_sK w i)))] 0 []
  have h : (if (1 : Int32) = 0 then (none : Option Unit) else some ()) = some () := by decide
  refine gs_cs hX q1583 dJ10_coder_0 ?_
  refine gx_if_eq (tgt := 13) hX dJ10_coder_3 (by decide) h (fun h => by cases h) (fun _ => ?_)
  refine gx_aload_n hX dJ10_coder_6 rfl ?_
  refine gs_coder hX hi q1915 dJ10_coder_7 ?_
  refine gx_goto (tgt := 14) hX dJ10_coder_10 (by decide) ?_
  exact gx_zret hX rfl rfl dJ10_coder_14 rfl ⟨rfl, rfl⟩ (fun _ h => h)
abbrev iJ10_length : gx_M := (RJ10, "length", cJ10_length, 1, some .int)
theorem dsJ10_length : gx_ds yJ10_length 0 := by decide +kernel
theorem tJ10_length (w : gw_W) (A : Nat → Prop) (l : Launch) (P : Heap → Prop) (i : Nat) (hi : i < 4) : gx_T (gw_I w A) A l yJ10_length iJ10_length 2 [va_rf (some (gw_sK w i))] P 0 0 P (.returned (some (.int (nI (gw_len.getD i 0))))) := by
  refine gx_T.of (gw_I.inv w A) (by decide) ⟨rfl, rfl⟩ (gx_kR gx_k0) (Nat.le_of_ble_eq_true rfl) (fun X hl hAx hX => ?_)
  subst hl
  subst hAx
  show gx_G X P 0 0 [some (va_rf (some (gw_sK w i)))] 0 []
  refine gx_aload_n hX dJ10_length_0 rfl ?_
  refine gs_value hX hi q1914 dJ10_length_1 ?_
  refine gs_alen hX hi dJ10_length_4 ?_
  refine gx_aload_n hX dJ10_length_5 rfl ?_
  refine gs_cV (As := []) (rest := [.int (nI (gw_len.getD i 0))]) hX hi (tJ10_coder w (gx_A X) (gx_l X) P i hi) (lw_V q1579 q1580 q1581 q115 q1582) ⟨rfl, dsJ10_coder⟩ (by decide) (by decide) rfl (gx_w8 (gx_kI gx_k0) (Nat.le_of_ble_eq_true rfl)) dJ10_length_6 ⟨Nat.le_refl _, Nat.le_refl _⟩ rfl ?_
  refine gx_ishr hX dJ10_length_9 ?_
  rw [sb_shr0]
  exact gx_iret hX rfl dJ10_length_10 rfl ⟨rfl, rfl⟩ (fun _ h => h)
abbrev iJ10_checkIndex : gx_M := (RJ10, "checkIndex", cJ10_checkIndex, 2, none)
theorem dsJ10_checkIndex : gx_ds yJ10_checkIndex 2 := by decide +kernel
theorem tJ10_checkIndex (w : gw_W) (A : Nat → Prop) (l : Launch) (P : Heap → Prop) (j k : Nat) (hj : j < k) (hk : k < 2 ^ 31) : gx_T (gw_I w A) A l yJ10_checkIndex iJ10_checkIndex 3 [.int (nI j), .int (nI k)] P 0 0 P (.returned none) := by
  refine gx_T.of (gw_I.inv w A) (by decide) ⟨rfl, rfl⟩ (gx_kI (gx_kI gx_k0)) (Nat.le_of_ble_eq_true rfl) (fun X hl hAx hX => ?_)
  subst hl
  subst hAx
  show gx_G X P 0 0 [some (.int (nI j)), some (.int (nI k))] 0 []
  have h : fJ7_checkIndex (nI j) (nI k) (gw_fm w) = some (nI j) := by
    unfold fJ7_checkIndex
    rw [if_neg (nI_pos (Nat.lt_trans hj hk)), if_pos (nI_lt hj hk)]
  refine gx_iload_n hX dJ10_checkIndex_0 rfl ?_
  refine gx_iload_n hX dJ10_checkIndex_1 rfl ?_
  refine gs_fm hX q1599 dJ10_checkIndex_2 ?_
  refine gx_cS (As := [.int (nI j), .int (nI k), va_rf (gw_fm w)]) (rest := []) hX (tJ7_checkIndex w (gx_A X) (gx_l X) P (nI j) (nI k) (gw_fm w) h) (lw_S q1601 q441 q99 q442) dsJ7_checkIndex (by decide) (by decide) rfl (gx_w8 gx_k0 (Nat.le_of_ble_eq_true rfl)) dJ10_checkIndex_5 ⟨Nat.le_refl _, Nat.le_refl _⟩ rfl ?_
  refine gx_pop hX dJ10_checkIndex_8 rfl ?_
  exact gx_vret hX rfl dJ10_checkIndex_9 rfl ⟨rfl, rfl⟩ (fun _ h => h)
/-- a character of a constant -/
def gs_at (i j : Nat) : Int32 := (gw_byt.getD i []).getD j 0
theorem gs_len_lt : ∀ i, i < 4 → gw_len.getD i 0 < 2 ^ 31 := by decide
theorem gs_at_c : ∀ i, i < 4 → ∀ j, j < gw_len.getD i 0 → ((gs_at i j &&& nI 255).toUInt32 % 65536).toInt32 = gs_at i j ∧ narrow .char (.int (gs_at i j)) = .int (gs_at i j) := by decide +kernel
abbrev iJ11_charAt : gx_M := (RJ11, "charAt", cJ11_charAt, 2, some .char)
theorem dsJ11_charAt : gx_ds yJ11_charAt 2 := by decide +kernel
theorem tJ11_charAt (w : gw_W) (A : Nat → Prop) (l : Launch) (P : Heap → Prop) (i : Nat) (hi : i < 4) (j : Nat) (hj : j < gw_len.getD i 0) : gx_T (gw_I w A) A l yJ11_charAt iJ11_charAt 4 [va_rf (some (gw_sV w i)), .int (nI j)] P 0 0 P (.returned (some (.int (gs_at i j)))) := by
  refine gx_T.of (gw_I.inv w A) (by decide) ⟨rfl, rfl⟩ (gx_kR (gx_kI gx_k0)) (Nat.le_of_ble_eq_true rfl) (fun X hl hAx hX => ?_)
  subst hl
  subst hAx
  show gx_G X P 0 0 [some (va_rf (some (gw_sV w i))), some (.int (nI j))] 0 []
  refine gx_iload_n hX dJ11_charAt_0 rfl ?_
  refine gx_aload_n hX dJ11_charAt_1 rfl ?_
  refine gs_alen hX hi dJ11_charAt_2 ?_
  refine gx_cS (As := [.int (nI j), .int (nI (gw_len.getD i 0))]) (rest := []) hX (tJ10_checkIndex w (gx_A X) (gx_l X) P j (gw_len.getD i 0) hj (gs_len_lt i hi)) (lw_S q1596 q1597 q115 q1598) dsJ10_checkIndex (by decide) (by decide) rfl (gx_w8 gx_k0 (Nat.le_of_ble_eq_true rfl)) dJ11_charAt_3 ⟨Nat.le_refl _, Nat.le_refl _⟩ rfl ?_
  refine gx_aload_n hX dJ11_charAt_6 rfl ?_
  refine gx_iload_n hX dJ11_charAt_7 rfl ?_
  refine gs_ld hX hi hj (gs_len_lt i hi) dJ11_charAt_8 ?_
  refine gx_sipush (v := nI 255) hX dJ11_charAt_9 (by decide) ?_
  refine gx_iand hX dJ11_charAt_12 ?_
  refine gx_i2c hX dJ11_charAt_13 ?_
  have hc := gs_at_c i hi j hj
  unfold gs_at at hc
  rw [hc.1]
  exact gx_zret hX rfl hc.2 dJ11_charAt_14 rfl ⟨rfl, rfl⟩ (fun _ h => h)
abbrev iJ10_charAt : gx_M := (RJ10, "charAt", cJ10_charAt, 2, some .char)
theorem dsJ10_charAt : gx_ds yJ10_charAt 1 := by decide +kernel
theorem tJ10_charAt (w : gw_W) (A : Nat → Prop) (l : Launch) (P : Heap → Prop) (i : Nat) (hi : i < 4) (j : Nat) (hj : j < gw_len.getD i 0) : gx_T (gw_I w A) A l yJ10_charAt iJ10_charAt 5 [va_rf (some (gw_sK w i)), .int (nI j)] P 0 0 P (.returned (some (.int (gs_at i j)))) := by
  refine gx_T.of (gw_I.inv w A) (by decide) ⟨rfl, rfl⟩ (gx_kR (gx_kI gx_k0)) (Nat.le_of_ble_eq_true rfl) (fun X hl hAx hX => ?_)
  subst hl
  subst hAx
  show gx_G X P 0 0 [some (va_rf (some (gw_sK w i))), some (.int (nI j))] 0 []
  refine gx_aload_n hX dJ10_charAt_0 rfl ?_
  refine gs_cV (As := []) (rest := []) hX hi (tJ10_isLatin1 w (gx_A X) (gx_l X) P i hi) (lw_V q1589 q1590 q1591 q115 q1592) ⟨rfl, dsJ10_isLatin1⟩ (by decide) (by decide) rfl (gx_w8 gx_k0 (Nat.le_of_ble_eq_true rfl)) dJ10_charAt_1 ⟨Nat.le_refl _, Nat.le_refl _⟩ rfl ?_
  have h : (if (1 : Int32) = 0 then (none : Option Unit) else some ()) = some () := by decide
  refine gx_if_eq (tgt := 16) hX dJ10_charAt_4 (by decide) h (fun h => by cases h) (fun _ => ?_)
  refine gx_aload_n hX dJ10_charAt_7 rfl ?_
  refine gs_value hX hi q1914 dJ10_charAt_8 ?_
  refine gx_iload_n hX dJ10_charAt_11 rfl ?_
  refine gx_cS (As := [va_rf (some (gw_sV w i)), .int (nI j)]) (rest := []) hX (tJ11_charAt w (gx_A X) (gx_l X) P i hi j hj) (lw_S q1593 q1594 q116 q1595) dsJ11_charAt (by decide) (by decide) rfl (gx_w8 gx_k0 (Nat.le_of_ble_eq_true rfl)) dJ10_charAt_12 ⟨Nat.le_refl _, Nat.le_refl _⟩ rfl ?_
  exact gx_zret hX rfl (gs_at_c i hi j hj).2 dJ10_charAt_15 rfl ⟨rfl, rfl⟩ (fun _ h => h)
