set_option maxRecDepth 100000
abbrev iX3_feed : gx_M := (RX3, "feed", cX3_feed, 5, some .int)
theorem dsX3_feed : gx_ds yX3_feed 2 := by decide +kernel
def fX3_feed_L32 (N : Nat)   : Nat → gm_S → Int64 → Int32 → Option (gm_S × Int32)
  | 0, _, _, _ => none
  | k + 1, σ, x1, x4 => if (x4) < 0 then some (σ, gs σ 7) else (gm_wr σ 8 (gs σ 7) ((((x1) >>> (((nI 8) * (x4)).toInt64 &&& 63)) &&& ((255))).toInt32)).bind fun σ3 => (gm_pt σ3 7 ((gs σ3 7) + (1))).bind fun σ4 => (fX3_feed_L32 N k) σ4 (x1) ((x4) + (-1))
set_option maxHeartbeats 4000000 in
theorem tX3_feed_L32 {w : gw_W} {X : gx_X} {N : Nat} {r : gm_S × Int32} (hA : ∀ q, gm_A w q → gx_A X q) (hX : gx_O (gw_I w (gx_A X)) X iX3_feed 2 0 0 (gm_P w r.1) (.returned (some (.int r.2))))  : ∀ (k : Nat) (σ : gm_S) (x1 : Int64) (x4 : Int32), fX3_feed_L32 N k σ x1 x4 = some r → gx_G X (gm_P w σ) 0 0 [some (va_rf (some (gw_mo w))), some (.long (x1)), none, none, some (.int (x4))] 32 [] := by
  intro k
  induction k with
  | zero =>
    intro σ x1 x4 h
    unfold fX3_feed_L32 at h
    cases h
  | succ k ih =>
    intro σ x1 x4 h
    unfold fX3_feed_L32 at h
    refine gx_iload hX dX3_feed_32 rfl ?_
    refine gx_if_lt (tgt := 74) hX dX3_feed_34 (by decide) h (fun h => ?_) (fun h => ?_)
    · refine gx_aload_n hX dX3_feed_74 rfl ?_
      refine gm_getI hX 7 (by decide) rfl q1348 rfl dX3_feed_75 ?_
      cases h
      exact gx_iret hX rfl dX3_feed_78 rfl ⟨rfl, rfl⟩ (fun _ h => h)
    · refine gx_aload_n hX dX3_feed_37 rfl ?_
      refine gm_getA hX 8 (by decide) (by decide) q1349 rfl dX3_feed_38 ?_
      refine gx_aload_n hX dX3_feed_41 rfl ?_
      refine gm_getI hX 7 (by decide) rfl q1348 rfl dX3_feed_42 ?_
      refine gx_lload_n hX dX3_feed_45 rfl ?_
      refine gx_bipush (v := nI 8) hX dX3_feed_46 (by decide) ?_
      refine gx_iload hX dX3_feed_48 rfl ?_
      refine gx_imul hX dX3_feed_50 ?_
      refine gx_lshr hX dX3_feed_51 ?_
      refine gx_ldc2 (v := (255)) hX dX3_feed_52 q1553 ?_
      refine gx_land hX dX3_feed_55 ?_
      refine gx_l2i hX dX3_feed_56 ?_
      refine gm_st hX hA (by decide) dX3_feed_57 h (fun σ3 h => ?_)
      refine gx_aload_n hX dX3_feed_58 rfl ?_
      refine gx_dup hX dX3_feed_59 (gx_cat _) ?_
      refine gm_getI hX 7 (by decide) rfl q1348 rfl dX3_feed_60 ?_
      refine gx_iconst (v := 1) hX dX3_feed_63 (by decide) ?_
      refine gx_iadd hX dX3_feed_64 ?_
      refine gm_putI hX hA (k := 7) ⟨by decide, rfl⟩ q1348 ⟨rfl, rfl⟩ rfl dX3_feed_65 h (fun σ4 h => ?_)
      refine gx_iinc (v := (-1)) hX dX3_feed_68 rfl (by decide) gx_c1n (lv' := [some (va_rf (some (gw_mo w))), some (.long (x1)), none, none, some (.int ((x4) + (-1)))]) rfl ?_
      refine gx_goto (tgt := 32) hX dX3_feed_71 (by decide) ?_
      exact ih _ _ _ h
def fX3_feed (N : Nat) (σ : gm_S) (x1 : Int64) (x3 : Int32) : Option (gm_S × Int32) := (fX3_in  (x3) (1) (nI 8)).bind fun r2 => if r2 = 0 then some (σ, (-2)) else if ((gs σ 7) + (x3)) ≤ nI 120 then fX3_feed_L32 N N σ (x1) ((x3) - (1)) else some (σ, (-4))
set_option maxHeartbeats 4000000 in
theorem tX3_feed (w : gw_W) (A : Nat → Prop) (hA : ∀ q, gm_A w q → A q) (l : Launch) (N : Nat) (σ : gm_S) (x1 : Int64) (x3 : Int32) {r : gm_S × Int32} (h : fX3_feed N σ x1 x3 = some r) : gx_T (gw_I w A) A l yX3_feed iX3_feed 2 [va_rf (some (gw_mo w)), .long (x1), .int (x3)] (gm_P w σ) 0 0 (gm_P w r.1) (.returned (some (.int r.2))) := by
  refine gx_T.ofL (gw_I.inv w A) (by decide) ⟨rfl, rfl⟩ rfl (fun X hl hAx hX => ?_)
  subst hl
  subst hAx
  show gx_G X (gm_P w σ) 0 0 [some (va_rf (some (gw_mo w))), some (.long (x1)), none, some (.int (x3)), none] 0 []
  unfold fX3_feed at h
  refine gx_iload_n hX dX3_feed_0 rfl ?_
  refine gx_iconst (v := 1) hX dX3_feed_1 (by decide) ?_
  refine gx_bipush (v := nI 8) hX dX3_feed_2 (by decide) ?_
  obtain ⟨r2, hr2, h⟩ := gx_bs h
  refine gx_cS (As := [.int (x3), .int (1), .int (nI 8)]) (rest := []) hX (tX3_in w (gx_A X) (gx_l X) (gm_P w σ) (x3) (1) (nI 8) hr2) (lw_S q1467 q1468 q92 q1469) dsX3_in (by decide) (by decide) rfl (gx_w8 gx_k0 (Nat.le_of_ble_eq_true rfl)) dX3_feed_4 ⟨Nat.le_refl _, Nat.le_refl _⟩ rfl ?_
  refine gx_if_ne (tgt := 13) hX dX3_feed_7 (by decide) h (fun h => ?_) (fun h => ?_)
  · refine gx_bipush (v := (-2)) hX dX3_feed_10 (by decide) ?_
    cases h
    exact gx_iret hX rfl dX3_feed_12 rfl ⟨rfl, rfl⟩ (fun _ h => h)
  · refine gx_aload_n hX dX3_feed_13 rfl ?_
    refine gm_getI hX 7 (by decide) rfl q1348 rfl dX3_feed_14 ?_
    refine gx_iload_n hX dX3_feed_17 rfl ?_
    refine gx_iadd hX dX3_feed_18 ?_
    refine gx_bipush (v := nI 120) hX dX3_feed_19 (by decide) ?_
    refine gx_icmp_le (tgt := 27) hX dX3_feed_21 (by decide) h (fun h => ?_) (fun h => ?_)
    · refine gx_iload_n hX dX3_feed_27 rfl ?_
      refine gx_iconst (v := 1) hX dX3_feed_28 (by decide) ?_
      refine gx_isub hX dX3_feed_29 ?_
      refine gx_istore hX dX3_feed_30 (Nat.le_of_ble_eq_true rfl) gx_c1i (lv' := [some (va_rf (some (gw_mo w))), some (.long (x1)), none, some (.int (x3)), some (.int ((x3) - (1)))]) rfl ?_
      refine gx_sub hX (lv' := [some (va_rf (some (gw_mo w))), some (.long (x1)), none, none, some (.int ((x3) - (1)))]) ⟨Or.inr rfl, ⟨Or.inr rfl, ⟨Or.inr rfl, ⟨Or.inl rfl, ⟨Or.inr rfl, trivial⟩⟩⟩⟩⟩ ?_
      exact tX3_feed_L32 hA hX  N _ _ _ h
    · refine gx_bipush (v := (-4)) hX dX3_feed_24 (by decide) ?_
      cases h
      exact gx_iret hX rfl dX3_feed_26 rfl ⟨rfl, rfl⟩ (fun _ h => h)
abbrev iX3_parts : gx_M := (RX3, "parts", cX3_parts, 4, none)
theorem dsX3_parts : gx_ds yX3_parts 2 := by decide +kernel
def fX3_parts_B64 (F : gm_S → Int32 → Int32 → Option gm_S) (N : Nat)  (K15 : gm_S → Int32 → Int32 → Int32 → Option (gm_S)) (σ : gm_S) (x1 : Int32) (x2 : Int32) (x3 : Int32) : Option (gm_S) := K15 σ (x1) (x2) ((x3) + 1)
set_option maxHeartbeats 4000000 in
theorem tX3_parts_B64 {w : gw_W} {X : gx_X} {F : gm_S → Int32 → Int32 → Option gm_S} {lF : Nat} (hlF : 3 ≤ lF) {N : Nat} {r : gm_S} (hF : ∀ (σ : gm_S) (y1 : Int32) (y2 : Int32) {r : gm_S}, F σ y1 y2 = some r → gx_T (gw_I w (gx_A X)) (gx_A X) (gx_l X) yX3_parts iX3_parts lF [va_rf (some (gw_mo w)), .int y1, .int y2] (gm_P w σ) 0 0 (gm_P w r) (.returned none)) (hA : ∀ q, gm_A w q → gx_A X q) (hX : gx_O (gw_I w (gx_A X)) X iX3_parts (lF + 1) 0 0 (gm_P w r) (.returned (none))) {K15 : gm_S → Int32 → Int32 → Int32 → Option (gm_S)} (hK15 : ∀ (σ : gm_S) (x1 : Int32) (x2 : Int32) (x3 : Int32), K15 σ x1 x2 x3 = some r → gx_G X (gm_P w σ) 0 0 [some (va_rf (some (gw_mo w))), some (.int (x1)), some (.int (x2)), some (.int (x3))] 15 []) {σ : gm_S} {x1 : Int32} {x2 : Int32} {x3 : Int32} (h : fX3_parts_B64 F N K15 σ x1 x2 x3 = some r) : gx_G X (gm_P w σ) 0 0 [some (va_rf (some (gw_mo w))), some (.int (x1)), some (.int (x2)), some (.int (x3))] 64 [] := by
  unfold fX3_parts_B64 at h
  refine gx_iinc (v := 1) hX dX3_parts_64 rfl (by decide) gx_c1i (lv' := [some (va_rf (some (gw_mo w))), some (.int (x1)), some (.int (x2)), some (.int ((x3) + 1))]) rfl ?_
  refine gx_goto (tgt := 15) hX dX3_parts_67 (by decide) ?_
  exact hK15 _ _ _ _ h
def fX3_parts_L15 (F : gm_S → Int32 → Int32 → Option gm_S) (N : Nat)   : Nat → gm_S → Int32 → Int32 → Int32 → Option (gm_S)
  | 0, _, _, _, _ => none
  | k + 1, σ, x1, x2, x3 => if (gs σ 30) ≤ x3 then some σ else if ((x2) >>> ((x3) &&& 31)) &&& (1) = 0 then (gm_rd σ 27 (x3)).bind fun v1 => (gm_rd σ 1 ((nI 178) + (v1))).bind fun v2 => (gm_wr σ 28 (x1) (v2)).bind fun σ3 => (F (σ3) ((x1) + (1)) ((x2) ||| ((1) <<< ((x3) &&& 31)))).bind fun r4 => fX3_parts_B64 F N (fX3_parts_L15 F N k) r4 (x1) (x2) (x3) else fX3_parts_B64 F N (fX3_parts_L15 F N k) σ (x1) (x2) (x3)
set_option maxHeartbeats 4000000 in
theorem tX3_parts_L15 {w : gw_W} {X : gx_X} {F : gm_S → Int32 → Int32 → Option gm_S} {lF : Nat} (hlF : 3 ≤ lF) {N : Nat} {r : gm_S} (hF : ∀ (σ : gm_S) (y1 : Int32) (y2 : Int32) {r : gm_S}, F σ y1 y2 = some r → gx_T (gw_I w (gx_A X)) (gx_A X) (gx_l X) yX3_parts iX3_parts lF [va_rf (some (gw_mo w)), .int y1, .int y2] (gm_P w σ) 0 0 (gm_P w r) (.returned none)) (hA : ∀ q, gm_A w q → gx_A X q) (hX : gx_O (gw_I w (gx_A X)) X iX3_parts (lF + 1) 0 0 (gm_P w r) (.returned (none)))  : ∀ (k : Nat) (σ : gm_S) (x1 : Int32) (x2 : Int32) (x3 : Int32), fX3_parts_L15 F N k σ x1 x2 x3 = some r → gx_G X (gm_P w σ) 0 0 [some (va_rf (some (gw_mo w))), some (.int (x1)), some (.int (x2)), some (.int (x3))] 15 [] := by
  intro k
  induction k with
  | zero =>
    intro σ x1 x2 x3 h
    unfold fX3_parts_L15 at h
    cases h
  | succ k ih =>
    intro σ x1 x2 x3 h
    unfold fX3_parts_L15 at h
    refine gx_iload_n hX dX3_parts_15 rfl ?_
    refine gx_aload_n hX dX3_parts_16 rfl ?_
    refine gm_getI hX 30 (by decide) rfl q1371 rfl dX3_parts_17 ?_
    refine gx_icmp_ge (tgt := 70) hX dX3_parts_20 (by decide) h (fun h => ?_) (fun h => ?_)
    · cases h
      exact gx_vret hX rfl dX3_parts_70 rfl ⟨rfl, rfl⟩ (fun _ h => h)
    · refine gx_iload_n hX dX3_parts_23 rfl ?_
      refine gx_iload_n hX dX3_parts_24 rfl ?_
      refine gx_ishr hX dX3_parts_25 ?_
      refine gx_iconst (v := 1) hX dX3_parts_26 (by decide) ?_
      refine gx_iand hX dX3_parts_27 ?_
      refine gx_if_ne (tgt := 64) hX dX3_parts_28 (by decide) h (fun h => ?_) (fun h => ?_)
      · refine gx_aload_n hX dX3_parts_31 rfl ?_
        refine gm_getA hX 28 (by decide) (by decide) q1369 rfl dX3_parts_32 ?_
        refine gx_iload_n hX dX3_parts_35 rfl ?_
        refine gx_aload_n hX dX3_parts_36 rfl ?_
        refine gm_getA hX 1 (by decide) (by decide) q1342 rfl dX3_parts_37 ?_
        refine gx_sipush (v := nI 178) hX dX3_parts_40 (by decide) ?_
        refine gx_aload_n hX dX3_parts_43 rfl ?_
        refine gm_getA hX 27 (by decide) (by decide) q1368 rfl dX3_parts_44 ?_
        refine gx_iload_n hX dX3_parts_47 rfl ?_
        refine gm_ld hX (by decide) dX3_parts_48 h (fun v1 h => ?_)
        refine gx_iadd hX dX3_parts_49 ?_
        refine gm_ld hX (by decide) dX3_parts_50 h (fun v2 h => ?_)
        refine gm_st hX hA (by decide) dX3_parts_51 h (fun σ3 h => ?_)
        refine gx_aload_n hX dX3_parts_52 rfl ?_
        refine gx_iload_n hX dX3_parts_53 rfl ?_
        refine gx_iconst (v := 1) hX dX3_parts_54 (by decide) ?_
        refine gx_iadd hX dX3_parts_55 ?_
        refine gx_iload_n hX dX3_parts_56 rfl ?_
        refine gx_iconst (v := 1) hX dX3_parts_57 (by decide) ?_
        refine gx_iload_n hX dX3_parts_58 rfl ?_
        refine gx_ishl hX dX3_parts_59 ?_
        refine gx_ior hX dX3_parts_60 ?_
        obtain ⟨r4, hr4, h⟩ := gx_bs h
        refine gx_cV (As := [.int ((x1) + (1)), .int ((x2) ||| ((1) <<< ((x3) &&& 31)))]) (rest := []) (b := gw_mo w) hX (hF _ _ _ hr4) (lw_V q1755 q1757 qs70 q92 q1758) ⟨rfl, dsX3_parts⟩ (by omega) (by decide) (gm_rc hX) rfl (gx_w8 gx_k0 (Nat.le_of_ble_eq_true rfl)) dX3_parts_61 ⟨Nat.le_refl _, Nat.le_refl _⟩ rfl ?_
        exact tX3_parts_B64 hlF hF hA hX ih h
      · exact tX3_parts_B64 hlF hF hA hX ih h
def fX3_partsB (F : gm_S → Int32 → Int32 → Option gm_S) (N : Nat) (σ : gm_S) (x1 : Int32) (x2 : Int32) : Option (gm_S) := if x1 = gs σ 30 then (fX3_looksAt N (σ)).bind fun r5 => some r5 else fX3_parts_L15 F N N σ (x1) (x2) (0)
set_option maxHeartbeats 4000000 in
theorem tX3_partsB (w : gw_W) (A : Nat → Prop) (hA : ∀ q, gm_A w q → A q) (l : Launch) {F : gm_S → Int32 → Int32 → Option gm_S} {lF : Nat} (hlF : 3 ≤ lF) (hF : ∀ (σ : gm_S) (y1 : Int32) (y2 : Int32) {r : gm_S}, F σ y1 y2 = some r → gx_T (gw_I w A) A l yX3_parts iX3_parts lF [va_rf (some (gw_mo w)), .int y1, .int y2] (gm_P w σ) 0 0 (gm_P w r) (.returned none)) (N : Nat) (σ : gm_S) (x1 : Int32) (x2 : Int32) {r : gm_S} (h : fX3_partsB F N σ x1 x2 = some r) : gx_T (gw_I w A) A l yX3_parts iX3_parts (lF + 1) [va_rf (some (gw_mo w)), .int (x1), .int (x2)] (gm_P w σ) 0 0 (gm_P w r) (.returned (none)) := by
  refine gx_T.of (gw_I.inv w A) (by decide) ⟨rfl, rfl⟩ (gx_kR (gx_kI (gx_kI gx_k0))) (Nat.le_of_ble_eq_true rfl) (fun X hl hAx hX => ?_)
  subst hl
  subst hAx
  show gx_G X (gm_P w σ) 0 0 [some (va_rf (some (gw_mo w))), some (.int (x1)), some (.int (x2)), none] 0 []
  unfold fX3_partsB at h
  refine gx_iload_n hX dX3_parts_0 rfl ?_
  refine gx_aload_n hX dX3_parts_1 rfl ?_
  refine gm_getI hX 30 (by decide) rfl q1371 rfl dX3_parts_2 ?_
  refine gx_icmp_ne (tgt := 13) hX dX3_parts_5 (by decide) h (fun h => ?_) (fun h => ?_)
  · refine gx_aload_n hX dX3_parts_8 rfl ?_
    obtain ⟨r5, hr5, h⟩ := gx_bs h
    refine gx_cV (As := []) (rest := []) (b := gw_mo w) hX (tX3_looksAt w _ hA (gx_l X) N (σ)  hr5) (lw_V q1759 q1761 qs71 q92 q1762) ⟨rfl, dsX3_looksAt⟩ (by omega) (by decide) (gm_rc hX) rfl (gx_w8 gx_k0 (Nat.le_of_ble_eq_true rfl)) dX3_parts_9 ⟨Nat.le_refl _, Nat.le_refl _⟩ rfl ?_
    cases h
    exact gx_vret hX rfl dX3_parts_12 rfl ⟨rfl, rfl⟩ (fun _ h => h)
  · refine gx_iconst (v := 0) hX dX3_parts_13 (by decide) ?_
    refine gx_istore_n hX dX3_parts_14 (Nat.le_of_ble_eq_true rfl) gx_c1i (lv' := [some (va_rf (some (gw_mo w))), some (.int (x1)), some (.int (x2)), some (.int (0))]) rfl ?_
    exact tX3_parts_L15 hlF hF hA hX  N _ _ _ _ h
def fX3_parts (N : Nat) : Nat → gm_S → Int32 → Int32 → Option gm_S
  | 0, _, _, _ => none
  | D + 1, σ, y1, y2 => fX3_partsB (fX3_parts N D) N σ y1 y2
theorem tX3_parts (w : gw_W) (A : Nat → Prop) (hA : ∀ q, gm_A w q → A q) (l : Launch) (N : Nat) : ∀ (D : Nat) (σ : gm_S) (y1 : Int32) (y2 : Int32) {r : gm_S}, fX3_parts N D σ y1 y2 = some r → gx_T (gw_I w A) A l yX3_parts iX3_parts (3 + 1 * D) [va_rf (some (gw_mo w)), .int y1, .int y2] (gm_P w σ) 0 0 (gm_P w r) (.returned none) := by
  intro D
  induction D with
  | zero =>
    intro σ y1 y2 r h
    unfold fX3_parts at h
    cases h
  | succ D ih =>
    intro σ y1 y2 r h
    unfold fX3_parts at h
    have h2 := tX3_partsB w A hA l (F := fX3_parts N D) (lF := 3 + 1 * D) (by omega) ih N σ y1 y2 h
    rw [show 3 + 1 * (D + 1) = 3 + 1 * D + 1 by omega]
    exact h2
abbrev iX3_partings : gx_M := (RX3, "partings", cX3_partings, 1, none)
theorem dsX3_partings : gx_ds yX3_partings 0 := by decide +kernel
def fX3_partings (N : Nat) (σ : gm_S)  : Option (gm_S) := (gm_pz σ 32 (0)).bind fun σ1 => (gm_pt σ1 33 (0)).bind fun σ2 => (fX3_parts N 10 (σ2) (0) (0)).bind fun r3 => some r3
set_option maxHeartbeats 4000000 in
theorem tX3_partings (w : gw_W) (A : Nat → Prop) (hA : ∀ q, gm_A w q → A q) (l : Launch) (N : Nat) (σ : gm_S)  {r : gm_S} (h : fX3_partings N σ = some r) : gx_T (gw_I w A) A l yX3_partings iX3_partings 15 [va_rf (some (gw_mo w))] (gm_P w σ) 0 0 (gm_P w r) (.returned (none)) := by
  refine gx_T.of (gw_I.inv w A) (by decide) ⟨rfl, rfl⟩ (gx_kR gx_k0) (Nat.le_of_ble_eq_true rfl) (fun X hl hAx hX => ?_)
  subst hl
  subst hAx
  show gx_G X (gm_P w σ) 0 0 [some (va_rf (some (gw_mo w)))] 0 []
  unfold fX3_partings at h
  refine gx_aload_n hX dX3_partings_0 rfl ?_
  refine gx_iconst (v := 0) hX dX3_partings_1 (by decide) ?_
  refine gm_putZ hX hA (k := 32) ⟨by decide, rfl⟩ q1373 ⟨rfl, rfl⟩ rfl dX3_partings_2 h (fun σ1 h => ?_)
  refine gx_aload_n hX dX3_partings_5 rfl ?_
  refine gx_iconst (v := 0) hX dX3_partings_6 (by decide) ?_
  refine gm_putI hX hA (k := 33) ⟨by decide, rfl⟩ q1374 ⟨rfl, rfl⟩ rfl dX3_partings_7 h (fun σ2 h => ?_)
  refine gx_aload_n hX dX3_partings_10 rfl ?_
  refine gx_iconst (v := 0) hX dX3_partings_11 (by decide) ?_
  refine gx_iconst (v := 0) hX dX3_partings_12 (by decide) ?_
  obtain ⟨r3, hr3, h⟩ := gx_bs h
  refine gx_cV (As := [.int (0), .int (0)]) (rest := []) (b := gw_mo w) hX (tX3_parts w (gx_A X) hA (gx_l X) N 10 _ _ _ hr3) (lw_V q1755 q1757 qs70 q92 q1758) ⟨rfl, dsX3_parts⟩ (by decide) (by decide) (gm_rc hX) rfl (gx_w8 gx_k0 (Nat.le_of_ble_eq_true rfl)) dX3_partings_13 ⟨Nat.le_refl _, Nat.le_refl _⟩ rfl ?_
  cases h
  exact gx_vret hX rfl dX3_partings_16 rfl ⟨rfl, rfl⟩ (fun _ h => h)
abbrev iX3_best : gx_M := (RX3, "best", cX3_best, 4, some .int)
theorem dsX3_best : gx_ds yX3_best 2 := by decide +kernel
def fX3_best (N : Nat) (σ : gm_S) (x1 : Int32) (x2 : Int32) : Option (gm_S × Int32) := (fX3_refuses N (σ) (x1)).bind fun r2 => if r2.2 = 0 then (fX3_in  (x2) ((-1)) ((gs r2.1 30) - (1))).bind fun r4 => if r4 = 0 then some (r2.1, (-1)) else (fX3_partings N (r2.1)).bind fun r6 => if x2 = (-1) then some (r6, gs r6 31) else (gm_rd r6 29 (x2)).bind fun v7 => some (r6, v7) else some (r2.1, r2.2)
set_option maxHeartbeats 4000000 in
theorem tX3_best (w : gw_W) (A : Nat → Prop) (hA : ∀ q, gm_A w q → A q) (l : Launch) (N : Nat) (σ : gm_S) (x1 : Int32) (x2 : Int32) {r : gm_S × Int32} (h : fX3_best N σ x1 x2 = some r) : gx_T (gw_I w A) A l yX3_best iX3_best 16 [va_rf (some (gw_mo w)), .int (x1), .int (x2)] (gm_P w σ) 0 0 (gm_P w r.1) (.returned (some (.int r.2))) := by
  refine gx_T.of (gw_I.inv w A) (by decide) ⟨rfl, rfl⟩ (gx_kR (gx_kI (gx_kI gx_k0))) (Nat.le_of_ble_eq_true rfl) (fun X hl hAx hX => ?_)
  subst hl
  subst hAx
  show gx_G X (gm_P w σ) 0 0 [some (va_rf (some (gw_mo w))), some (.int (x1)), some (.int (x2)), none] 0 []
  unfold fX3_best at h
  refine gx_aload_n hX dX3_best_0 rfl ?_
  refine gx_iload_n hX dX3_best_1 rfl ?_
  obtain ⟨r2, hr2, h⟩ := gx_bs h
  refine gx_cV (As := [.int (x1)]) (rest := []) (b := gw_mo w) hX (tX3_refuses w _ hA (gx_l X) N (σ) (x1) hr2) (lw_V q1747 q1749 qs68 q92 q1750) ⟨rfl, dsX3_refuses⟩ (by decide) (by decide) (gm_rc hX) rfl (gx_w8 gx_k0 (Nat.le_of_ble_eq_true rfl)) dX3_best_2 ⟨Nat.le_refl _, Nat.le_refl _⟩ rfl ?_
  refine gx_istore_n hX dX3_best_5 (Nat.le_of_ble_eq_true rfl) gx_c1i (lv' := [some (va_rf (some (gw_mo w))), some (.int (x1)), some (.int (x2)), some (.int (r2.2))]) rfl ?_
  refine gx_iload_n hX dX3_best_6 rfl ?_
  refine gx_if_eq (tgt := 12) hX dX3_best_7 (by decide) h (fun h => ?_) (fun h => ?_)
  · refine gx_iload_n hX dX3_best_12 rfl ?_
    refine gx_iconst (v := (-1)) hX dX3_best_13 (by decide) ?_
    refine gx_aload_n hX dX3_best_14 rfl ?_
    refine gm_getI hX 30 (by decide) rfl q1371 rfl dX3_best_15 ?_
    refine gx_iconst (v := 1) hX dX3_best_18 (by decide) ?_
    refine gx_isub hX dX3_best_19 ?_
    obtain ⟨r4, hr4, h⟩ := gx_bs h
    refine gx_cS (As := [.int (x2), .int ((-1)), .int ((gs r2.1 30) - (1))]) (rest := []) hX (tX3_in w (gx_A X) (gx_l X) (gm_P w r2.1) (x2) ((-1)) ((gs r2.1 30) - (1)) hr4) (lw_S q1467 q1468 q92 q1469) dsX3_in (by decide) (by decide) rfl (gx_w8 gx_k0 (Nat.le_of_ble_eq_true rfl)) dX3_best_20 ⟨Nat.le_refl _, Nat.le_refl _⟩ rfl ?_
    refine gx_if_ne (tgt := 28) hX dX3_best_23 (by decide) h (fun h => ?_) (fun h => ?_)
    · refine gx_iconst (v := (-1)) hX dX3_best_26 (by decide) ?_
      cases h
      exact gx_iret hX rfl dX3_best_27 rfl ⟨rfl, rfl⟩ (fun _ h => h)
    · refine gx_aload_n hX dX3_best_28 rfl ?_
      obtain ⟨r6, hr6, h⟩ := gx_bs h
      refine gx_cV (As := []) (rest := []) (b := gw_mo w) hX (tX3_partings w _ hA (gx_l X) N (r2.1)  hr6) (lw_V q1751 q1753 qs69 q92 q1754) ⟨rfl, dsX3_partings⟩ (by decide) (by decide) (gm_rc hX) rfl (gx_w8 gx_k0 (Nat.le_of_ble_eq_true rfl)) dX3_best_29 ⟨Nat.le_refl _, Nat.le_refl _⟩ rfl ?_
      refine gx_iload_n hX dX3_best_32 rfl ?_
      refine gx_iconst (v := (-1)) hX dX3_best_33 (by decide) ?_
      refine gx_icmp_ne (tgt := 44) hX dX3_best_34 (by decide) h (fun h => ?_) (fun h => ?_)
      · refine gx_aload_n hX dX3_best_37 rfl ?_
        refine gm_getI hX 31 (by decide) rfl q1372 rfl dX3_best_38 ?_
        refine gx_goto (tgt := 50) hX dX3_best_41 (by decide) ?_
        cases h
        exact gx_iret hX rfl dX3_best_50 rfl ⟨rfl, rfl⟩ (fun _ h => h)
      · refine gx_aload_n hX dX3_best_44 rfl ?_
        refine gm_getA hX 29 (by decide) (by decide) q1370 rfl dX3_best_45 ?_
        refine gx_iload_n hX dX3_best_48 rfl ?_
        refine gm_ld hX (by decide) dX3_best_49 h (fun v7 h => ?_)
        cases h
        exact gx_iret hX rfl dX3_best_50 rfl ⟨rfl, rfl⟩ (fun _ h => h)
  · refine gx_iload_n hX dX3_best_10 rfl ?_
    cases h
    exact gx_iret hX rfl dX3_best_11 rfl ⟨rfl, rfl⟩ (fun _ h => h)
abbrev iX3_calm : gx_M := (RX3, "calm", cX3_calm, 3, some .int)
theorem dsX3_calm : gx_ds yX3_calm 1 := by decide +kernel
def fX3_calm (N : Nat) (σ : gm_S) (x1 : Int32) : Option (gm_S × Int32) := (fX3_refuses N (σ) (x1)).bind fun r2 => if r2.2 = 0 then (fX3_partings N (r2.1)).bind fun r4 => some (r4, gs r4 33) else some (r2.1, r2.2)
set_option maxHeartbeats 4000000 in
theorem tX3_calm (w : gw_W) (A : Nat → Prop) (hA : ∀ q, gm_A w q → A q) (l : Launch) (N : Nat) (σ : gm_S) (x1 : Int32) {r : gm_S × Int32} (h : fX3_calm N σ x1 = some r) : gx_T (gw_I w A) A l yX3_calm iX3_calm 16 [va_rf (some (gw_mo w)), .int (x1)] (gm_P w σ) 0 0 (gm_P w r.1) (.returned (some (.int r.2))) := by
  refine gx_T.of (gw_I.inv w A) (by decide) ⟨rfl, rfl⟩ (gx_kR (gx_kI gx_k0)) (Nat.le_of_ble_eq_true rfl) (fun X hl hAx hX => ?_)
  subst hl
  subst hAx
  show gx_G X (gm_P w σ) 0 0 [some (va_rf (some (gw_mo w))), some (.int (x1)), none] 0 []
  unfold fX3_calm at h
  refine gx_aload_n hX dX3_calm_0 rfl ?_
  refine gx_iload_n hX dX3_calm_1 rfl ?_
  obtain ⟨r2, hr2, h⟩ := gx_bs h
  refine gx_cV (As := [.int (x1)]) (rest := []) (b := gw_mo w) hX (tX3_refuses w _ hA (gx_l X) N (σ) (x1) hr2) (lw_V q1747 q1749 qs68 q92 q1750) ⟨rfl, dsX3_refuses⟩ (by decide) (by decide) (gm_rc hX) rfl (gx_w8 gx_k0 (Nat.le_of_ble_eq_true rfl)) dX3_calm_2 ⟨Nat.le_refl _, Nat.le_refl _⟩ rfl ?_
  refine gx_istore_n hX dX3_calm_5 (Nat.le_of_ble_eq_true rfl) gx_c1i (lv' := [some (va_rf (some (gw_mo w))), some (.int (x1)), some (.int (r2.2))]) rfl ?_
  refine gx_iload_n hX dX3_calm_6 rfl ?_
  refine gx_if_eq (tgt := 12) hX dX3_calm_7 (by decide) h (fun h => ?_) (fun h => ?_)
  · refine gx_aload_n hX dX3_calm_12 rfl ?_
    obtain ⟨r4, hr4, h⟩ := gx_bs h
    refine gx_cV (As := []) (rest := []) (b := gw_mo w) hX (tX3_partings w _ hA (gx_l X) N (r2.1)  hr4) (lw_V q1751 q1753 qs69 q92 q1754) ⟨rfl, dsX3_partings⟩ (by decide) (by decide) (gm_rc hX) rfl (gx_w8 gx_k0 (Nat.le_of_ble_eq_true rfl)) dX3_calm_13 ⟨Nat.le_refl _, Nat.le_refl _⟩ rfl ?_
    refine gx_aload_n hX dX3_calm_16 rfl ?_
    refine gm_getI hX 33 (by decide) rfl q1374 rfl dX3_calm_17 ?_
    cases h
    exact gx_iret hX rfl dX3_calm_20 rfl ⟨rfl, rfl⟩ (fun _ h => h)
  · refine gx_iload_n hX dX3_calm_10 rfl ?_
    cases h
    exact gx_iret hX rfl dX3_calm_11 rfl ⟨rfl, rfl⟩ (fun _ h => h)
abbrev iX3_spells : gx_M := (RX3, "spells", cX3_spells, 3, none)
theorem dsX3_spells : gx_ds yX3_spells 1 := by decide +kernel
def fX3_spells_L2 (i : Nat) : Nat → gm_S → Nat → Option gm_S
  | 0, _, _ => none
  | k + 1, σ, j => if j < gw_len.getD i 0 then (fX3_must σ (gs_at i j)).bind fun r => fX3_spells_L2 i k r (j + 1) else some σ
def fX3_spells (N : Nat) (σ : gm_S) (i : Nat) : Option gm_S := fX3_spells_L2 i N σ 0
theorem tX3_spells_L2 {w : gw_W} {X : gx_X} {r : gm_S} (hA : ∀ q, gm_A w q → gx_A X q) {i : Nat} (hi : i < 4) (hX : gx_O (gw_I w (gx_A X)) X iX3_spells 8 0 0 (gm_P w r) (.returned none)) : ∀ (k : Nat) (σ : gm_S) (j : Nat), j < 2 ^ 30 → fX3_spells_L2 i k σ j = some r → gx_G X (gm_P w σ) 0 0 [some (va_rf (some (gw_mo w))), some (va_rf (some (gw_sK w i))), some (.int (nI j))] 2 [] := by
  intro k
  induction k with
  | zero =>
    intro σ j _ h
    unfold fX3_spells_L2 at h
    cases h
  | succ k ih =>
    intro σ j hj h
    unfold fX3_spells_L2 at h
    have hl4 := gs_len_lt i hi
    refine gx_iload_n hX dX3_spells_2 rfl ?_
    refine gx_aload_n hX dX3_spells_3 rfl ?_
    refine gs_cV (As := []) (rest := [.int (nI j)]) hX hi (tJ10_length w (gx_A X) (gx_l X) (gm_P w σ) i hi) (lw_V q1575 q1576 q1577 q115 q1578) ⟨rfl, dsJ10_length⟩ (by decide) (by decide) rfl (gx_w8 (gx_kI gx_k0) (Nat.le_of_ble_eq_true rfl)) dX3_spells_4 ⟨Nat.le_refl _, Nat.le_refl _⟩ rfl ?_
    by_cases hc : j < gw_len.getD i 0
    · rw [if_pos hc] at h
      obtain ⟨r1, hr1, h⟩ := gx_bs h
      have h0 : (if nI (gw_len.getD i 0) ≤ nI j then (none : Option Unit) else some ()) = some () := if_neg (nI_ge hc hl4)
      refine gx_icmp_ge (tgt := 25) hX dX3_spells_7 (by decide) h0 (fun h => by cases h) (fun _ => ?_)
      refine gx_aload_n hX dX3_spells_10 rfl ?_
      refine gx_aload_n hX dX3_spells_11 rfl ?_
      refine gx_iload_n hX dX3_spells_12 rfl ?_
      refine gs_cV (As := [.int (nI j)]) (rest := [va_rf (some (gw_mo w))]) hX hi (tJ10_charAt w (gx_A X) (gx_l X) (gm_P w σ) i hi j hc) (lw_V q1585 q1586 q1587 q115 q1588) ⟨rfl, dsJ10_charAt⟩ (by decide) (by decide) rfl (gx_w8 (gx_kR gx_k0) (Nat.le_of_ble_eq_true rfl)) dX3_spells_13 ⟨Nat.le_refl _, Nat.le_refl _⟩ rfl ?_
      refine gx_cV (As := [.int (gs_at i j)]) (rest := []) (b := gw_mo w) hX (tX3_must w (gx_A X) hA (gx_l X) σ (gs_at i j) hr1) (lw_V q1621 q1623 qs48 q92 q1624) ⟨rfl, dsX3_must⟩ (by decide) (by decide) (gm_rc hX) rfl (gx_w8 gx_k0 (Nat.le_of_ble_eq_true rfl)) dX3_spells_16 ⟨Nat.le_refl _, Nat.le_refl _⟩ rfl ?_
      refine gx_iinc (v := 1) hX dX3_spells_19 rfl (by decide) gx_c1r (lv' := [some (va_rf (some (gw_mo w))), some (va_rf (some (gw_sK w i))), some (.int (nI j + 1))]) rfl ?_
      refine gx_goto (tgt := 2) hX dX3_spells_22 (by decide) ?_
      rw [nI_1]
      have : gw_len.getD i 0 ≤ 6 := by
        match i, hi with
        | 0, _ => decide
        | 1, _ => decide
        | 2, _ => decide
        | 3, _ => decide
      exact ih r1 (j + 1) (by omega) h
    · rw [if_neg hc] at h
      cases h
      have h0 : (if nI (gw_len.getD i 0) ≤ nI j then some () else (none : Option Unit)) = some () := if_pos (nI_le (Nat.not_lt.mp hc) (by omega))
      refine gx_icmp_ge (tgt := 25) hX dX3_spells_7 (by decide) h0 (fun _ => ?_) (fun h => by cases h)
      exact gx_vret hX rfl dX3_spells_25 rfl ⟨rfl, rfl⟩ (fun _ h => h)
theorem tX3_spells (w : gw_W) (A : Nat → Prop) (hA : ∀ q, gm_A w q → A q) (l : Launch) (N : Nat) (σ : gm_S) (i : Nat) (hi : i < 4) {r : gm_S} (h : fX3_spells N σ i = some r) : gx_T (gw_I w A) A l yX3_spells iX3_spells 8 [va_rf (some (gw_mo w)), va_rf (some (gw_sK w i))] (gm_P w σ) 0 0 (gm_P w r) (.returned none) := by
  refine gx_T.of (gw_I.inv w A) (by decide) ⟨rfl, rfl⟩ (gx_kR (gx_kR gx_k0)) (Nat.le_of_ble_eq_true rfl) (fun X hl hAx hX => ?_)
  subst hl
  subst hAx
  show gx_G X (gm_P w σ) 0 0 [some (va_rf (some (gw_mo w))), some (va_rf (some (gw_sK w i))), none] 0 []
  refine gx_iconst (v := 0) hX dX3_spells_0 (by decide) ?_
  refine gx_istore_n hX dX3_spells_1 (Nat.le_of_ble_eq_true rfl) gx_c1r (lv' := [some (va_rf (some (gw_mo w))), some (va_rf (some (gw_sK w i))), some (.int (nI 0))]) rfl ?_
  exact tX3_spells_L2 hA hi hX N σ 0 (by decide) h
abbrev iX3_word : gx_M := (RX3, "word", cX3_word, 1, some .int)
theorem dsX3_word : gx_ds yX3_word 0 := by decide +kernel
def fX3_word (N : Nat) (σ : gm_S)  : Option (gm_S × Int32) := (fX3_here (σ)).bind fun r2 => if r2 = nI 103 then (fX3_spells N (σ) 2).bind fun r3 => some (r3, 2) else if r2 = nI 107 then (fX3_spells N (σ) 1).bind fun r4 => some (r4, 1) else if r2 = nI 116 then (fX3_spells N (σ) 0).bind fun r5 => some (r5, 0) else if r2 = nI 119 then (fX3_spells N (σ) 3).bind fun r6 => some (r6, 3) else (gm_pz σ 14 (1)).bind fun σ7 => some (σ7, (-1))
set_option maxHeartbeats 4000000 in
theorem tX3_word (w : gw_W) (A : Nat → Prop) (hA : ∀ q, gm_A w q → A q) (l : Launch) (N : Nat) (σ : gm_S)  {r : gm_S × Int32} (h : fX3_word N σ = some r) : gx_T (gw_I w A) A l yX3_word iX3_word 9 [va_rf (some (gw_mo w))] (gm_P w σ) 0 0 (gm_P w r.1) (.returned (some (.int r.2))) := by
  refine gx_T.of (gw_I.inv w A) (by decide) ⟨rfl, rfl⟩ (gx_kR gx_k0) (Nat.le_of_ble_eq_true rfl) (fun X hl hAx hX => ?_)
  subst hl
  subst hAx
  show gx_G X (gm_P w σ) 0 0 [some (va_rf (some (gw_mo w)))] 0 []
  unfold fX3_word at h
  refine gx_aload_n hX dX3_word_0 rfl ?_
  obtain ⟨r2, hr2, h⟩ := gx_bs h
  refine gx_cV (As := []) (rest := []) (b := gw_mo w) hX (tX3_here w _ hA (gx_l X) (σ)  hr2) (lw_V q1566 q1568 qs46 q92 q1569) ⟨rfl, dsX3_here⟩ (by decide) (by decide) (gm_rc hX) rfl (gx_w8 gx_k0 (Nat.le_of_ble_eq_true rfl)) dX3_word_1 ⟨Nat.le_refl _, Nat.le_refl _⟩ rfl ?_
  by_cases c0 : r2 = nI 103
  · rw [if_pos c0] at h
    refine gx_lsw (off := 60) (tgt := 64) hX dX3_word_4 (by decide) (by rw [c0]; decide) (by decide) ?_
    refine gx_aload_n hX dX3_word_64 rfl ?_
    refine gs_ldc (i := 2) hX (by decide) ⟨rfl, rfl⟩ dX3_word_65 ?_
    obtain ⟨r3, hr3, h⟩ := gx_bs h
    refine gx_cV (As := [va_rf (some (gw_sK w 2))]) (rest := []) (b := gw_mo w) hX (tX3_spells w (gx_A X) hA (gx_l X) N (σ) 2 (by decide) hr3) (lw_V q1571 q1573 qs47 q92 q1574) ⟨rfl, dsX3_spells⟩ (by decide) (by decide) (gm_rc hX) rfl (gx_w8 gx_k0 (Nat.le_of_ble_eq_true rfl)) dX3_word_67 ⟨Nat.le_refl _, Nat.le_refl _⟩ rfl ?_
    refine gx_iconst (v := 2) hX dX3_word_70 (by decide) ?_
    cases h
    exact gx_iret hX rfl dX3_word_71 rfl ⟨rfl, rfl⟩ (fun _ h => h)
  · rw [if_neg c0] at h
    by_cases c1 : r2 = nI 107
    · rw [if_pos c1] at h
      refine gx_lsw (off := 52) (tgt := 56) hX dX3_word_4 (by decide) (by rw [c1]; decide) (by decide) ?_
      refine gx_aload_n hX dX3_word_56 rfl ?_
      refine gs_ldc (i := 1) hX (by decide) ⟨rfl, rfl⟩ dX3_word_57 ?_
      obtain ⟨r4, hr4, h⟩ := gx_bs h
      refine gx_cV (As := [va_rf (some (gw_sK w 1))]) (rest := []) (b := gw_mo w) hX (tX3_spells w (gx_A X) hA (gx_l X) N (σ) 1 (by decide) hr4) (lw_V q1571 q1573 qs47 q92 q1574) ⟨rfl, dsX3_spells⟩ (by decide) (by decide) (gm_rc hX) rfl (gx_w8 gx_k0 (Nat.le_of_ble_eq_true rfl)) dX3_word_59 ⟨Nat.le_refl _, Nat.le_refl _⟩ rfl ?_
      refine gx_iconst (v := 1) hX dX3_word_62 (by decide) ?_
      cases h
      exact gx_iret hX rfl dX3_word_63 rfl ⟨rfl, rfl⟩ (fun _ h => h)
    · rw [if_neg c1] at h
      by_cases c2 : r2 = nI 116
      · rw [if_pos c2] at h
        refine gx_lsw (off := 44) (tgt := 48) hX dX3_word_4 (by decide) (by rw [c2]; decide) (by decide) ?_
        refine gx_aload_n hX dX3_word_48 rfl ?_
        refine gs_ldc (i := 0) hX (by decide) ⟨rfl, rfl⟩ dX3_word_49 ?_
        obtain ⟨r5, hr5, h⟩ := gx_bs h
        refine gx_cV (As := [va_rf (some (gw_sK w 0))]) (rest := []) (b := gw_mo w) hX (tX3_spells w (gx_A X) hA (gx_l X) N (σ) 0 (by decide) hr5) (lw_V q1571 q1573 qs47 q92 q1574) ⟨rfl, dsX3_spells⟩ (by decide) (by decide) (gm_rc hX) rfl (gx_w8 gx_k0 (Nat.le_of_ble_eq_true rfl)) dX3_word_51 ⟨Nat.le_refl _, Nat.le_refl _⟩ rfl ?_
        refine gx_iconst (v := 0) hX dX3_word_54 (by decide) ?_
        cases h
        exact gx_iret hX rfl dX3_word_55 rfl ⟨rfl, rfl⟩ (fun _ h => h)
      · rw [if_neg c2] at h
        by_cases c3 : r2 = nI 119
        · rw [if_pos c3] at h
          refine gx_lsw (off := 68) (tgt := 72) hX dX3_word_4 (by decide) (by rw [c3]; decide) (by decide) ?_
          refine gx_aload_n hX dX3_word_72 rfl ?_
          refine gs_ldc (i := 3) hX (by decide) ⟨rfl, rfl⟩ dX3_word_73 ?_
          obtain ⟨r6, hr6, h⟩ := gx_bs h
          refine gx_cV (As := [va_rf (some (gw_sK w 3))]) (rest := []) (b := gw_mo w) hX (tX3_spells w (gx_A X) hA (gx_l X) N (σ) 3 (by decide) hr6) (lw_V q1571 q1573 qs47 q92 q1574) ⟨rfl, dsX3_spells⟩ (by decide) (by decide) (gm_rc hX) rfl (gx_w8 gx_k0 (Nat.le_of_ble_eq_true rfl)) dX3_word_75 ⟨Nat.le_refl _, Nat.le_refl _⟩ rfl ?_
          refine gx_iconst (v := 3) hX dX3_word_78 (by decide) ?_
          cases h
          exact gx_iret hX rfl dX3_word_79 rfl ⟨rfl, rfl⟩ (fun _ h => h)
        · rw [if_neg c3] at h
          have e0 : (r2).toInt ≠ 103 := gx_nei c0
          have e1 : (r2).toInt ≠ 107 := gx_nei c1
          have e2 : (r2).toInt ≠ 116 := gx_nei c2
          have e3 : (r2).toInt ≠ 119 := gx_nei c3
          refine gx_lsw (off := 76) (tgt := 80) hX dX3_word_4 (by decide) (by simp [Op.lookupswitch.offset, e0, e0.symm, e1, e1.symm, e2, e2.symm, e3, e3.symm]) (by decide) ?_
          refine gx_aload_n hX dX3_word_80 rfl ?_
          refine gx_iconst (v := 1) hX dX3_word_81 (by decide) ?_
          refine gm_putZ hX hA (k := 14) ⟨by decide, rfl⟩ q1355 ⟨rfl, rfl⟩ rfl dX3_word_82 h (fun σ7 h => ?_)
          refine gx_iconst (v := (-1)) hX dX3_word_85 (by decide) ?_
          cases h
          exact gx_iret hX rfl dX3_word_86 rfl ⟨rfl, rfl⟩ (fun _ h => h)
abbrev iX3_factor : gx_M := (RX3, "factor", cX3_factor, 5, none)
theorem dsX3_factor : gx_ds yX3_factor 0 := by decide +kernel
abbrev iX3_every : gx_M := (RX3, "every", cX3_every, 1, none)
theorem dsX3_every : gx_ds yX3_every 0 := by decide +kernel
def fX3_every_L4 (F : gm_S → Option gm_S) (N : Nat)   : Nat → gm_S → Option (gm_S)
  | 0, _ => none
  | k + 1, σ => if gs σ 14 = 0 then (fX3_here (σ)).bind fun r2 => if r2 = nI 38 then (gm_pt σ 13 ((gs σ 13) + (1))).bind fun σ3 => (F (σ3) ).bind fun r4 => (fX3_emits (r4) ((-2))).bind fun r5 => (fX3_every_L4 F N k) r5 else some σ else some σ
set_option maxHeartbeats 4000000 in
theorem tX3_every_L4 {w : gw_W} {X : gx_X} {F : gm_S → Option gm_S} {lF : Nat} (hlF : 2 ≤ lF) {N : Nat} {r : gm_S} (hF : ∀ (σ : gm_S)  {r : gm_S}, F σ  = some r → gx_T (gw_I w (gx_A X)) (gx_A X) (gx_l X) yX3_factor iX3_factor lF [va_rf (some (gw_mo w))] (gm_P w σ) 0 0 (gm_P w r) (.returned none)) (hA : ∀ q, gm_A w q → gx_A X q) (hX : gx_O (gw_I w (gx_A X)) X iX3_every (lF + 1) 0 0 (gm_P w r) (.returned (none)))  : ∀ (k : Nat) (σ : gm_S), fX3_every_L4 F N k σ = some r → gx_G X (gm_P w σ) 0 0 [some (va_rf (some (gw_mo w)))] 4 [] := by
  intro k
  induction k with
  | zero =>
    intro σ h
    unfold fX3_every_L4 at h
    cases h
  | succ k ih =>
    intro σ h
    unfold fX3_every_L4 at h
    refine gx_aload_n hX dX3_every_4 rfl ?_
    refine gm_getI hX 14 (by decide) rfl q1355 rfl dX3_every_5 ?_
    refine gx_if_ne (tgt := 43) hX dX3_every_8 (by decide) h (fun h => ?_) (fun h => ?_)
    · refine gx_aload_n hX dX3_every_11 rfl ?_
      obtain ⟨r2, hr2, h⟩ := gx_bs h
      refine gx_cV (As := []) (rest := []) (b := gw_mo w) hX (tX3_here w _ hA (gx_l X) (σ)  hr2) (lw_V q1566 q1568 qs46 q92 q1569) ⟨rfl, dsX3_here⟩ (by omega) (by decide) (gm_rc hX) rfl (gx_w8 gx_k0 (Nat.le_of_ble_eq_true rfl)) dX3_every_12 ⟨Nat.le_refl _, Nat.le_refl _⟩ rfl ?_
      refine gx_bipush (v := nI 38) hX dX3_every_15 (by decide) ?_
      refine gx_icmp_ne (tgt := 43) hX dX3_every_17 (by decide) h (fun h => ?_) (fun h => ?_)
      · refine gx_aload_n hX dX3_every_20 rfl ?_
        refine gx_dup hX dX3_every_21 (gx_cat _) ?_
        refine gm_getI hX 13 (by decide) rfl q1354 rfl dX3_every_22 ?_
        refine gx_iconst (v := 1) hX dX3_every_25 (by decide) ?_
        refine gx_iadd hX dX3_every_26 ?_
        refine gm_putI hX hA (k := 13) ⟨by decide, rfl⟩ q1354 ⟨rfl, rfl⟩ rfl dX3_every_27 h (fun σ3 h => ?_)
        refine gx_aload_n hX dX3_every_30 rfl ?_
        obtain ⟨r4, hr4, h⟩ := gx_bs h
        refine gx_cV (As := []) (rest := []) (b := gw_mo w) hX (hF _ hr4) (lw_V q1636 q1638 qs51 q92 q1639) ⟨rfl, dsX3_factor⟩ (by omega) (by decide) (gm_rc hX) rfl (gx_w8 gx_k0 (Nat.le_of_ble_eq_true rfl)) dX3_every_31 ⟨Nat.le_refl _, Nat.le_refl _⟩ rfl ?_
        refine gx_aload_n hX dX3_every_34 rfl ?_
        refine gx_bipush (v := (-2)) hX dX3_every_35 (by decide) ?_
        obtain ⟨r5, hr5, h⟩ := gx_bs h
        refine gx_cV (As := [.int ((-2))]) (rest := []) (b := gw_mo w) hX (tX3_emits w _ hA (gx_l X) (r4) ((-2)) hr5) (lw_V q1640 q1642 qs52 q92 q1643) ⟨rfl, dsX3_emits⟩ (by omega) (by decide) (gm_rc hX) rfl (gx_w8 gx_k0 (Nat.le_of_ble_eq_true rfl)) dX3_every_37 ⟨Nat.le_refl _, Nat.le_refl _⟩ rfl ?_
        refine gx_goto (tgt := 4) hX dX3_every_40 (by decide) ?_
        exact ih _ h
      · cases h
        exact gx_vret hX rfl dX3_every_43 rfl ⟨rfl, rfl⟩ (fun _ h => h)
    · cases h
      exact gx_vret hX rfl dX3_every_43 rfl ⟨rfl, rfl⟩ (fun _ h => h)
def fX3_every (F : gm_S → Option gm_S) (N : Nat) (σ : gm_S)  : Option (gm_S) := (F (σ) ).bind fun r1 => fX3_every_L4 F N N r1
set_option maxHeartbeats 4000000 in
theorem tX3_every (w : gw_W) (A : Nat → Prop) (hA : ∀ q, gm_A w q → A q) (l : Launch) {F : gm_S → Option gm_S} {lF : Nat} (hlF : 2 ≤ lF) (hF : ∀ (σ : gm_S)  {r : gm_S}, F σ  = some r → gx_T (gw_I w A) A l yX3_factor iX3_factor lF [va_rf (some (gw_mo w))] (gm_P w σ) 0 0 (gm_P w r) (.returned none)) (N : Nat) (σ : gm_S)  {r : gm_S} (h : fX3_every F N σ = some r) : gx_T (gw_I w A) A l yX3_every iX3_every (lF + 1) [va_rf (some (gw_mo w))] (gm_P w σ) 0 0 (gm_P w r) (.returned (none)) := by
  refine gx_T.of (gw_I.inv w A) (by decide) ⟨rfl, rfl⟩ (gx_kR gx_k0) (Nat.le_of_ble_eq_true rfl) (fun X hl hAx hX => ?_)
  subst hl
  subst hAx
  show gx_G X (gm_P w σ) 0 0 [some (va_rf (some (gw_mo w)))] 0 []
  unfold fX3_every at h
  refine gx_aload_n hX dX3_every_0 rfl ?_
  obtain ⟨r1, hr1, h⟩ := gx_bs h
  refine gx_cV (As := []) (rest := []) (b := gw_mo w) hX (hF _ hr1) (lw_V q1636 q1638 qs51 q92 q1639) ⟨rfl, dsX3_factor⟩ (by omega) (by decide) (gm_rc hX) rfl (gx_w8 gx_k0 (Nat.le_of_ble_eq_true rfl)) dX3_every_1 ⟨Nat.le_refl _, Nat.le_refl _⟩ rfl ?_
  exact tX3_every_L4 hlF hF hA hX  N _ h
abbrev iX3_some : gx_M := (RX3, "some", cX3_some, 1, none)
theorem dsX3_some : gx_ds yX3_some 0 := by decide +kernel
def fX3_some_L4 (F : gm_S → Option gm_S) (N : Nat)   : Nat → gm_S → Option (gm_S)
  | 0, _ => none
  | k + 1, σ => if gs σ 14 = 0 then (fX3_here (σ)).bind fun r2 => if r2 = nI 124 then (gm_pt σ 13 ((gs σ 13) + (1))).bind fun σ3 => (fX3_every F N (σ3) ).bind fun r4 => (fX3_emits (r4) ((-3))).bind fun r5 => (fX3_some_L4 F N k) r5 else some σ else some σ
set_option maxHeartbeats 4000000 in
theorem tX3_some_L4 {w : gw_W} {X : gx_X} {F : gm_S → Option gm_S} {lF : Nat} (hlF : 2 ≤ lF) {N : Nat} {r : gm_S} (hF : ∀ (σ : gm_S)  {r : gm_S}, F σ  = some r → gx_T (gw_I w (gx_A X)) (gx_A X) (gx_l X) yX3_factor iX3_factor lF [va_rf (some (gw_mo w))] (gm_P w σ) 0 0 (gm_P w r) (.returned none)) (hA : ∀ q, gm_A w q → gx_A X q) (hX : gx_O (gw_I w (gx_A X)) X iX3_some (lF + 2) 0 0 (gm_P w r) (.returned (none)))  : ∀ (k : Nat) (σ : gm_S), fX3_some_L4 F N k σ = some r → gx_G X (gm_P w σ) 0 0 [some (va_rf (some (gw_mo w)))] 4 [] := by
  intro k
  induction k with
  | zero =>
    intro σ h
    unfold fX3_some_L4 at h
    cases h
  | succ k ih =>
    intro σ h
    unfold fX3_some_L4 at h
    refine gx_aload_n hX dX3_some_4 rfl ?_
    refine gm_getI hX 14 (by decide) rfl q1355 rfl dX3_some_5 ?_
    refine gx_if_ne (tgt := 43) hX dX3_some_8 (by decide) h (fun h => ?_) (fun h => ?_)
    · refine gx_aload_n hX dX3_some_11 rfl ?_
      obtain ⟨r2, hr2, h⟩ := gx_bs h
      refine gx_cV (As := []) (rest := []) (b := gw_mo w) hX (tX3_here w _ hA (gx_l X) (σ)  hr2) (lw_V q1566 q1568 qs46 q92 q1569) ⟨rfl, dsX3_here⟩ (by omega) (by decide) (gm_rc hX) rfl (gx_w8 gx_k0 (Nat.le_of_ble_eq_true rfl)) dX3_some_12 ⟨Nat.le_refl _, Nat.le_refl _⟩ rfl ?_
      refine gx_bipush (v := nI 124) hX dX3_some_15 (by decide) ?_
      refine gx_icmp_ne (tgt := 43) hX dX3_some_17 (by decide) h (fun h => ?_) (fun h => ?_)
      · refine gx_aload_n hX dX3_some_20 rfl ?_
        refine gx_dup hX dX3_some_21 (gx_cat _) ?_
        refine gm_getI hX 13 (by decide) rfl q1354 rfl dX3_some_22 ?_
        refine gx_iconst (v := 1) hX dX3_some_25 (by decide) ?_
        refine gx_iadd hX dX3_some_26 ?_
        refine gm_putI hX hA (k := 13) ⟨by decide, rfl⟩ q1354 ⟨rfl, rfl⟩ rfl dX3_some_27 h (fun σ3 h => ?_)
        refine gx_aload_n hX dX3_some_30 rfl ?_
        obtain ⟨r4, hr4, h⟩ := gx_bs h
        refine gx_cV (As := []) (rest := []) (b := gw_mo w) hX (tX3_every w (gx_A X) hA (gx_l X) hlF hF N (σ3)  hr4) (lw_V q1632 q1634 qs50 q92 q1635) ⟨rfl, dsX3_every⟩ (by omega) (by decide) (gm_rc hX) rfl (gx_w8 gx_k0 (Nat.le_of_ble_eq_true rfl)) dX3_some_31 ⟨Nat.le_refl _, Nat.le_refl _⟩ rfl ?_
        refine gx_aload_n hX dX3_some_34 rfl ?_
        refine gx_bipush (v := (-3)) hX dX3_some_35 (by decide) ?_
        obtain ⟨r5, hr5, h⟩ := gx_bs h
        refine gx_cV (As := [.int ((-3))]) (rest := []) (b := gw_mo w) hX (tX3_emits w _ hA (gx_l X) (r4) ((-3)) hr5) (lw_V q1640 q1642 qs52 q92 q1643) ⟨rfl, dsX3_emits⟩ (by omega) (by decide) (gm_rc hX) rfl (gx_w8 gx_k0 (Nat.le_of_ble_eq_true rfl)) dX3_some_37 ⟨Nat.le_refl _, Nat.le_refl _⟩ rfl ?_
        refine gx_goto (tgt := 4) hX dX3_some_40 (by decide) ?_
        exact ih _ h
      · cases h
        exact gx_vret hX rfl dX3_some_43 rfl ⟨rfl, rfl⟩ (fun _ h => h)
    · cases h
      exact gx_vret hX rfl dX3_some_43 rfl ⟨rfl, rfl⟩ (fun _ h => h)
def fX3_some (F : gm_S → Option gm_S) (N : Nat) (σ : gm_S)  : Option (gm_S) := (fX3_every F N (σ) ).bind fun r1 => fX3_some_L4 F N N r1
set_option maxHeartbeats 4000000 in
theorem tX3_some (w : gw_W) (A : Nat → Prop) (hA : ∀ q, gm_A w q → A q) (l : Launch) {F : gm_S → Option gm_S} {lF : Nat} (hlF : 2 ≤ lF) (hF : ∀ (σ : gm_S)  {r : gm_S}, F σ  = some r → gx_T (gw_I w A) A l yX3_factor iX3_factor lF [va_rf (some (gw_mo w))] (gm_P w σ) 0 0 (gm_P w r) (.returned none)) (N : Nat) (σ : gm_S)  {r : gm_S} (h : fX3_some F N σ = some r) : gx_T (gw_I w A) A l yX3_some iX3_some (lF + 2) [va_rf (some (gw_mo w))] (gm_P w σ) 0 0 (gm_P w r) (.returned (none)) := by
  refine gx_T.of (gw_I.inv w A) (by decide) ⟨rfl, rfl⟩ (gx_kR gx_k0) (Nat.le_of_ble_eq_true rfl) (fun X hl hAx hX => ?_)
  subst hl
  subst hAx
  show gx_G X (gm_P w σ) 0 0 [some (va_rf (some (gw_mo w)))] 0 []
  unfold fX3_some at h
  refine gx_aload_n hX dX3_some_0 rfl ?_
  obtain ⟨r1, hr1, h⟩ := gx_bs h
  refine gx_cV (As := []) (rest := []) (b := gw_mo w) hX (tX3_every w (gx_A X) hA (gx_l X) hlF hF N (σ)  hr1) (lw_V q1632 q1634 qs50 q92 q1635) ⟨rfl, dsX3_every⟩ (by omega) (by decide) (gm_rc hX) rfl (gx_w8 gx_k0 (Nat.le_of_ble_eq_true rfl)) dX3_some_1 ⟨Nat.le_refl _, Nat.le_refl _⟩ rfl ?_
  exact tX3_some_L4 hlF hF hA hX  N _ h
def fX3_factor_B101 (F : gm_S → Option gm_S) (N : Nat)   (σ : gm_S) : Option (gm_S) := (gm_pt σ 15 ((gs σ 15) - (1))).bind fun σ7 => some σ7
set_option maxHeartbeats 4000000 in
theorem tX3_factor_B101 {w : gw_W} {X : gx_X} {F : gm_S → Option gm_S} {lF : Nat} (hlF : 2 ≤ lF) {N : Nat} {r : gm_S} (hF : ∀ (σ : gm_S)  {r : gm_S}, F σ  = some r → gx_T (gw_I w (gx_A X)) (gx_A X) (gx_l X) yX3_factor iX3_factor lF [va_rf (some (gw_mo w))] (gm_P w σ) 0 0 (gm_P w r) (.returned none)) (hA : ∀ q, gm_A w q → gx_A X q) (hX : gx_O (gw_I w (gx_A X)) X iX3_factor (lF + 3) 0 0 (gm_P w r) (.returned (none)))  {σ : gm_S} (h : fX3_factor_B101 F N σ = some r) : gx_G X (gm_P w σ) 0 0 [some (va_rf (some (gw_mo w))), none, none, none, none] 101 [] := by
  unfold fX3_factor_B101 at h
  refine gx_aload_n hX dX3_factor_101 rfl ?_
  refine gx_dup hX dX3_factor_102 (gx_cat _) ?_
  refine gm_getI hX 15 (by decide) rfl q1356 rfl dX3_factor_103 ?_
  refine gx_iconst (v := 1) hX dX3_factor_106 (by decide) ?_
  refine gx_isub hX dX3_factor_107 ?_
  refine gm_putI hX hA (k := 15) ⟨by decide, rfl⟩ q1356 ⟨rfl, rfl⟩ rfl dX3_factor_108 h (fun σ7 h => ?_)
  cases h
  exact gx_vret hX rfl dX3_factor_111 rfl ⟨rfl, rfl⟩ (fun _ h => h)
def fX3_factor_B69 (F : gm_S → Option gm_S) (N : Nat)   (σ : gm_S) (x1 : Int32) (y0 : Int32) (y1 : Int32) : Option (gm_S) := (gm_pt σ 13 ((y1) + (y0))).bind fun σ4 => if x1 = nI 33 then (F (σ4) ).bind fun r8 => (fX3_emits (r8) ((-1))).bind fun r9 => fX3_factor_B101 F N r9 else (fX3_some F N (σ4) ).bind fun r5 => (fX3_must (r5) (nI 41)).bind fun r6 => fX3_factor_B101 F N r6
set_option maxHeartbeats 4000000 in
theorem tX3_factor_B69 {w : gw_W} {X : gx_X} {F : gm_S → Option gm_S} {lF : Nat} (hlF : 2 ≤ lF) {N : Nat} {r : gm_S} (hF : ∀ (σ : gm_S)  {r : gm_S}, F σ  = some r → gx_T (gw_I w (gx_A X)) (gx_A X) (gx_l X) yX3_factor iX3_factor lF [va_rf (some (gw_mo w))] (gm_P w σ) 0 0 (gm_P w r) (.returned none)) (hA : ∀ q, gm_A w q → gx_A X q) (hX : gx_O (gw_I w (gx_A X)) X iX3_factor (lF + 3) 0 0 (gm_P w r) (.returned (none)))  {σ : gm_S} {x1 : Int32} {y0 : Int32} {y1 : Int32} (h : fX3_factor_B69 F N σ x1 y0 y1 = some r) : gx_G X (gm_P w σ) 0 0 [some (va_rf (some (gw_mo w))), some (.int (x1)), none, none, none] 69 [.int (y0), .int (y1), va_rf (some (gw_mo w))] := by
  unfold fX3_factor_B69 at h
  refine gx_iadd hX dX3_factor_69 ?_
  refine gm_putI hX hA (k := 13) ⟨by decide, rfl⟩ q1354 ⟨rfl, rfl⟩ rfl dX3_factor_70 h (fun σ4 h => ?_)
  refine gx_iload_n hX dX3_factor_73 rfl ?_
  refine gx_bipush (v := nI 33) hX dX3_factor_74 (by decide) ?_
  refine gx_icmp_ne (tgt := 91) hX dX3_factor_76 (by decide) h (fun h => ?_) (fun h => ?_)
  · refine gx_aload_n hX dX3_factor_79 rfl ?_
    obtain ⟨r8, hr8, h⟩ := gx_bs h
    refine gx_cV (As := []) (rest := []) (b := gw_mo w) hX (hF _ hr8) (lw_V q1636 q1638 qs51 q92 q1639) ⟨rfl, dsX3_factor⟩ (by omega) (by decide) (gm_rc hX) rfl (gx_w8 gx_k0 (Nat.le_of_ble_eq_true rfl)) dX3_factor_80 ⟨Nat.le_refl _, Nat.le_refl _⟩ rfl ?_
    refine gx_aload_n hX dX3_factor_83 rfl ?_
    refine gx_iconst (v := (-1)) hX dX3_factor_84 (by decide) ?_
    obtain ⟨r9, hr9, h⟩ := gx_bs h
    refine gx_cV (As := [.int ((-1))]) (rest := []) (b := gw_mo w) hX (tX3_emits w _ hA (gx_l X) (r8) ((-1)) hr9) (lw_V q1640 q1642 qs52 q92 q1643) ⟨rfl, dsX3_emits⟩ (by omega) (by decide) (gm_rc hX) rfl (gx_w8 gx_k0 (Nat.le_of_ble_eq_true rfl)) dX3_factor_85 ⟨Nat.le_refl _, Nat.le_refl _⟩ rfl ?_
    refine gx_goto (tgt := 101) hX dX3_factor_88 (by decide) ?_
    refine gx_sub hX (lv' := [some (va_rf (some (gw_mo w))), none, none, none, none]) ⟨Or.inr rfl, ⟨Or.inl rfl, ⟨Or.inr rfl, ⟨Or.inr rfl, ⟨Or.inr rfl, trivial⟩⟩⟩⟩⟩ ?_
    exact tX3_factor_B101 hlF hF hA hX  h
  · refine gx_aload_n hX dX3_factor_91 rfl ?_
    obtain ⟨r5, hr5, h⟩ := gx_bs h
    refine gx_cV (As := []) (rest := []) (b := gw_mo w) hX (tX3_some w (gx_A X) hA (gx_l X) hlF hF N (σ4)  hr5) (lw_V q1628 q1630 qs49 q92 q1631) ⟨rfl, dsX3_some⟩ (by omega) (by decide) (gm_rc hX) rfl (gx_w8 gx_k0 (Nat.le_of_ble_eq_true rfl)) dX3_factor_92 ⟨Nat.le_refl _, Nat.le_refl _⟩ rfl ?_
    refine gx_aload_n hX dX3_factor_95 rfl ?_
    refine gx_bipush (v := nI 41) hX dX3_factor_96 (by decide) ?_
    obtain ⟨r6, hr6, h⟩ := gx_bs h
    refine gx_cV (As := [.int (nI 41)]) (rest := []) (b := gw_mo w) hX (tX3_must w _ hA (gx_l X) (r5) (nI 41) hr6) (lw_V q1621 q1623 qs48 q92 q1624) ⟨rfl, dsX3_must⟩ (by omega) (by decide) (gm_rc hX) rfl (gx_w8 gx_k0 (Nat.le_of_ble_eq_true rfl)) dX3_factor_98 ⟨Nat.le_refl _, Nat.le_refl _⟩ rfl ?_
    refine gx_sub hX (lv' := [some (va_rf (some (gw_mo w))), none, none, none, none]) ⟨Or.inr rfl, ⟨Or.inl rfl, ⟨Or.inr rfl, ⟨Or.inr rfl, ⟨Or.inr rfl, trivial⟩⟩⟩⟩⟩ ?_
    exact tX3_factor_B101 hlF hF hA hX  h
def fX3_factor_B39 (F : gm_S → Option gm_S) (N : Nat)   (σ : gm_S) (x1 : Int32) (y0 : Int32) : Option (gm_S) := (gm_pz σ 14 (y0)).bind fun σ2 => (gm_pt σ2 15 ((gs σ2 15) + (1))).bind fun σ3 => if gs σ3 14 = 0 then fX3_factor_B69 F N σ3 (x1) (1) (gs σ3 13) else fX3_factor_B69 F N σ3 (x1) (0) (gs σ3 13)
set_option maxHeartbeats 4000000 in
theorem tX3_factor_B39 {w : gw_W} {X : gx_X} {F : gm_S → Option gm_S} {lF : Nat} (hlF : 2 ≤ lF) {N : Nat} {r : gm_S} (hF : ∀ (σ : gm_S)  {r : gm_S}, F σ  = some r → gx_T (gw_I w (gx_A X)) (gx_A X) (gx_l X) yX3_factor iX3_factor lF [va_rf (some (gw_mo w))] (gm_P w σ) 0 0 (gm_P w r) (.returned none)) (hA : ∀ q, gm_A w q → gx_A X q) (hX : gx_O (gw_I w (gx_A X)) X iX3_factor (lF + 3) 0 0 (gm_P w r) (.returned (none)))  {σ : gm_S} {x1 : Int32} {y0 : Int32} (h : fX3_factor_B39 F N σ x1 y0 = some r) : gx_G X (gm_P w σ) 0 0 [some (va_rf (some (gw_mo w))), some (.int (x1)), none, none, none] 39 [.int (y0), va_rf (some (gw_mo w))] := by
  unfold fX3_factor_B39 at h
  refine gm_putZ hX hA (k := 14) ⟨by decide, rfl⟩ q1355 ⟨rfl, rfl⟩ rfl dX3_factor_39 h (fun σ2 h => ?_)
  refine gx_aload_n hX dX3_factor_42 rfl ?_
  refine gx_dup hX dX3_factor_43 (gx_cat _) ?_
  refine gm_getI hX 15 (by decide) rfl q1356 rfl dX3_factor_44 ?_
  refine gx_iconst (v := 1) hX dX3_factor_47 (by decide) ?_
  refine gx_iadd hX dX3_factor_48 ?_
  refine gm_putI hX hA (k := 15) ⟨by decide, rfl⟩ q1356 ⟨rfl, rfl⟩ rfl dX3_factor_49 h (fun σ3 h => ?_)
  refine gx_aload_n hX dX3_factor_52 rfl ?_
  refine gx_dup hX dX3_factor_53 (gx_cat _) ?_
  refine gm_getI hX 13 (by decide) rfl q1354 rfl dX3_factor_54 ?_
  refine gx_aload_n hX dX3_factor_57 rfl ?_
  refine gm_getI hX 14 (by decide) rfl q1355 rfl dX3_factor_58 ?_
  refine gx_if_eq (tgt := 68) hX dX3_factor_61 (by decide) h (fun h => ?_) (fun h => ?_)
  · refine gx_iconst (v := 1) hX dX3_factor_68 (by decide) ?_
    exact tX3_factor_B69 hlF hF hA hX  h
  · refine gx_iconst (v := 0) hX dX3_factor_64 (by decide) ?_
    refine gx_goto (tgt := 69) hX dX3_factor_65 (by decide) ?_
    exact tX3_factor_B69 hlF hF hA hX  h
def fX3_factor_B25 (F : gm_S → Option gm_S) (N : Nat)   (σ : gm_S) (x1 : Int32) : Option (gm_S) := if gs σ 15 = 5 then fX3_factor_B39 F N σ (x1) (1) else fX3_factor_B39 F N σ (x1) (0)
set_option maxHeartbeats 4000000 in
theorem tX3_factor_B25 {w : gw_W} {X : gx_X} {F : gm_S → Option gm_S} {lF : Nat} (hlF : 2 ≤ lF) {N : Nat} {r : gm_S} (hF : ∀ (σ : gm_S)  {r : gm_S}, F σ  = some r → gx_T (gw_I w (gx_A X)) (gx_A X) (gx_l X) yX3_factor iX3_factor lF [va_rf (some (gw_mo w))] (gm_P w σ) 0 0 (gm_P w r) (.returned none)) (hA : ∀ q, gm_A w q → gx_A X q) (hX : gx_O (gw_I w (gx_A X)) X iX3_factor (lF + 3) 0 0 (gm_P w r) (.returned (none)))  {σ : gm_S} {x1 : Int32} (h : fX3_factor_B25 F N σ x1 = some r) : gx_G X (gm_P w σ) 0 0 [some (va_rf (some (gw_mo w))), some (.int (x1)), none, none, none] 25 [] := by
  unfold fX3_factor_B25 at h
  refine gx_aload_n hX dX3_factor_25 rfl ?_
  refine gx_aload_n hX dX3_factor_26 rfl ?_
  refine gm_getI hX 15 (by decide) rfl q1356 rfl dX3_factor_27 ?_
  refine gx_iconst (v := 5) hX dX3_factor_30 (by decide) ?_
  refine gx_icmp_ne (tgt := 38) hX dX3_factor_31 (by decide) h (fun h => ?_) (fun h => ?_)
  · refine gx_iconst (v := 1) hX dX3_factor_34 (by decide) ?_
    refine gx_goto (tgt := 39) hX dX3_factor_35 (by decide) ?_
    exact tX3_factor_B39 hlF hF hA hX  h
  · refine gx_iconst (v := 0) hX dX3_factor_38 (by decide) ?_
    exact tX3_factor_B39 hlF hF hA hX  h
def fX3_factor_B243 (F : gm_S → Option gm_S) (N : Nat)   (σ : gm_S) (x4 : Int32) (y0 : Int32) (y1 : Int32) (y2 : Int32) : Option (gm_S) := (fX3_emits (σ) (((y2) + ((y1) * (y0))) + ((nI 32) * (x4)))).bind fun r17 => some r17
set_option maxHeartbeats 4000000 in
theorem tX3_factor_B243 {w : gw_W} {X : gx_X} {F : gm_S → Option gm_S} {lF : Nat} (hlF : 2 ≤ lF) {N : Nat} {r : gm_S} (hF : ∀ (σ : gm_S)  {r : gm_S}, F σ  = some r → gx_T (gw_I w (gx_A X)) (gx_A X) (gx_l X) yX3_factor iX3_factor lF [va_rf (some (gw_mo w))] (gm_P w σ) 0 0 (gm_P w r) (.returned none)) (hA : ∀ q, gm_A w q → gx_A X q) (hX : gx_O (gw_I w (gx_A X)) X iX3_factor (lF + 3) 0 0 (gm_P w r) (.returned (none)))  {σ : gm_S} {x4 : Int32} {y0 : Int32} {y1 : Int32} {y2 : Int32} (h : fX3_factor_B243 F N σ x4 y0 y1 y2 = some r) : gx_G X (gm_P w σ) 0 0 [none, none, none, none, some (.int (x4))] 243 [.int (y0), .int (y1), .int (y2), va_rf (some (gw_mo w))] := by
  unfold fX3_factor_B243 at h
  refine gx_imul hX dX3_factor_243 ?_
  refine gx_iadd hX dX3_factor_244 ?_
  refine gx_bipush (v := nI 32) hX dX3_factor_245 (by decide) ?_
  refine gx_iload hX dX3_factor_247 rfl ?_
  refine gx_imul hX dX3_factor_249 ?_
  refine gx_iadd hX dX3_factor_250 ?_
  obtain ⟨r17, hr17, h⟩ := gx_bs h
  refine gx_cV (As := [.int (((y2) + ((y1) * (y0))) + ((nI 32) * (x4)))]) (rest := []) (b := gw_mo w) hX (tX3_emits w _ hA (gx_l X) (σ) (((y2) + ((y1) * (y0))) + ((nI 32) * (x4))) hr17) (lw_V q1640 q1642 qs52 q92 q1643) ⟨rfl, dsX3_emits⟩ (by omega) (by decide) (gm_rc hX) rfl (gx_w8 gx_k0 (Nat.le_of_ble_eq_true rfl)) dX3_factor_251 ⟨Nat.le_refl _, Nat.le_refl _⟩ rfl ?_
  cases h
  exact gx_vret hX rfl dX3_factor_254 rfl ⟨rfl, rfl⟩ (fun _ h => h)
def fX3_factor_B208 (F : gm_S → Option gm_S) (N : Nat)   (σ : gm_S) (x2 : Int32) (x3 : Int32) (y0 : Int32) (y1 : Int32) : Option (gm_S) := (gm_pt σ 13 ((y1) + (y0))).bind fun σ15 => (fX3_number N (σ15)).bind fun r16 => if x3 = nI 60 then fX3_factor_B243 F N r16.1 (r16.2) (0) (nI 8) (x2) else if x3 = nI 61 then fX3_factor_B243 F N r16.1 (r16.2) (1) (nI 8) (x2) else fX3_factor_B243 F N r16.1 (r16.2) (2) (nI 8) (x2)
set_option maxHeartbeats 4000000 in
theorem tX3_factor_B208 {w : gw_W} {X : gx_X} {F : gm_S → Option gm_S} {lF : Nat} (hlF : 2 ≤ lF) {N : Nat} {r : gm_S} (hF : ∀ (σ : gm_S)  {r : gm_S}, F σ  = some r → gx_T (gw_I w (gx_A X)) (gx_A X) (gx_l X) yX3_factor iX3_factor lF [va_rf (some (gw_mo w))] (gm_P w σ) 0 0 (gm_P w r) (.returned none)) (hA : ∀ q, gm_A w q → gx_A X q) (hX : gx_O (gw_I w (gx_A X)) X iX3_factor (lF + 3) 0 0 (gm_P w r) (.returned (none)))  {σ : gm_S} {x2 : Int32} {x3 : Int32} {y0 : Int32} {y1 : Int32} (h : fX3_factor_B208 F N σ x2 x3 y0 y1 = some r) : gx_G X (gm_P w σ) 0 0 [some (va_rf (some (gw_mo w))), none, some (.int (x2)), some (.int (x3)), none] 208 [.int (y0), .int (y1), va_rf (some (gw_mo w))] := by
  unfold fX3_factor_B208 at h
  refine gx_iadd hX dX3_factor_208 ?_
  refine gm_putI hX hA (k := 13) ⟨by decide, rfl⟩ q1354 ⟨rfl, rfl⟩ rfl dX3_factor_209 h (fun σ15 h => ?_)
  refine gx_aload_n hX dX3_factor_212 rfl ?_
  obtain ⟨r16, hr16, h⟩ := gx_bs h
  refine gx_cV (As := []) (rest := []) (b := gw_mo w) hX (tX3_number w _ hA (gx_l X) N (σ15)  hr16) (lw_V q1648 q1650 qs54 q92 q1651) ⟨rfl, dsX3_number⟩ (by omega) (by decide) (gm_rc hX) rfl (gx_w8 gx_k0 (Nat.le_of_ble_eq_true rfl)) dX3_factor_213 ⟨Nat.le_refl _, Nat.le_refl _⟩ rfl ?_
  refine gx_istore hX dX3_factor_216 (Nat.le_of_ble_eq_true rfl) gx_c1i (lv' := [some (va_rf (some (gw_mo w))), none, some (.int (x2)), some (.int (x3)), some (.int (r16.2))]) rfl ?_
  refine gx_aload_n hX dX3_factor_218 rfl ?_
  refine gx_iload_n hX dX3_factor_219 rfl ?_
  refine gx_bipush (v := nI 8) hX dX3_factor_220 (by decide) ?_
  refine gx_iload_n hX dX3_factor_222 rfl ?_
  refine gx_bipush (v := nI 60) hX dX3_factor_223 (by decide) ?_
  refine gx_icmp_ne (tgt := 232) hX dX3_factor_225 (by decide) h (fun h => ?_) (fun h => ?_)
  · refine gx_iconst (v := 0) hX dX3_factor_228 (by decide) ?_
    refine gx_goto (tgt := 243) hX dX3_factor_229 (by decide) ?_
    refine gx_sub hX (lv' := [none, none, none, none, some (.int (r16.2))]) ⟨Or.inl rfl, ⟨Or.inr rfl, ⟨Or.inl rfl, ⟨Or.inl rfl, ⟨Or.inr rfl, trivial⟩⟩⟩⟩⟩ ?_
    exact tX3_factor_B243 hlF hF hA hX  h
  · refine gx_iload_n hX dX3_factor_232 rfl ?_
    refine gx_bipush (v := nI 61) hX dX3_factor_233 (by decide) ?_
    refine gx_icmp_ne (tgt := 242) hX dX3_factor_235 (by decide) h (fun h => ?_) (fun h => ?_)
    · refine gx_iconst (v := 1) hX dX3_factor_238 (by decide) ?_
      refine gx_goto (tgt := 243) hX dX3_factor_239 (by decide) ?_
      refine gx_sub hX (lv' := [none, none, none, none, some (.int (r16.2))]) ⟨Or.inl rfl, ⟨Or.inr rfl, ⟨Or.inl rfl, ⟨Or.inl rfl, ⟨Or.inr rfl, trivial⟩⟩⟩⟩⟩ ?_
      exact tX3_factor_B243 hlF hF hA hX  h
    · refine gx_iconst (v := 2) hX dX3_factor_242 (by decide) ?_
      refine gx_sub hX (lv' := [none, none, none, none, some (.int (r16.2))]) ⟨Or.inl rfl, ⟨Or.inr rfl, ⟨Or.inl rfl, ⟨Or.inl rfl, ⟨Or.inr rfl, trivial⟩⟩⟩⟩⟩ ?_
      exact tX3_factor_B243 hlF hF hA hX  h
def fX3_factor_B188 (F : gm_S → Option gm_S) (N : Nat)   (σ : gm_S) (x2 : Int32) (x3 : Int32) (y0 : Int32) : Option (gm_S) := (gm_pz σ 14 (y0)).bind fun σ14 => if gs σ14 14 = 0 then fX3_factor_B208 F N σ14 (x2) (x3) (1) (gs σ14 13) else fX3_factor_B208 F N σ14 (x2) (x3) (0) (gs σ14 13)
set_option maxHeartbeats 4000000 in
theorem tX3_factor_B188 {w : gw_W} {X : gx_X} {F : gm_S → Option gm_S} {lF : Nat} (hlF : 2 ≤ lF) {N : Nat} {r : gm_S} (hF : ∀ (σ : gm_S)  {r : gm_S}, F σ  = some r → gx_T (gw_I w (gx_A X)) (gx_A X) (gx_l X) yX3_factor iX3_factor lF [va_rf (some (gw_mo w))] (gm_P w σ) 0 0 (gm_P w r) (.returned none)) (hA : ∀ q, gm_A w q → gx_A X q) (hX : gx_O (gw_I w (gx_A X)) X iX3_factor (lF + 3) 0 0 (gm_P w r) (.returned (none)))  {σ : gm_S} {x2 : Int32} {x3 : Int32} {y0 : Int32} (h : fX3_factor_B188 F N σ x2 x3 y0 = some r) : gx_G X (gm_P w σ) 0 0 [some (va_rf (some (gw_mo w))), none, some (.int (x2)), some (.int (x3)), none] 188 [.int (y0), va_rf (some (gw_mo w))] := by
  unfold fX3_factor_B188 at h
  refine gm_putZ hX hA (k := 14) ⟨by decide, rfl⟩ q1355 ⟨rfl, rfl⟩ rfl dX3_factor_188 h (fun σ14 h => ?_)
  refine gx_aload_n hX dX3_factor_191 rfl ?_
  refine gx_dup hX dX3_factor_192 (gx_cat _) ?_
  refine gm_getI hX 13 (by decide) rfl q1354 rfl dX3_factor_193 ?_
  refine gx_aload_n hX dX3_factor_196 rfl ?_
  refine gm_getI hX 14 (by decide) rfl q1355 rfl dX3_factor_197 ?_
  refine gx_if_eq (tgt := 207) hX dX3_factor_200 (by decide) h (fun h => ?_) (fun h => ?_)
  · refine gx_iconst (v := 1) hX dX3_factor_207 (by decide) ?_
    exact tX3_factor_B208 hlF hF hA hX  h
  · refine gx_iconst (v := 0) hX dX3_factor_203 (by decide) ?_
    refine gx_goto (tgt := 208) hX dX3_factor_204 (by decide) ?_
    exact tX3_factor_B208 hlF hF hA hX  h
def fX3_factor_B183 (F : gm_S → Option gm_S) (N : Nat)   (σ : gm_S) (x2 : Int32) (x3 : Int32) : Option (gm_S) := fX3_factor_B188 F N σ (x2) (x3) (1)
set_option maxHeartbeats 4000000 in
theorem tX3_factor_B183 {w : gw_W} {X : gx_X} {F : gm_S → Option gm_S} {lF : Nat} (hlF : 2 ≤ lF) {N : Nat} {r : gm_S} (hF : ∀ (σ : gm_S)  {r : gm_S}, F σ  = some r → gx_T (gw_I w (gx_A X)) (gx_A X) (gx_l X) yX3_factor iX3_factor lF [va_rf (some (gw_mo w))] (gm_P w σ) 0 0 (gm_P w r) (.returned none)) (hA : ∀ q, gm_A w q → gx_A X q) (hX : gx_O (gw_I w (gx_A X)) X iX3_factor (lF + 3) 0 0 (gm_P w r) (.returned (none)))  {σ : gm_S} {x2 : Int32} {x3 : Int32} (h : fX3_factor_B183 F N σ x2 x3 = some r) : gx_G X (gm_P w σ) 0 0 [some (va_rf (some (gw_mo w))), none, some (.int (x2)), some (.int (x3)), none] 183 [va_rf (some (gw_mo w))] := by
  unfold fX3_factor_B183 at h
  refine gx_iconst (v := 1) hX dX3_factor_183 (by decide) ?_
  refine gx_goto (tgt := 188) hX dX3_factor_184 (by decide) ?_
  exact tX3_factor_B188 hlF hF hA hX  h
def fX3_factor_B187 (F : gm_S → Option gm_S) (N : Nat)   (σ : gm_S) (x2 : Int32) (x3 : Int32) : Option (gm_S) := fX3_factor_B188 F N σ (x2) (x3) (0)
set_option maxHeartbeats 4000000 in
theorem tX3_factor_B187 {w : gw_W} {X : gx_X} {F : gm_S → Option gm_S} {lF : Nat} (hlF : 2 ≤ lF) {N : Nat} {r : gm_S} (hF : ∀ (σ : gm_S)  {r : gm_S}, F σ  = some r → gx_T (gw_I w (gx_A X)) (gx_A X) (gx_l X) yX3_factor iX3_factor lF [va_rf (some (gw_mo w))] (gm_P w σ) 0 0 (gm_P w r) (.returned none)) (hA : ∀ q, gm_A w q → gx_A X q) (hX : gx_O (gw_I w (gx_A X)) X iX3_factor (lF + 3) 0 0 (gm_P w r) (.returned (none)))  {σ : gm_S} {x2 : Int32} {x3 : Int32} (h : fX3_factor_B187 F N σ x2 x3 = some r) : gx_G X (gm_P w σ) 0 0 [some (va_rf (some (gw_mo w))), none, some (.int (x2)), some (.int (x3)), none] 187 [va_rf (some (gw_mo w))] := by
  unfold fX3_factor_B187 at h
  refine gx_iconst (v := 0) hX dX3_factor_187 (by decide) ?_
  exact tX3_factor_B188 hlF hF hA hX  h
def fX3_factor_B148 (F : gm_S → Option gm_S) (N : Nat)   (σ : gm_S) (x2 : Int32) (y0 : Int32) (y1 : Int32) : Option (gm_S) := (gm_pt σ 13 ((y1) + (y0))).bind fun σ12 => (fX3_here (σ12)).bind fun r13 => if gs σ12 14 = 0 then if r13 = nI 60 then fX3_factor_B187 F N σ12 (x2) (r13) else if r13 = nI 61 then fX3_factor_B187 F N σ12 (x2) (r13) else if r13 = nI 62 then fX3_factor_B187 F N σ12 (x2) (r13) else fX3_factor_B183 F N σ12 (x2) (r13) else fX3_factor_B183 F N σ12 (x2) (r13)
set_option maxHeartbeats 4000000 in
theorem tX3_factor_B148 {w : gw_W} {X : gx_X} {F : gm_S → Option gm_S} {lF : Nat} (hlF : 2 ≤ lF) {N : Nat} {r : gm_S} (hF : ∀ (σ : gm_S)  {r : gm_S}, F σ  = some r → gx_T (gw_I w (gx_A X)) (gx_A X) (gx_l X) yX3_factor iX3_factor lF [va_rf (some (gw_mo w))] (gm_P w σ) 0 0 (gm_P w r) (.returned none)) (hA : ∀ q, gm_A w q → gx_A X q) (hX : gx_O (gw_I w (gx_A X)) X iX3_factor (lF + 3) 0 0 (gm_P w r) (.returned (none)))  {σ : gm_S} {x2 : Int32} {y0 : Int32} {y1 : Int32} (h : fX3_factor_B148 F N σ x2 y0 y1 = some r) : gx_G X (gm_P w σ) 0 0 [some (va_rf (some (gw_mo w))), none, some (.int (x2)), none, none] 148 [.int (y0), .int (y1), va_rf (some (gw_mo w))] := by
  unfold fX3_factor_B148 at h
  refine gx_iadd hX dX3_factor_148 ?_
  refine gm_putI hX hA (k := 13) ⟨by decide, rfl⟩ q1354 ⟨rfl, rfl⟩ rfl dX3_factor_149 h (fun σ12 h => ?_)
  refine gx_aload_n hX dX3_factor_152 rfl ?_
  obtain ⟨r13, hr13, h⟩ := gx_bs h
  refine gx_cV (As := []) (rest := []) (b := gw_mo w) hX (tX3_here w _ hA (gx_l X) (σ12)  hr13) (lw_V q1566 q1568 qs46 q92 q1569) ⟨rfl, dsX3_here⟩ (by omega) (by decide) (gm_rc hX) rfl (gx_w8 gx_k0 (Nat.le_of_ble_eq_true rfl)) dX3_factor_153 ⟨Nat.le_refl _, Nat.le_refl _⟩ rfl ?_
  refine gx_istore_n hX dX3_factor_156 (Nat.le_of_ble_eq_true rfl) gx_c1i (lv' := [some (va_rf (some (gw_mo w))), none, some (.int (x2)), some (.int (r13)), none]) rfl ?_
  refine gx_aload_n hX dX3_factor_157 rfl ?_
  refine gx_aload_n hX dX3_factor_158 rfl ?_
  refine gm_getI hX 14 (by decide) rfl q1355 rfl dX3_factor_159 ?_
  refine gx_if_ne (tgt := 183) hX dX3_factor_162 (by decide) h (fun h => ?_) (fun h => ?_)
  · refine gx_iload_n hX dX3_factor_165 rfl ?_
    refine gx_bipush (v := nI 60) hX dX3_factor_166 (by decide) ?_
    refine gx_icmp_eq (tgt := 187) hX dX3_factor_168 (by decide) h (fun h => ?_) (fun h => ?_)
    · exact tX3_factor_B187 hlF hF hA hX  h
    · refine gx_iload_n hX dX3_factor_171 rfl ?_
      refine gx_bipush (v := nI 61) hX dX3_factor_172 (by decide) ?_
      refine gx_icmp_eq (tgt := 187) hX dX3_factor_174 (by decide) h (fun h => ?_) (fun h => ?_)
      · exact tX3_factor_B187 hlF hF hA hX  h
      · refine gx_iload_n hX dX3_factor_177 rfl ?_
        refine gx_bipush (v := nI 62) hX dX3_factor_178 (by decide) ?_
        refine gx_icmp_eq (tgt := 187) hX dX3_factor_180 (by decide) h (fun h => ?_) (fun h => ?_)
        · exact tX3_factor_B187 hlF hF hA hX  h
        · exact tX3_factor_B183 hlF hF hA hX  h
  · exact tX3_factor_B183 hlF hF hA hX  h
def fX3_factor_B128 (F : gm_S → Option gm_S) (N : Nat)   (σ : gm_S) (x2 : Int32) (y0 : Int32) : Option (gm_S) := (gm_pz σ 14 (y0)).bind fun σ11 => if gs σ11 14 = 0 then fX3_factor_B148 F N σ11 (x2) (1) (gs σ11 13) else fX3_factor_B148 F N σ11 (x2) (0) (gs σ11 13)
set_option maxHeartbeats 4000000 in
theorem tX3_factor_B128 {w : gw_W} {X : gx_X} {F : gm_S → Option gm_S} {lF : Nat} (hlF : 2 ≤ lF) {N : Nat} {r : gm_S} (hF : ∀ (σ : gm_S)  {r : gm_S}, F σ  = some r → gx_T (gw_I w (gx_A X)) (gx_A X) (gx_l X) yX3_factor iX3_factor lF [va_rf (some (gw_mo w))] (gm_P w σ) 0 0 (gm_P w r) (.returned none)) (hA : ∀ q, gm_A w q → gx_A X q) (hX : gx_O (gw_I w (gx_A X)) X iX3_factor (lF + 3) 0 0 (gm_P w r) (.returned (none)))  {σ : gm_S} {x2 : Int32} {y0 : Int32} (h : fX3_factor_B128 F N σ x2 y0 = some r) : gx_G X (gm_P w σ) 0 0 [some (va_rf (some (gw_mo w))), none, some (.int (x2)), none, none] 128 [.int (y0), va_rf (some (gw_mo w))] := by
  unfold fX3_factor_B128 at h
  refine gm_putZ hX hA (k := 14) ⟨by decide, rfl⟩ q1355 ⟨rfl, rfl⟩ rfl dX3_factor_128 h (fun σ11 h => ?_)
  refine gx_aload_n hX dX3_factor_131 rfl ?_
  refine gx_dup hX dX3_factor_132 (gx_cat _) ?_
  refine gm_getI hX 13 (by decide) rfl q1354 rfl dX3_factor_133 ?_
  refine gx_aload_n hX dX3_factor_136 rfl ?_
  refine gm_getI hX 14 (by decide) rfl q1355 rfl dX3_factor_137 ?_
  refine gx_if_eq (tgt := 147) hX dX3_factor_140 (by decide) h (fun h => ?_) (fun h => ?_)
  · refine gx_iconst (v := 1) hX dX3_factor_147 (by decide) ?_
    exact tX3_factor_B148 hlF hF hA hX  h
  · refine gx_iconst (v := 0) hX dX3_factor_143 (by decide) ?_
    refine gx_goto (tgt := 148) hX dX3_factor_144 (by decide) ?_
    exact tX3_factor_B148 hlF hF hA hX  h
def fX3_factorB (F : gm_S → Option gm_S) (N : Nat) (σ : gm_S)  : Option (gm_S) := if gs σ 14 = 0 then (fX3_here (σ)).bind fun r1 => if r1 = nI 33 then fX3_factor_B25 F N σ (r1) else if r1 = nI 40 then fX3_factor_B25 F N σ (r1) else (fX3_letter (σ)).bind fun r10 => if r10 = (-1) then fX3_factor_B128 F N σ (r10) (1) else fX3_factor_B128 F N σ (r10) (0) else some σ
set_option maxHeartbeats 4000000 in
theorem tX3_factorB (w : gw_W) (A : Nat → Prop) (hA : ∀ q, gm_A w q → A q) (l : Launch) {F : gm_S → Option gm_S} {lF : Nat} (hlF : 2 ≤ lF) (hF : ∀ (σ : gm_S)  {r : gm_S}, F σ  = some r → gx_T (gw_I w A) A l yX3_factor iX3_factor lF [va_rf (some (gw_mo w))] (gm_P w σ) 0 0 (gm_P w r) (.returned none)) (N : Nat) (σ : gm_S)  {r : gm_S} (h : fX3_factorB F N σ = some r) : gx_T (gw_I w A) A l yX3_factor iX3_factor (lF + 3) [va_rf (some (gw_mo w))] (gm_P w σ) 0 0 (gm_P w r) (.returned (none)) := by
  refine gx_T.of (gw_I.inv w A) (by decide) ⟨rfl, rfl⟩ (gx_kR gx_k0) (Nat.le_of_ble_eq_true rfl) (fun X hl hAx hX => ?_)
  subst hl
  subst hAx
  show gx_G X (gm_P w σ) 0 0 [some (va_rf (some (gw_mo w))), none, none, none, none] 0 []
  unfold fX3_factorB at h
  refine gx_aload_n hX dX3_factor_0 rfl ?_
  refine gm_getI hX 14 (by decide) rfl q1355 rfl dX3_factor_1 ?_
  refine gx_if_eq (tgt := 8) hX dX3_factor_4 (by decide) h (fun h => ?_) (fun h => ?_)
  · refine gx_aload_n hX dX3_factor_8 rfl ?_
    obtain ⟨r1, hr1, h⟩ := gx_bs h
    refine gx_cV (As := []) (rest := []) (b := gw_mo w) hX (tX3_here w _ hA (gx_l X) (σ)  hr1) (lw_V q1566 q1568 qs46 q92 q1569) ⟨rfl, dsX3_here⟩ (by omega) (by decide) (gm_rc hX) rfl (gx_w8 gx_k0 (Nat.le_of_ble_eq_true rfl)) dX3_factor_9 ⟨Nat.le_refl _, Nat.le_refl _⟩ rfl ?_
    refine gx_istore_n hX dX3_factor_12 (Nat.le_of_ble_eq_true rfl) gx_c1r (lv' := [some (va_rf (some (gw_mo w))), some (.int (r1)), none, none, none]) rfl ?_
    refine gx_iload_n hX dX3_factor_13 rfl ?_
    refine gx_bipush (v := nI 33) hX dX3_factor_14 (by decide) ?_
    refine gx_icmp_eq (tgt := 25) hX dX3_factor_16 (by decide) h (fun h => ?_) (fun h => ?_)
    · exact tX3_factor_B25 hlF hF hA hX  h
    · refine gx_iload_n hX dX3_factor_19 rfl ?_
      refine gx_bipush (v := nI 40) hX dX3_factor_20 (by decide) ?_
      refine gx_icmp_ne (tgt := 112) hX dX3_factor_22 (by decide) h (fun h => ?_) (fun h => ?_)
      · exact tX3_factor_B25 hlF hF hA hX  h
      · refine gx_aload_n hX dX3_factor_112 rfl ?_
        obtain ⟨r10, hr10, h⟩ := gx_bs h
        refine gx_cV (As := []) (rest := []) (b := gw_mo w) hX (tX3_letter w _ hA (gx_l X) (σ)  hr10) (lw_V q1644 q1646 qs53 q92 q1647) ⟨rfl, dsX3_letter⟩ (by omega) (by decide) (gm_rc hX) rfl (gx_w8 gx_k0 (Nat.le_of_ble_eq_true rfl)) dX3_factor_113 ⟨Nat.le_refl _, Nat.le_refl _⟩ rfl ?_
        refine gx_istore_n hX dX3_factor_116 (Nat.le_of_ble_eq_true rfl) gx_c1i (lv' := [some (va_rf (some (gw_mo w))), some (.int (r1)), some (.int (r10)), none, none]) rfl ?_
        refine gx_aload_n hX dX3_factor_117 rfl ?_
        refine gx_iload_n hX dX3_factor_118 rfl ?_
        refine gx_iconst (v := (-1)) hX dX3_factor_119 (by decide) ?_
        refine gx_icmp_ne (tgt := 127) hX dX3_factor_120 (by decide) h (fun h => ?_) (fun h => ?_)
        · refine gx_iconst (v := 1) hX dX3_factor_123 (by decide) ?_
          refine gx_goto (tgt := 128) hX dX3_factor_124 (by decide) ?_
          refine gx_sub hX (lv' := [some (va_rf (some (gw_mo w))), none, some (.int (r10)), none, none]) ⟨Or.inr rfl, ⟨Or.inl rfl, ⟨Or.inr rfl, ⟨Or.inr rfl, ⟨Or.inr rfl, trivial⟩⟩⟩⟩⟩ ?_
          exact tX3_factor_B128 hlF hF hA hX  h
        · refine gx_iconst (v := 0) hX dX3_factor_127 (by decide) ?_
          refine gx_sub hX (lv' := [some (va_rf (some (gw_mo w))), none, some (.int (r10)), none, none]) ⟨Or.inr rfl, ⟨Or.inl rfl, ⟨Or.inr rfl, ⟨Or.inr rfl, ⟨Or.inr rfl, trivial⟩⟩⟩⟩⟩ ?_
          exact tX3_factor_B128 hlF hF hA hX  h
  · cases h
    exact gx_vret hX rfl dX3_factor_7 rfl ⟨rfl, rfl⟩ (fun _ h => h)
def fX3_factor (N : Nat) : Nat → gm_S → Option gm_S
  | 0, _ => none
  | D + 1, σ => fX3_factorB (fX3_factor N D) N σ 
theorem tX3_factor (w : gw_W) (A : Nat → Prop) (hA : ∀ q, gm_A w q → A q) (l : Launch) (N : Nat) : ∀ (D : Nat) (σ : gm_S)  {r : gm_S}, fX3_factor N D σ  = some r → gx_T (gw_I w A) A l yX3_factor iX3_factor (2 + 3 * D) [va_rf (some (gw_mo w))] (gm_P w σ) 0 0 (gm_P w r) (.returned none) := by
  intro D
  induction D with
  | zero =>
    intro σ  r h
    unfold fX3_factor at h
    cases h
  | succ D ih =>
    intro σ  r h
    unfold fX3_factor at h
    have h2 := tX3_factorB w A hA l (F := fX3_factor N D) (lF := 2 + 3 * D) (by omega) ih N σ  h
    rw [show 2 + 3 * (D + 1) = 2 + 3 * D + 3 by omega]
    exact h2
abbrev iX3_readsIn : gx_M := (RX3, "readsIn", cX3_readsIn, 5, none)
theorem dsX3_readsIn : gx_ds yX3_readsIn 1 := by decide +kernel
def fX3_readsIn_B144 (N : Nat)   (σ : gm_S) (y0 : Int32) : Option (gm_S) := (gm_pz σ 14 (y0)).bind fun σ6 => some σ6
set_option maxHeartbeats 4000000 in
theorem tX3_readsIn_B144 {w : gw_W} {X : gx_X} {N : Nat} {r : gm_S} (hA : ∀ q, gm_A w q → gx_A X q) (hX : gx_O (gw_I w (gx_A X)) X iX3_readsIn 35 0 0 (gm_P w r) (.returned (none)))  {σ : gm_S} {y0 : Int32} (h : fX3_readsIn_B144 N σ y0 = some r) : gx_G X (gm_P w σ) 0 0 [none, none, none, none, none] 144 [.int (y0), va_rf (some (gw_mo w))] := by
  unfold fX3_readsIn_B144 at h
  refine gm_putZ hX hA (k := 14) ⟨by decide, rfl⟩ q1355 ⟨rfl, rfl⟩ rfl dX3_readsIn_144 h (fun σ6 h => ?_)
  cases h
  exact gx_vret hX rfl dX3_readsIn_147 rfl ⟨rfl, rfl⟩ (fun _ h => h)
def fX3_readsIn_B139 (N : Nat)   (σ : gm_S) : Option (gm_S) := fX3_readsIn_B144 N σ (1)
set_option maxHeartbeats 4000000 in
theorem tX3_readsIn_B139 {w : gw_W} {X : gx_X} {N : Nat} {r : gm_S} (hA : ∀ q, gm_A w q → gx_A X q) (hX : gx_O (gw_I w (gx_A X)) X iX3_readsIn 35 0 0 (gm_P w r) (.returned (none)))  {σ : gm_S} (h : fX3_readsIn_B139 N σ = some r) : gx_G X (gm_P w σ) 0 0 [none, none, none, none, none] 139 [va_rf (some (gw_mo w))] := by
  unfold fX3_readsIn_B139 at h
  refine gx_iconst (v := 1) hX dX3_readsIn_139 (by decide) ?_
  refine gx_goto (tgt := 144) hX dX3_readsIn_140 (by decide) ?_
  exact tX3_readsIn_B144 hA hX  h
def fX3_readsIn_B111 (N : Nat)  (K31 : gm_S → Int32 → Int32 → Int32 → Option (gm_S)) (σ : gm_S) (x1 : Int32) (x2 : Int32) (x3 : Int32) (y0 : Int32) (y1 : Int32) : Option (gm_S) := (gm_pt σ 13 ((y1) + (y0))).bind fun σ13 => K31 σ13 (x1) (x2) (x3)
set_option maxHeartbeats 4000000 in
theorem tX3_readsIn_B111 {w : gw_W} {X : gx_X} {N : Nat} {r : gm_S} (hA : ∀ q, gm_A w q → gx_A X q) (hX : gx_O (gw_I w (gx_A X)) X iX3_readsIn 35 0 0 (gm_P w r) (.returned (none))) {K31 : gm_S → Int32 → Int32 → Int32 → Option (gm_S)} (hK31 : ∀ (σ : gm_S) (x1 : Int32) (x2 : Int32) (x3 : Int32), K31 σ x1 x2 x3 = some r → gx_G X (gm_P w σ) 0 0 [some (va_rf (some (gw_mo w))), some (.int (x1)), some (.int (x2)), some (.int (x3)), none] 31 []) {σ : gm_S} {x1 : Int32} {x2 : Int32} {x3 : Int32} {y0 : Int32} {y1 : Int32} (h : fX3_readsIn_B111 N K31 σ x1 x2 x3 y0 y1 = some r) : gx_G X (gm_P w σ) 0 0 [some (va_rf (some (gw_mo w))), some (.int (x1)), some (.int (x2)), some (.int (x3)), none] 111 [.int (y0), .int (y1), va_rf (some (gw_mo w))] := by
  unfold fX3_readsIn_B111 at h
  refine gx_iadd hX dX3_readsIn_111 ?_
  refine gm_putI hX hA (k := 13) ⟨by decide, rfl⟩ q1354 ⟨rfl, rfl⟩ rfl dX3_readsIn_112 h (fun σ13 h => ?_)
  refine gx_goto (tgt := 31) hX dX3_readsIn_115 (by decide) ?_
  exact hK31 _ _ _ _ h
def fX3_readsIn_B96 (N : Nat)  (K31 : gm_S → Int32 → Int32 → Int32 → Option (gm_S)) (σ : gm_S) (x1 : Int32) (x2 : Int32) (y0 : Int32) : Option (gm_S) := if y0 = 0 then fX3_readsIn_B111 N K31 σ (x1) (x2) (y0) (0) (gs σ 13) else fX3_readsIn_B111 N K31 σ (x1) (x2) (y0) (1) (gs σ 13)
set_option maxHeartbeats 4000000 in
theorem tX3_readsIn_B96 {w : gw_W} {X : gx_X} {N : Nat} {r : gm_S} (hA : ∀ q, gm_A w q → gx_A X q) (hX : gx_O (gw_I w (gx_A X)) X iX3_readsIn 35 0 0 (gm_P w r) (.returned (none))) {K31 : gm_S → Int32 → Int32 → Int32 → Option (gm_S)} (hK31 : ∀ (σ : gm_S) (x1 : Int32) (x2 : Int32) (x3 : Int32), K31 σ x1 x2 x3 = some r → gx_G X (gm_P w σ) 0 0 [some (va_rf (some (gw_mo w))), some (.int (x1)), some (.int (x2)), some (.int (x3)), none] 31 []) {σ : gm_S} {x1 : Int32} {x2 : Int32} {y0 : Int32} (h : fX3_readsIn_B96 N K31 σ x1 x2 y0 = some r) : gx_G X (gm_P w σ) 0 0 [some (va_rf (some (gw_mo w))), some (.int (x1)), some (.int (x2)), none, none] 96 [.int (y0)] := by
  unfold fX3_readsIn_B96 at h
  refine gx_istore_n hX dX3_readsIn_96 (Nat.le_of_ble_eq_true rfl) gx_c1i (lv' := [some (va_rf (some (gw_mo w))), some (.int (x1)), some (.int (x2)), some (.int (y0)), none]) rfl ?_
  refine gx_aload_n hX dX3_readsIn_97 rfl ?_
  refine gx_dup hX dX3_readsIn_98 (gx_cat _) ?_
  refine gm_getI hX 13 (by decide) rfl q1354 rfl dX3_readsIn_99 ?_
  refine gx_iload_n hX dX3_readsIn_102 rfl ?_
  refine gx_if_eq (tgt := 110) hX dX3_readsIn_103 (by decide) h (fun h => ?_) (fun h => ?_)
  · refine gx_iconst (v := 0) hX dX3_readsIn_110 (by decide) ?_
    exact tX3_readsIn_B111 hA hX hK31 h
  · refine gx_iconst (v := 1) hX dX3_readsIn_106 (by decide) ?_
    refine gx_goto (tgt := 111) hX dX3_readsIn_107 (by decide) ?_
    exact tX3_readsIn_B111 hA hX hK31 h
def fX3_readsIn_B95 (N : Nat)  (K31 : gm_S → Int32 → Int32 → Int32 → Option (gm_S)) (σ : gm_S) (x1 : Int32) (x2 : Int32) : Option (gm_S) := fX3_readsIn_B96 N K31 σ (x1) (x2) (0)
set_option maxHeartbeats 4000000 in
theorem tX3_readsIn_B95 {w : gw_W} {X : gx_X} {N : Nat} {r : gm_S} (hA : ∀ q, gm_A w q → gx_A X q) (hX : gx_O (gw_I w (gx_A X)) X iX3_readsIn 35 0 0 (gm_P w r) (.returned (none))) {K31 : gm_S → Int32 → Int32 → Int32 → Option (gm_S)} (hK31 : ∀ (σ : gm_S) (x1 : Int32) (x2 : Int32) (x3 : Int32), K31 σ x1 x2 x3 = some r → gx_G X (gm_P w σ) 0 0 [some (va_rf (some (gw_mo w))), some (.int (x1)), some (.int (x2)), some (.int (x3)), none] 31 []) {σ : gm_S} {x1 : Int32} {x2 : Int32} (h : fX3_readsIn_B95 N K31 σ x1 x2 = some r) : gx_G X (gm_P w σ) 0 0 [some (va_rf (some (gw_mo w))), some (.int (x1)), some (.int (x2)), none, none] 95 [] := by
  unfold fX3_readsIn_B95 at h
  refine gx_iconst (v := 0) hX dX3_readsIn_95 (by decide) ?_
  exact tX3_readsIn_B96 hA hX hK31 h
def fX3_readsIn_B67 (N : Nat)  (K31 : gm_S → Int32 → Int32 → Int32 → Option (gm_S)) (σ : gm_S) (x1 : Int32) (y0 : Int32) (y1 : Int32) : Option (gm_S) := if gs σ 14 = 0 then if (nI 8) ≤ (y1) + (y0) then fX3_readsIn_B95 N K31 σ (x1) ((y1) + (y0)) else (fX3_here (σ)).bind fun r15 => if r15 = nI 59 then fX3_readsIn_B96 N K31 σ (x1) ((y1) + (y0)) (1) else fX3_readsIn_B95 N K31 σ (x1) ((y1) + (y0)) else fX3_readsIn_B95 N K31 σ (x1) ((y1) + (y0))
set_option maxHeartbeats 4000000 in
theorem tX3_readsIn_B67 {w : gw_W} {X : gx_X} {N : Nat} {r : gm_S} (hA : ∀ q, gm_A w q → gx_A X q) (hX : gx_O (gw_I w (gx_A X)) X iX3_readsIn 35 0 0 (gm_P w r) (.returned (none))) {K31 : gm_S → Int32 → Int32 → Int32 → Option (gm_S)} (hK31 : ∀ (σ : gm_S) (x1 : Int32) (x2 : Int32) (x3 : Int32), K31 σ x1 x2 x3 = some r → gx_G X (gm_P w σ) 0 0 [some (va_rf (some (gw_mo w))), some (.int (x1)), some (.int (x2)), some (.int (x3)), none] 31 []) {σ : gm_S} {x1 : Int32} {y0 : Int32} {y1 : Int32} (h : fX3_readsIn_B67 N K31 σ x1 y0 y1 = some r) : gx_G X (gm_P w σ) 0 0 [some (va_rf (some (gw_mo w))), some (.int (x1)), none, none, none] 67 [.int (y0), .int (y1)] := by
  unfold fX3_readsIn_B67 at h
  refine gx_iadd hX dX3_readsIn_67 ?_
  refine gx_istore_n hX dX3_readsIn_68 (Nat.le_of_ble_eq_true rfl) gx_c1i (lv' := [some (va_rf (some (gw_mo w))), some (.int (x1)), some (.int ((y1) + (y0))), none, none]) rfl ?_
  refine gx_aload_n hX dX3_readsIn_69 rfl ?_
  refine gm_getI hX 14 (by decide) rfl q1355 rfl dX3_readsIn_70 ?_
  refine gx_if_ne (tgt := 95) hX dX3_readsIn_73 (by decide) h (fun h => ?_) (fun h => ?_)
  · refine gx_iload_n hX dX3_readsIn_76 rfl ?_
    refine gx_bipush (v := nI 8) hX dX3_readsIn_77 (by decide) ?_
    refine gx_icmp_ge (tgt := 95) hX dX3_readsIn_79 (by decide) h (fun h => ?_) (fun h => ?_)
    · exact tX3_readsIn_B95 hA hX hK31 h
    · refine gx_aload_n hX dX3_readsIn_82 rfl ?_
      obtain ⟨r15, hr15, h⟩ := gx_bs h
      refine gx_cV (As := []) (rest := []) (b := gw_mo w) hX (tX3_here w _ hA (gx_l X) (σ)  hr15) (lw_V q1566 q1568 qs46 q92 q1569) ⟨rfl, dsX3_here⟩ (by decide) (by decide) (gm_rc hX) rfl (gx_w8 gx_k0 (Nat.le_of_ble_eq_true rfl)) dX3_readsIn_83 ⟨Nat.le_refl _, Nat.le_refl _⟩ rfl ?_
      refine gx_bipush (v := nI 59) hX dX3_readsIn_86 (by decide) ?_
      refine gx_icmp_ne (tgt := 95) hX dX3_readsIn_88 (by decide) h (fun h => ?_) (fun h => ?_)
      · refine gx_iconst (v := 1) hX dX3_readsIn_91 (by decide) ?_
        refine gx_goto (tgt := 96) hX dX3_readsIn_92 (by decide) ?_
        exact tX3_readsIn_B96 hA hX hK31 h
      · exact tX3_readsIn_B95 hA hX hK31 h
  · exact tX3_readsIn_B95 hA hX hK31 h
def fX3_readsIn_L31 (N : Nat)   : Nat → gm_S → Int32 → Int32 → Int32 → Option (gm_S)
  | 0, _, _, _, _ => none
  | k + 1, σ, x1, x2, x3 => if x3 = 0 then if gs σ 14 = 0 then (gm_rd σ 10 (x1)).bind fun v7 => if gs σ 13 = v7 then fX3_readsIn_B144 N σ (0) else fX3_readsIn_B139 N σ else fX3_readsIn_B139 N σ else (fX3_word N (σ)).bind fun r9 => (fX3_some (fX3_factor N 10) N (r9.1) ).bind fun r10 => (fX3_emits (r10) (((-10)) - (r9.2))).bind fun r12 => if gs r12 14 = 0 then fX3_readsIn_B67 N (fX3_readsIn_L31 N k) r12 (x1) (1) (x2) else fX3_readsIn_B67 N (fX3_readsIn_L31 N k) r12 (x1) (0) (x2)
set_option maxHeartbeats 4000000 in
theorem tX3_readsIn_L31 {w : gw_W} {X : gx_X} {N : Nat} {r : gm_S} (hA : ∀ q, gm_A w q → gx_A X q) (hX : gx_O (gw_I w (gx_A X)) X iX3_readsIn 35 0 0 (gm_P w r) (.returned (none)))  : ∀ (k : Nat) (σ : gm_S) (x1 : Int32) (x2 : Int32) (x3 : Int32), fX3_readsIn_L31 N k σ x1 x2 x3 = some r → gx_G X (gm_P w σ) 0 0 [some (va_rf (some (gw_mo w))), some (.int (x1)), some (.int (x2)), some (.int (x3)), none] 31 [] := by
  intro k
  induction k with
  | zero =>
    intro σ x1 x2 x3 h
    unfold fX3_readsIn_L31 at h
    cases h
  | succ k ih =>
    intro σ x1 x2 x3 h
    unfold fX3_readsIn_L31 at h
    refine gx_iload_n hX dX3_readsIn_31 rfl ?_
    refine gx_if_eq (tgt := 118) hX dX3_readsIn_32 (by decide) h (fun h => ?_) (fun h => ?_)
    · refine gx_aload_n hX dX3_readsIn_118 rfl ?_
      refine gx_aload_n hX dX3_readsIn_119 rfl ?_
      refine gm_getI hX 14 (by decide) rfl q1355 rfl dX3_readsIn_120 ?_
      refine gx_if_ne (tgt := 139) hX dX3_readsIn_123 (by decide) h (fun h => ?_) (fun h => ?_)
      · refine gx_aload_n hX dX3_readsIn_126 rfl ?_
        refine gm_getI hX 13 (by decide) rfl q1354 rfl dX3_readsIn_127 ?_
        refine gx_aload_n hX dX3_readsIn_130 rfl ?_
        refine gm_getA hX 10 (by decide) (by decide) q1351 rfl dX3_readsIn_131 ?_
        refine gx_iload_n hX dX3_readsIn_134 rfl ?_
        refine gm_ld hX (by decide) dX3_readsIn_135 h (fun v7 h => ?_)
        refine gx_icmp_eq (tgt := 143) hX dX3_readsIn_136 (by decide) h (fun h => ?_) (fun h => ?_)
        · refine gx_iconst (v := 0) hX dX3_readsIn_143 (by decide) ?_
          refine gx_sub hX (lv' := [none, none, none, none, none]) ⟨Or.inl rfl, ⟨Or.inl rfl, ⟨Or.inl rfl, ⟨Or.inl rfl, ⟨Or.inr rfl, trivial⟩⟩⟩⟩⟩ ?_
          exact tX3_readsIn_B144 hA hX  h
        · refine gx_sub hX (lv' := [none, none, none, none, none]) ⟨Or.inl rfl, ⟨Or.inl rfl, ⟨Or.inl rfl, ⟨Or.inl rfl, ⟨Or.inr rfl, trivial⟩⟩⟩⟩⟩ ?_
          exact tX3_readsIn_B139 hA hX  h
      · refine gx_sub hX (lv' := [none, none, none, none, none]) ⟨Or.inl rfl, ⟨Or.inl rfl, ⟨Or.inl rfl, ⟨Or.inl rfl, ⟨Or.inr rfl, trivial⟩⟩⟩⟩⟩ ?_
        exact tX3_readsIn_B139 hA hX  h
    · refine gx_aload_n hX dX3_readsIn_35 rfl ?_
      obtain ⟨r9, hr9, h⟩ := gx_bs h
      refine gx_cV (As := []) (rest := []) (b := gw_mo w) hX (tX3_word w _ hA (gx_l X) N (σ)  hr9) (lw_V q1562 q1564 qs45 q92 q1565) ⟨rfl, dsX3_word⟩ (by decide) (by decide) (gm_rc hX) rfl (gx_w8 gx_k0 (Nat.le_of_ble_eq_true rfl)) dX3_readsIn_36 ⟨Nat.le_refl _, Nat.le_refl _⟩ rfl ?_
      refine gx_istore hX dX3_readsIn_39 (Nat.le_of_ble_eq_true rfl) gx_c1i (lv' := [some (va_rf (some (gw_mo w))), some (.int (x1)), some (.int (x2)), some (.int (x3)), some (.int (r9.2))]) rfl ?_
      refine gx_aload_n hX dX3_readsIn_41 rfl ?_
      obtain ⟨r10, hr10, h⟩ := gx_bs h
      refine gx_cV (As := []) (rest := []) (b := gw_mo w) hX (tX3_some w (gx_A X) hA (gx_l X) (F := fX3_factor N 10) (lF := 32) (by decide) (tX3_factor w (gx_A X) hA (gx_l X) N 10) N (r9.1)  hr10) (lw_V q1628 q1630 qs49 q92 q1631) ⟨rfl, dsX3_some⟩ (by decide) (by decide) (gm_rc hX) rfl (gx_w8 gx_k0 (Nat.le_of_ble_eq_true rfl)) dX3_readsIn_42 ⟨Nat.le_refl _, Nat.le_refl _⟩ rfl ?_
      refine gx_aload_n hX dX3_readsIn_45 rfl ?_
      refine gx_bipush (v := (-10)) hX dX3_readsIn_46 (by decide) ?_
      refine gx_iload hX dX3_readsIn_48 rfl ?_
      refine gx_isub hX dX3_readsIn_50 ?_
      obtain ⟨r12, hr12, h⟩ := gx_bs h
      refine gx_cV (As := [.int (((-10)) - (r9.2))]) (rest := []) (b := gw_mo w) hX (tX3_emits w _ hA (gx_l X) (r10) (((-10)) - (r9.2)) hr12) (lw_V q1640 q1642 qs52 q92 q1643) ⟨rfl, dsX3_emits⟩ (by decide) (by decide) (gm_rc hX) rfl (gx_w8 gx_k0 (Nat.le_of_ble_eq_true rfl)) dX3_readsIn_51 ⟨Nat.le_refl _, Nat.le_refl _⟩ rfl ?_
      refine gx_iload_n hX dX3_readsIn_54 rfl ?_
      refine gx_aload_n hX dX3_readsIn_55 rfl ?_
      refine gm_getI hX 14 (by decide) rfl q1355 rfl dX3_readsIn_56 ?_
      refine gx_if_eq (tgt := 66) hX dX3_readsIn_59 (by decide) h (fun h => ?_) (fun h => ?_)
      · refine gx_iconst (v := 1) hX dX3_readsIn_66 (by decide) ?_
        refine gx_sub hX (lv' := [some (va_rf (some (gw_mo w))), some (.int (x1)), none, none, none]) ⟨Or.inr rfl, ⟨Or.inr rfl, ⟨Or.inl rfl, ⟨Or.inl rfl, ⟨Or.inl rfl, trivial⟩⟩⟩⟩⟩ ?_
        exact tX3_readsIn_B67 hA hX ih h
      · refine gx_iconst (v := 0) hX dX3_readsIn_62 (by decide) ?_
        refine gx_goto (tgt := 67) hX dX3_readsIn_63 (by decide) ?_
        refine gx_sub hX (lv' := [some (va_rf (some (gw_mo w))), some (.int (x1)), none, none, none]) ⟨Or.inr rfl, ⟨Or.inr rfl, ⟨Or.inl rfl, ⟨Or.inl rfl, ⟨Or.inl rfl, trivial⟩⟩⟩⟩⟩ ?_
        exact tX3_readsIn_B67 hA hX ih h
def fX3_readsIn (N : Nat) (σ : gm_S) (x1 : Int32) : Option (gm_S) := (gm_pt σ 12 (x1)).bind fun σ1 => (gm_pt σ1 13 (0)).bind fun σ2 => (gm_pz σ2 14 (0)).bind fun σ3 => (gm_pt σ3 15 (0)).bind fun σ4 => (gm_wr σ4 18 (x1) (0)).bind fun σ5 => fX3_readsIn_L31 N N σ5 (x1) (0) (1)
set_option maxHeartbeats 4000000 in
theorem tX3_readsIn (w : gw_W) (A : Nat → Prop) (hA : ∀ q, gm_A w q → A q) (l : Launch) (N : Nat) (σ : gm_S) (x1 : Int32) {r : gm_S} (h : fX3_readsIn N σ x1 = some r) : gx_T (gw_I w A) A l yX3_readsIn iX3_readsIn 35 [va_rf (some (gw_mo w)), .int (x1)] (gm_P w σ) 0 0 (gm_P w r) (.returned (none)) := by
  refine gx_T.of (gw_I.inv w A) (by decide) ⟨rfl, rfl⟩ (gx_kR (gx_kI gx_k0)) (Nat.le_of_ble_eq_true rfl) (fun X hl hAx hX => ?_)
  subst hl
  subst hAx
  show gx_G X (gm_P w σ) 0 0 [some (va_rf (some (gw_mo w))), some (.int (x1)), none, none, none] 0 []
  unfold fX3_readsIn at h
  refine gx_aload_n hX dX3_readsIn_0 rfl ?_
  refine gx_iload_n hX dX3_readsIn_1 rfl ?_
  refine gm_putI hX hA (k := 12) ⟨by decide, rfl⟩ q1353 ⟨rfl, rfl⟩ rfl dX3_readsIn_2 h (fun σ1 h => ?_)
  refine gx_aload_n hX dX3_readsIn_5 rfl ?_
  refine gx_iconst (v := 0) hX dX3_readsIn_6 (by decide) ?_
  refine gm_putI hX hA (k := 13) ⟨by decide, rfl⟩ q1354 ⟨rfl, rfl⟩ rfl dX3_readsIn_7 h (fun σ2 h => ?_)
  refine gx_aload_n hX dX3_readsIn_10 rfl ?_
  refine gx_iconst (v := 0) hX dX3_readsIn_11 (by decide) ?_
  refine gm_putZ hX hA (k := 14) ⟨by decide, rfl⟩ q1355 ⟨rfl, rfl⟩ rfl dX3_readsIn_12 h (fun σ3 h => ?_)
  refine gx_aload_n hX dX3_readsIn_15 rfl ?_
  refine gx_iconst (v := 0) hX dX3_readsIn_16 (by decide) ?_
  refine gm_putI hX hA (k := 15) ⟨by decide, rfl⟩ q1356 ⟨rfl, rfl⟩ rfl dX3_readsIn_17 h (fun σ4 h => ?_)
  refine gx_aload_n hX dX3_readsIn_20 rfl ?_
  refine gm_getA hX 18 (by decide) (by decide) q1359 rfl dX3_readsIn_21 ?_
  refine gx_iload_n hX dX3_readsIn_24 rfl ?_
  refine gx_iconst (v := 0) hX dX3_readsIn_25 (by decide) ?_
  refine gm_st hX hA (by decide) dX3_readsIn_26 h (fun σ5 h => ?_)
  refine gx_iconst (v := 0) hX dX3_readsIn_27 (by decide) ?_
  refine gx_istore_n hX dX3_readsIn_28 (Nat.le_of_ble_eq_true rfl) gx_c1i (lv' := [some (va_rf (some (gw_mo w))), some (.int (x1)), some (.int (0)), none, none]) rfl ?_
  refine gx_iconst (v := 1) hX dX3_readsIn_29 (by decide) ?_
  refine gx_istore_n hX dX3_readsIn_30 (Nat.le_of_ble_eq_true rfl) gx_c1i (lv' := [some (va_rf (some (gw_mo w))), some (.int (x1)), some (.int (0)), some (.int (1)), none]) rfl ?_
  exact tX3_readsIn_L31 hA hX  N _ _ _ _ h
abbrev iX3_text : gx_M := (RX3, "text", cX3_text, 2, some .int)
theorem dsX3_text : gx_ds yX3_text 0 := by decide +kernel
def fX3_text_L27 (N : Nat)   : Nat → gm_S → Int32 → Option (gm_S × Int32)
  | 0, _, _ => none
  | k + 1, σ, x1 => if (gs σ 7) ≤ x1 then (gm_pt σ 7 (0)).bind fun σ2 => (fX3_readsIn N (σ2) (gs σ2 5)).bind fun r4 => if gs r4 14 = 0 then (gm_pt r4 5 ((gs r4 5) + (1))).bind fun σ5 => some (σ5, (gs σ5 5) - (1)) else some (r4, ((-10)) - (gs r4 13)) else (gm_rd σ 8 (x1)).bind fun v6 => (gm_wr σ 9 (((nI 120) * (gs σ 5)) + (x1)) (v6)).bind fun σ7 => (fX3_text_L27 N k) σ7 ((x1) + 1)
set_option maxHeartbeats 4000000 in
theorem tX3_text_L27 {w : gw_W} {X : gx_X} {N : Nat} {r : gm_S × Int32} (hA : ∀ q, gm_A w q → gx_A X q) (hX : gx_O (gw_I w (gx_A X)) X iX3_text 36 0 0 (gm_P w r.1) (.returned (some (.int r.2))))  : ∀ (k : Nat) (σ : gm_S) (x1 : Int32), fX3_text_L27 N k σ x1 = some r → gx_G X (gm_P w σ) 0 0 [some (va_rf (some (gw_mo w))), some (.int (x1))] 27 [] := by
  intro k
  induction k with
  | zero =>
    intro σ x1 h
    unfold fX3_text_L27 at h
    cases h
  | succ k ih =>
    intro σ x1 h
    unfold fX3_text_L27 at h
    refine gx_iload_n hX dX3_text_27 rfl ?_
    refine gx_aload_n hX dX3_text_28 rfl ?_
    refine gm_getI hX 7 (by decide) rfl q1348 rfl dX3_text_29 ?_
    refine gx_icmp_ge (tgt := 61) hX dX3_text_32 (by decide) h (fun h => ?_) (fun h => ?_)
    · refine gx_aload_n hX dX3_text_61 rfl ?_
      refine gx_iconst (v := 0) hX dX3_text_62 (by decide) ?_
      refine gm_putI hX hA (k := 7) ⟨by decide, rfl⟩ q1348 ⟨rfl, rfl⟩ rfl dX3_text_63 h (fun σ2 h => ?_)
      refine gx_aload_n hX dX3_text_66 rfl ?_
      refine gx_aload_n hX dX3_text_67 rfl ?_
      refine gm_getI hX 5 (by decide) rfl q1346 rfl dX3_text_68 ?_
      obtain ⟨r4, hr4, h⟩ := gx_bs h
      refine gx_cV (As := [.int (gs σ2 5)]) (rest := []) (b := gw_mo w) hX (tX3_readsIn w _ hA (gx_l X) N (σ2) (gs σ2 5) hr4) (lw_V q1558 q1560 qs44 q92 q1561) ⟨rfl, dsX3_readsIn⟩ (by decide) (by decide) (gm_rc hX) rfl (gx_w8 gx_k0 (Nat.le_of_ble_eq_true rfl)) dX3_text_71 ⟨Nat.le_refl _, Nat.le_refl _⟩ rfl ?_
      refine gx_aload_n hX dX3_text_74 rfl ?_
      refine gm_getI hX 14 (by decide) rfl q1355 rfl dX3_text_75 ?_
      refine gx_if_eq (tgt := 89) hX dX3_text_78 (by decide) h (fun h => ?_) (fun h => ?_)
      · refine gx_aload_n hX dX3_text_89 rfl ?_
        refine gx_dup hX dX3_text_90 (gx_cat _) ?_
        refine gm_getI hX 5 (by decide) rfl q1346 rfl dX3_text_91 ?_
        refine gx_iconst (v := 1) hX dX3_text_94 (by decide) ?_
        refine gx_iadd hX dX3_text_95 ?_
        refine gm_putI hX hA (k := 5) ⟨by decide, rfl⟩ q1346 ⟨rfl, rfl⟩ rfl dX3_text_96 h (fun σ5 h => ?_)
        refine gx_aload_n hX dX3_text_99 rfl ?_
        refine gm_getI hX 5 (by decide) rfl q1346 rfl dX3_text_100 ?_
        refine gx_iconst (v := 1) hX dX3_text_103 (by decide) ?_
        refine gx_isub hX dX3_text_104 ?_
        cases h
        exact gx_iret hX rfl dX3_text_105 rfl ⟨rfl, rfl⟩ (fun _ h => h)
      · refine gx_bipush (v := (-10)) hX dX3_text_81 (by decide) ?_
        refine gx_aload_n hX dX3_text_83 rfl ?_
        refine gm_getI hX 13 (by decide) rfl q1354 rfl dX3_text_84 ?_
        refine gx_isub hX dX3_text_87 ?_
        cases h
        exact gx_iret hX rfl dX3_text_88 rfl ⟨rfl, rfl⟩ (fun _ h => h)
    · refine gx_aload_n hX dX3_text_35 rfl ?_
      refine gm_getA hX 9 (by decide) (by decide) q1350 rfl dX3_text_36 ?_
      refine gx_bipush (v := nI 120) hX dX3_text_39 (by decide) ?_
      refine gx_aload_n hX dX3_text_41 rfl ?_
      refine gm_getI hX 5 (by decide) rfl q1346 rfl dX3_text_42 ?_
      refine gx_imul hX dX3_text_45 ?_
      refine gx_iload_n hX dX3_text_46 rfl ?_
      refine gx_iadd hX dX3_text_47 ?_
      refine gx_aload_n hX dX3_text_48 rfl ?_
      refine gm_getA hX 8 (by decide) (by decide) q1349 rfl dX3_text_49 ?_
      refine gx_iload_n hX dX3_text_52 rfl ?_
      refine gm_ld hX (by decide) dX3_text_53 h (fun v6 h => ?_)
      refine gm_st hX hA (by decide) dX3_text_54 h (fun σ7 h => ?_)
      refine gx_iinc (v := 1) hX dX3_text_55 rfl (by decide) gx_c1r (lv' := [some (va_rf (some (gw_mo w))), some (.int ((x1) + 1))]) rfl ?_
      refine gx_goto (tgt := 27) hX dX3_text_58 (by decide) ?_
      exact ih _ _ h
def fX3_text (N : Nat) (σ : gm_S)  : Option (gm_S × Int32) := if gs σ 5 = nI 8 then some (σ, (-4)) else (gm_wr σ 10 (gs σ 5) (gs σ 7)).bind fun σ1 => fX3_text_L27 N N σ1 (0)
set_option maxHeartbeats 4000000 in
theorem tX3_text (w : gw_W) (A : Nat → Prop) (hA : ∀ q, gm_A w q → A q) (l : Launch) (N : Nat) (σ : gm_S)  {r : gm_S × Int32} (h : fX3_text N σ = some r) : gx_T (gw_I w A) A l yX3_text iX3_text 36 [va_rf (some (gw_mo w))] (gm_P w σ) 0 0 (gm_P w r.1) (.returned (some (.int r.2))) := by
  refine gx_T.of (gw_I.inv w A) (by decide) ⟨rfl, rfl⟩ (gx_kR gx_k0) (Nat.le_of_ble_eq_true rfl) (fun X hl hAx hX => ?_)
  subst hl
  subst hAx
  show gx_G X (gm_P w σ) 0 0 [some (va_rf (some (gw_mo w))), none] 0 []
  unfold fX3_text at h
  refine gx_aload_n hX dX3_text_0 rfl ?_
  refine gm_getI hX 5 (by decide) rfl q1346 rfl dX3_text_1 ?_
  refine gx_bipush (v := nI 8) hX dX3_text_4 (by decide) ?_
  refine gx_icmp_ne (tgt := 12) hX dX3_text_6 (by decide) h (fun h => ?_) (fun h => ?_)
  · refine gx_bipush (v := (-4)) hX dX3_text_9 (by decide) ?_
    cases h
    exact gx_iret hX rfl dX3_text_11 rfl ⟨rfl, rfl⟩ (fun _ h => h)
  · refine gx_aload_n hX dX3_text_12 rfl ?_
    refine gm_getA hX 10 (by decide) (by decide) q1351 rfl dX3_text_13 ?_
    refine gx_aload_n hX dX3_text_16 rfl ?_
    refine gm_getI hX 5 (by decide) rfl q1346 rfl dX3_text_17 ?_
    refine gx_aload_n hX dX3_text_20 rfl ?_
    refine gm_getI hX 7 (by decide) rfl q1348 rfl dX3_text_21 ?_
    refine gm_st hX hA (by decide) dX3_text_24 h (fun σ1 h => ?_)
    refine gx_iconst (v := 0) hX dX3_text_25 (by decide) ?_
    refine gx_istore_n hX dX3_text_26 (Nat.le_of_ble_eq_true rfl) gx_c1r (lv' := [some (va_rf (some (gw_mo w))), some (.int (0))]) rfl ?_
    exact tX3_text_L27 hA hX  N _ _ h
