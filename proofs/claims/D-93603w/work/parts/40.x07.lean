set_option maxRecDepth 100000
abbrev iX0_goThrough : gx_M := (RX0, "goThrough", cX0_goThrough, 6, none)
theorem dsX0_goThrough : gx_ds yX0_goThrough 3 := by decide +kernel
def fX0_goThrough_B165 (F : xk_C → Nat → Int32 → Int32 → Int32 → Option (xk_C × Unit)) (N : Nat) (x0 : Nat)  (K61 : xk_C → Int32 → Int32 → Int32 → Int32 → Option (xk_C × Unit)) (K76 : xk_C → Int32 → Int32 → Int32 → Int32 → Int32 → Option (xk_C × Unit)) (σ : xk_C) (x1 : Int32) (x2 : Int32) (x3 : Int32) (x4 : Int32) (x5 : Int32) : Option (xk_C × Unit) := K76 (σ) (x1) (x2) (x3) (x4) ((x5) + 1)
set_option maxHeartbeats 4000000 in
theorem tX0_goThrough_B165 {w : gw_W} {X : gx_X} {F : xk_C → Nat → Int32 → Int32 → Int32 → Option (xk_C × Unit)} {lF : Nat} (hlF : 3 ≤ lF) {N : Nat} {x0 : Nat} {r : xk_C × Unit} (hF : ∀ (σ : xk_C) (b : Nat) (y1 : Int32) (y2 : Int32) (y3 : Int32) {r : xk_C × Unit}, F σ b y1 y2 y3 = some r → gx_T (gw_I w (gx_A X)) (gx_A X) (gx_l X) yX0_goThrough iX0_goThrough lF [va_rf (some b), .int y1, .int y2, .int y3] (xk_P (gx_A X) w σ) 0 0 (xk_P (gx_A X) w r.1) (.returned none)) (hX : gx_O (gw_I w (gx_A X)) X iX0_goThrough (lF + 1) 0 0 (xk_P (gx_A X) w r.1) (.returned none)) {K61 : xk_C → Int32 → Int32 → Int32 → Int32 → Option (xk_C × Unit)} {K76 : xk_C → Int32 → Int32 → Int32 → Int32 → Int32 → Option (xk_C × Unit)} (hK61 : ∀ (σ : xk_C) (x1 : Int32) (x2 : Int32) (x3 : Int32) (x4 : Int32), K61 σ x1 x2 x3 x4 = some r → gx_G X (xk_P (gx_A X) w (σ)) 0 0 [some (va_rf (some x0)), some (.int (x1)), some (.int (x2)), some (.int (x3)), some (.int (x4)), none] 61 []) (hK76 : ∀ (σ : xk_C) (x1 : Int32) (x2 : Int32) (x3 : Int32) (x4 : Int32) (x5 : Int32), K76 σ x1 x2 x3 x4 x5 = some r → gx_G X (xk_P (gx_A X) w (σ)) 0 0 [some (va_rf (some x0)), some (.int (x1)), some (.int (x2)), some (.int (x3)), some (.int (x4)), some (.int (x5))] 76 []) {σ : xk_C} {x1 : Int32} {x2 : Int32} {x3 : Int32} {x4 : Int32} {x5 : Int32} (h : fX0_goThrough_B165 F N x0 K61 K76 σ x1 x2 x3 x4 x5 = some r) : gx_G X (xk_P (gx_A X) w (σ)) 0 0 [some (va_rf (some x0)), some (.int (x1)), some (.int (x2)), some (.int (x3)), some (.int (x4)), some (.int (x5))] 165 [] := by
  unfold fX0_goThrough_B165 at h
  refine gx_iinc (v := 1) hX dX0_goThrough_165 rfl (by decide) gx_c1i (lv' := [some (va_rf (some x0)), some (.int (x1)), some (.int (x2)), some (.int (x3)), some (.int (x4)), some (.int ((x5) + 1))]) rfl ?_
  refine gx_goto (tgt := 76) hX dX0_goThrough_168 (by decide) ?_
  exact hK76 _ _ _ _ _ _ h
def fX0_goThrough_L76 (F : xk_C → Nat → Int32 → Int32 → Int32 → Option (xk_C × Unit)) (N : Nat) (x0 : Nat)  (K61 : xk_C → Int32 → Int32 → Int32 → Int32 → Option (xk_C × Unit)) : Nat → xk_C → Int32 → Int32 → Int32 → Int32 → Int32 → Option (xk_C × Unit)
  | 0, _, _, _, _, _, _ => none
  | k + 1, σ, x1, x2, x3, x4, x5 => (xk_gi (σ) 20 (some x0)).bind fun v5 => if (v5) ≤ x5 then K61 (σ) (x1) (x2) (x3) ((x4) + 1) else (xk_gr (σ) 17 (some x0)).bind fun v6 => (xk_lq (σ) 6 (v6) (x5)).bind fun v7 => (xk_gr (σ) 53 (v7)).bind fun v8 => (xk_gi (σ) 37 (v8)).bind fun v9 => if v9 = x4 then if ((x2) >>> ((x5) &&& 31)) &&& (1) = 1 then fX0_goThrough_B165 F N x0 K61 (fX0_goThrough_L76 F N x0 K61 k) (σ) (x1) (x2) (x3) (x4) (x5) else (xk_gr (σ) 18 (some x0)).bind fun v10 => (xk_gr (σ) 17 (some x0)).bind fun v11 => (xk_lq (σ) 6 (v11) (x5)).bind fun v12 => (xk_gr (σ) 53 (v12)).bind fun v13 => (xk_sa (σ) 7 (v10) (x1) (v13)).bind fun σ14 => (xk_gr (σ14) 18 (some x0)).bind fun v15 => (xk_lq (σ14) 7 (v15) (x1)).bind fun v16 => (xk_gr (σ14) 17 (some x0)).bind fun v17 => (xk_lq (σ14) 6 (v17) (x1)).bind fun v18 => (xk_gi (σ14) 47 (v18)).bind fun v19 => (xk_is (σ14) 5 (v16)).bind fun b21 => (fX4_fit (b21) (σ14) (v19)).bind fun r20 => (xk_is (σ14) 1 (some x0)).bind fun b23 => (F (σ14) b23 ((x1) + (1)) ((x2) ||| ((1) <<< ((x5) &&& 31))) ((x3) + (r20))).bind fun r22 => fX0_goThrough_B165 F N x0 K61 (fX0_goThrough_L76 F N x0 K61 k) (r22.1) (x1) (x2) (x3) (x4) (x5) else fX0_goThrough_B165 F N x0 K61 (fX0_goThrough_L76 F N x0 K61 k) (σ) (x1) (x2) (x3) (x4) (x5)
set_option maxHeartbeats 4000000 in
theorem tX0_goThrough_L76 {w : gw_W} {X : gx_X} {F : xk_C → Nat → Int32 → Int32 → Int32 → Option (xk_C × Unit)} {lF : Nat} (hlF : 3 ≤ lF) {N : Nat} {x0 : Nat} {r : xk_C × Unit} (hF : ∀ (σ : xk_C) (b : Nat) (y1 : Int32) (y2 : Int32) (y3 : Int32) {r : xk_C × Unit}, F σ b y1 y2 y3 = some r → gx_T (gw_I w (gx_A X)) (gx_A X) (gx_l X) yX0_goThrough iX0_goThrough lF [va_rf (some b), .int y1, .int y2, .int y3] (xk_P (gx_A X) w σ) 0 0 (xk_P (gx_A X) w r.1) (.returned none)) (hX : gx_O (gw_I w (gx_A X)) X iX0_goThrough (lF + 1) 0 0 (xk_P (gx_A X) w r.1) (.returned none)) {K61 : xk_C → Int32 → Int32 → Int32 → Int32 → Option (xk_C × Unit)} (hK61 : ∀ (σ : xk_C) (x1 : Int32) (x2 : Int32) (x3 : Int32) (x4 : Int32), K61 σ x1 x2 x3 x4 = some r → gx_G X (xk_P (gx_A X) w (σ)) 0 0 [some (va_rf (some x0)), some (.int (x1)), some (.int (x2)), some (.int (x3)), some (.int (x4)), none] 61 []) : ∀ (k : Nat) (σ : xk_C) (x1 : Int32) (x2 : Int32) (x3 : Int32) (x4 : Int32) (x5 : Int32), fX0_goThrough_L76 F N x0 K61 k σ x1 x2 x3 x4 x5 = some r → gx_G X (xk_P (gx_A X) w (σ)) 0 0 [some (va_rf (some x0)), some (.int (x1)), some (.int (x2)), some (.int (x3)), some (.int (x4)), some (.int (x5))] 76 [] := by
  intro k
  induction k with
  | zero =>
    intro σ x1 x2 x3 x4 x5 h
    unfold fX0_goThrough_L76 at h
    cases h
  | succ k ih =>
    intro σ x1 x2 x3 x4 x5 h
    unfold fX0_goThrough_L76 at h
    refine gx_iload hX dX0_goThrough_76 rfl ?_
    refine gx_aload_n hX dX0_goThrough_78 rfl ?_
    refine xk_geti hX 20 q242 (fun _ h => h) rfl dX0_goThrough_79 h (fun v5 h => ?_)
    refine gx_icmp_ge (tgt := 171) hX dX0_goThrough_82 (by decide) h (fun h => ?_) (fun h => ?_)
    · refine gx_iinc (v := 1) hX dX0_goThrough_171 rfl (by decide) gx_c1i (lv' := [some (va_rf (some x0)), some (.int (x1)), some (.int (x2)), some (.int (x3)), some (.int ((x4) + 1)), some (.int (x5))]) rfl ?_
      refine gx_goto (tgt := 61) hX dX0_goThrough_174 (by decide) ?_
      refine gx_sub hX (lv' := [some (va_rf (some x0)), some (.int (x1)), some (.int (x2)), some (.int (x3)), some (.int ((x4) + 1)), none]) ⟨Or.inr rfl, ⟨Or.inr rfl, ⟨Or.inr rfl, ⟨Or.inr rfl, ⟨Or.inr rfl, ⟨Or.inl rfl, trivial⟩⟩⟩⟩⟩⟩ ?_
      exact hK61 _ _ _ _ _ h
    · refine gx_aload_n hX dX0_goThrough_85 rfl ?_
      refine xk_getr hX 17 q239 (fun _ h => h) rfl dX0_goThrough_86 h (fun v6 h => ?_)
      refine gx_iload hX dX0_goThrough_89 rfl ?_
      refine xk_aaload hX 6 ⟨by decide, by decide, rfl⟩ dX0_goThrough_91 h (fun v7 h => ?_)
      refine xk_getrN hX 53 q575 rfl dX0_goThrough_92 h (fun v8 h => ?_)
      refine xk_getiN hX 37 q325 rfl dX0_goThrough_95 h (fun v9 h => ?_)
      refine gx_iload hX dX0_goThrough_98 rfl ?_
      refine gx_icmp_ne (tgt := 165) hX dX0_goThrough_100 (by decide) h (fun h => ?_) (fun h => ?_)
      · refine gx_iload_n hX dX0_goThrough_103 rfl ?_
        refine gx_iload hX dX0_goThrough_104 rfl ?_
        refine gx_ishr hX dX0_goThrough_106 ?_
        refine gx_iconst (v := 1) hX dX0_goThrough_107 (by decide) ?_
        refine gx_iand hX dX0_goThrough_108 ?_
        refine gx_iconst (v := 1) hX dX0_goThrough_109 (by decide) ?_
        refine gx_icmp_ne (tgt := 116) hX dX0_goThrough_110 (by decide) h (fun h => ?_) (fun h => ?_)
        · refine gx_goto (tgt := 165) hX dX0_goThrough_113 (by decide) ?_
          exact tX0_goThrough_B165 hlF hF hX hK61 ih h
        · refine gx_aload_n hX dX0_goThrough_116 rfl ?_
          refine xk_getr hX 18 q240 (fun _ h => h) rfl dX0_goThrough_117 h (fun v10 h => ?_)
          refine gx_iload_n hX dX0_goThrough_120 rfl ?_
          refine gx_aload_n hX dX0_goThrough_121 rfl ?_
          refine xk_getr hX 17 q239 (fun _ h => h) rfl dX0_goThrough_122 h (fun v11 h => ?_)
          refine gx_iload hX dX0_goThrough_125 rfl ?_
          refine xk_aaload hX 6 ⟨by decide, by decide, rfl⟩ dX0_goThrough_127 h (fun v12 h => ?_)
          refine xk_getrN hX 53 q575 rfl dX0_goThrough_128 h (fun v13 h => ?_)
          refine xk_aastore hX 7 ⟨by decide, by decide⟩ dX0_goThrough_131 h (fun σ14 hτ h => ?_)
          refine gx_aload_n hX dX0_goThrough_132 rfl ?_
          refine gx_iload_n hX dX0_goThrough_133 rfl ?_
          refine gx_iconst (v := 1) hX dX0_goThrough_134 (by decide) ?_
          refine gx_iadd hX dX0_goThrough_135 ?_
          refine gx_iload_n hX dX0_goThrough_136 rfl ?_
          refine gx_iconst (v := 1) hX dX0_goThrough_137 (by decide) ?_
          refine gx_iload hX dX0_goThrough_138 rfl ?_
          refine gx_ishl hX dX0_goThrough_140 ?_
          refine gx_ior hX dX0_goThrough_141 ?_
          refine gx_iload_n hX dX0_goThrough_142 rfl ?_
          refine gx_aload_n hX dX0_goThrough_143 rfl ?_
          refine xk_getr hX 18 q240 (fun _ h => h) rfl dX0_goThrough_144 h (fun v15 h => ?_)
          refine gx_iload_n hX dX0_goThrough_147 rfl ?_
          refine xk_aaload hX 7 ⟨by decide, by decide, rfl⟩ dX0_goThrough_148 h (fun v16 h => ?_)
          refine gx_aload_n hX dX0_goThrough_149 rfl ?_
          refine xk_getr hX 17 q239 (fun _ h => h) rfl dX0_goThrough_150 h (fun v17 h => ?_)
          refine gx_iload_n hX dX0_goThrough_153 rfl ?_
          refine xk_aaload hX 6 ⟨by decide, by decide, rfl⟩ dX0_goThrough_154 h (fun v18 h => ?_)
          refine xk_getiN hX 47 q557 rfl dX0_goThrough_155 h (fun v19 h => ?_)
          obtain ⟨b21, hb, h⟩ := gx_bs h
          obtain ⟨eb, hkb⟩ := xk_isS hb
          obtain ⟨r20, hr20, h⟩ := gx_bs h
          refine gx_cV (As := [.int (v19)]) (rest := [.int (x3), .int ((x2) ||| ((1) <<< ((x5) &&& 31))), .int ((x1) + (1)), va_rf (some x0)]) (b := b21) hX (tX4_fit w (gx_A X) (gx_l X) (b21) (σ14) (v19) hr20) (lw_V q698 q691 q692 q93 q693) ⟨rfl, dsX4_fit⟩ (by omega) (Nat.le_of_ble_eq_true rfl) (xk_rc hX (ci := 4) (by decide) (by decide) hkb) (by rw [eb]; rfl) (gx_w8 (gx_kI (gx_kI (gx_kI (gx_kR gx_k0)))) (Nat.le_of_ble_eq_true rfl)) dX0_goThrough_158 ⟨Nat.le_refl _, Nat.le_refl _⟩ rfl ?_
          refine gx_iadd hX dX0_goThrough_161 ?_
          obtain ⟨b23, hb, h⟩ := gx_bs h
          obtain ⟨eb, hkb⟩ := xk_isS hb
          obtain ⟨r22, hr22, h⟩ := gx_bs h
          refine gx_cV (As := [.int ((x1) + (1)), .int ((x2) ||| ((1) <<< ((x5) &&& 31))), .int ((x3) + (r20))]) (rest := []) (b := b23) hX (hF _ _ _ _ _ hr22) (lw_V q1054 q1056 qs25 q86 q1057) ⟨rfl, dsX0_goThrough⟩ (by omega) (Nat.le_of_ble_eq_true rfl) (xk_rc hX (ci := 0) (by decide) (by decide) hkb) (by rw [eb]; rfl) (gx_w8 gx_k0 (Nat.le_of_ble_eq_true rfl)) dX0_goThrough_162 ⟨Nat.le_refl _, Nat.le_refl _⟩ rfl ?_
          exact tX0_goThrough_B165 hlF hF hX hK61 ih h
      · exact tX0_goThrough_B165 hlF hF hX hK61 ih h
def fX0_goThrough_L61 (F : xk_C → Nat → Int32 → Int32 → Int32 → Option (xk_C × Unit)) (N : Nat) (x0 : Nat)   : Nat → xk_C → Int32 → Int32 → Int32 → Int32 → Option (xk_C × Unit)
  | 0, _, _, _, _, _ => none
  | k + 1, σ, x1, x2, x3, x4 => (xk_gr (σ) 0 (some x0)).bind fun v2 => (xk_is (σ) 21 (v2)).bind fun b4 => (fJ2_size (b4) (σ)).bind fun r3 => if (r3) ≤ x4 then some (σ, ()) else fX0_goThrough_L76 F N x0 (fX0_goThrough_L61 F N x0 k) N (σ) (x1) (x2) (x3) (x4) (0)
set_option maxHeartbeats 4000000 in
theorem tX0_goThrough_L61 {w : gw_W} {X : gx_X} {F : xk_C → Nat → Int32 → Int32 → Int32 → Option (xk_C × Unit)} {lF : Nat} (hlF : 3 ≤ lF) {N : Nat} {x0 : Nat} {r : xk_C × Unit} (hF : ∀ (σ : xk_C) (b : Nat) (y1 : Int32) (y2 : Int32) (y3 : Int32) {r : xk_C × Unit}, F σ b y1 y2 y3 = some r → gx_T (gw_I w (gx_A X)) (gx_A X) (gx_l X) yX0_goThrough iX0_goThrough lF [va_rf (some b), .int y1, .int y2, .int y3] (xk_P (gx_A X) w σ) 0 0 (xk_P (gx_A X) w r.1) (.returned none)) (hX : gx_O (gw_I w (gx_A X)) X iX0_goThrough (lF + 1) 0 0 (xk_P (gx_A X) w r.1) (.returned none))  : ∀ (k : Nat) (σ : xk_C) (x1 : Int32) (x2 : Int32) (x3 : Int32) (x4 : Int32), fX0_goThrough_L61 F N x0 k σ x1 x2 x3 x4 = some r → gx_G X (xk_P (gx_A X) w (σ)) 0 0 [some (va_rf (some x0)), some (.int (x1)), some (.int (x2)), some (.int (x3)), some (.int (x4)), none] 61 [] := by
  intro k
  induction k with
  | zero =>
    intro σ x1 x2 x3 x4 h
    unfold fX0_goThrough_L61 at h
    cases h
  | succ k ih =>
    intro σ x1 x2 x3 x4 h
    unfold fX0_goThrough_L61 at h
    refine gx_iload hX dX0_goThrough_61 rfl ?_
    refine gx_aload_n hX dX0_goThrough_63 rfl ?_
    refine xk_getr hX 0 q209 (fun _ h => h) rfl dX0_goThrough_64 h (fun v2 h => ?_)
    obtain ⟨b4, hb, h⟩ := gx_bs h
    obtain ⟨eb, hkb⟩ := xk_isS hb
    obtain ⟨r3, hr3, h⟩ := gx_bs h
    refine gx_cV (As := []) (rest := [.int (x4)]) (b := b4) hX (tJ2_size w (gx_A X) (gx_l X) (b4) (σ)  hr3) (lw_V q314 q315 q316 q89 q317) ⟨rfl, dsJ2_size⟩ (by omega) (Nat.le_of_ble_eq_true rfl) (xk_rc hX (ci := 20) (by decide) (by decide) hkb) (by rw [eb]; rfl) (gx_w8 (gx_kI gx_k0) (Nat.le_of_ble_eq_true rfl)) dX0_goThrough_67 ⟨Nat.le_refl _, Nat.le_refl _⟩ rfl ?_
    refine gx_icmp_ge (tgt := 177) hX dX0_goThrough_70 (by decide) h (fun h => ?_) (fun h => ?_)
    · cases h
      exact gx_vret hX rfl dX0_goThrough_177 rfl ⟨rfl, rfl⟩ (fun _ h => h)
    · refine gx_iconst (v := 0) hX dX0_goThrough_73 (by decide) ?_
      refine gx_istore hX dX0_goThrough_74 (Nat.le_of_ble_eq_true rfl) gx_c1i (lv' := [some (va_rf (some x0)), some (.int (x1)), some (.int (x2)), some (.int (x3)), some (.int (x4)), some (.int (0))]) rfl ?_
      exact tX0_goThrough_L76 hlF hF hX ih N _ _ _ _ _ _ h
def fX0_goThrough_B25 (F : xk_C → Nat → Int32 → Int32 → Int32 → Option (xk_C × Unit)) (N : Nat) (x0 : Nat)   (σ : xk_C) (x1 : Int32) (x3 : Int32) (y0 : Int32) (y1 : Int32) : Option (xk_C × Unit) := (xk_pi (σ) 22 (some x0) ((y1) + (y0))).bind fun σ27 => (xk_gi (σ27) 21 (some x0)).bind fun v28 => if (v28) < x3 then (xk_pi (σ27) 21 (some x0) (x3)).bind fun σ29 => (xk_gr (σ29) 18 (some x0)).bind fun v30 => (xk_gr (σ29) 19 (some x0)).bind fun v31 => (xk_cpq (σ29) 7 (v30) (0) (v31) (0) (x1)).bind fun σ32 => some (σ32, ()) else some (σ27, ())
set_option maxHeartbeats 4000000 in
theorem tX0_goThrough_B25 {w : gw_W} {X : gx_X} {F : xk_C → Nat → Int32 → Int32 → Int32 → Option (xk_C × Unit)} {lF : Nat} (hlF : 3 ≤ lF) {N : Nat} {x0 : Nat} {r : xk_C × Unit} (hF : ∀ (σ : xk_C) (b : Nat) (y1 : Int32) (y2 : Int32) (y3 : Int32) {r : xk_C × Unit}, F σ b y1 y2 y3 = some r → gx_T (gw_I w (gx_A X)) (gx_A X) (gx_l X) yX0_goThrough iX0_goThrough lF [va_rf (some b), .int y1, .int y2, .int y3] (xk_P (gx_A X) w σ) 0 0 (xk_P (gx_A X) w r.1) (.returned none)) (hX : gx_O (gw_I w (gx_A X)) X iX0_goThrough (lF + 1) 0 0 (xk_P (gx_A X) w r.1) (.returned none))  {σ : xk_C} {x1 : Int32} {x3 : Int32} {y0 : Int32} {y1 : Int32} (h : fX0_goThrough_B25 F N x0 σ x1 x3 y0 y1 = some r) : gx_G X (xk_P (gx_A X) w (σ)) 0 0 [some (va_rf (some x0)), some (.int (x1)), none, some (.int (x3)), none, none] 25 [.int (y0), .int (y1), va_rf (some x0)] := by
  unfold fX0_goThrough_B25 at h
  refine gx_iadd hX dX0_goThrough_25 ?_
  refine xk_puti hX 22 xk_ty22 rfl q244 (fun _ h => h) rfl rfl dX0_goThrough_26 h (fun σ27 hτ h => ?_)
  refine gx_iload_n hX dX0_goThrough_29 rfl ?_
  refine gx_aload_n hX dX0_goThrough_30 rfl ?_
  refine xk_geti hX 21 q243 (fun _ h => h) rfl dX0_goThrough_31 h (fun v28 h => ?_)
  refine gx_icmp_gt (tgt := 38) hX dX0_goThrough_34 (by decide) h (fun h => ?_) (fun h => ?_)
  · refine gx_aload_n hX dX0_goThrough_38 rfl ?_
    refine gx_iload_n hX dX0_goThrough_39 rfl ?_
    refine xk_puti hX 21 xk_ty21 rfl q243 (fun _ h => h) rfl rfl dX0_goThrough_40 h (fun σ29 hτ h => ?_)
    refine gx_aload_n hX dX0_goThrough_43 rfl ?_
    refine xk_getr hX 18 q240 (fun _ h => h) rfl dX0_goThrough_44 h (fun v30 h => ?_)
    refine gx_iconst (v := 0) hX dX0_goThrough_47 (by decide) ?_
    refine gx_aload_n hX dX0_goThrough_48 rfl ?_
    refine xk_getr hX 19 q241 (fun _ h => h) rfl dX0_goThrough_49 h (fun v31 h => ?_)
    refine gx_iconst (v := 0) hX dX0_goThrough_52 (by decide) ?_
    refine gx_iload_n hX dX0_goThrough_53 rfl ?_
    refine xk_copyq hX 7 ⟨by decide, by decide⟩ ⟨q1065, q422, q421, q97⟩ (by omega) (gx_w8 gx_k0 (Nat.le_of_ble_eq_true rfl)) rfl dX0_goThrough_54 h (fun σ32 hτ h => ?_)
    cases h
    exact gx_vret hX rfl dX0_goThrough_57 rfl ⟨rfl, rfl⟩ (fun _ h => h)
  · cases h
    exact gx_vret hX rfl dX0_goThrough_37 rfl ⟨rfl, rfl⟩ (fun _ h => h)
def fX0_goThroughB (F : xk_C → Nat → Int32 → Int32 → Int32 → Option (xk_C × Unit)) (N : Nat) (x0 : Nat) (σ : xk_C) (x1 : Int32) (x2 : Int32) (x3 : Int32) : Option (xk_C × Unit) := (xk_gi (σ) 20 (some x0)).bind fun v1 => if x1 = v1 then (xk_gi (σ) 22 (some x0)).bind fun v24 => (xk_is (σ) 1 (some x0)).bind fun b26 => (fX0_isCalm N (b26) (σ)).bind fun r25 => if r25 = 0 then fX0_goThrough_B25 F N x0 (σ) (x1) (x3) (0) (v24) else fX0_goThrough_B25 F N x0 (σ) (x1) (x3) (1) (v24) else fX0_goThrough_L61 F N x0 N (σ) (x1) (x2) (x3) (0)
set_option maxHeartbeats 4000000 in
theorem tX0_goThroughB (w : gw_W) (A : Nat → Prop) (l : Launch) {F : xk_C → Nat → Int32 → Int32 → Int32 → Option (xk_C × Unit)} {lF : Nat} (hlF : 3 ≤ lF) (hF : ∀ (σ : xk_C) (b : Nat) (y1 : Int32) (y2 : Int32) (y3 : Int32) {r : xk_C × Unit}, F σ b y1 y2 y3 = some r → gx_T (gw_I w A) A l yX0_goThrough iX0_goThrough lF [va_rf (some b), .int y1, .int y2, .int y3] (xk_P A w σ) 0 0 (xk_P A w r.1) (.returned none)) (N : Nat) (x0 : Nat) (σ : xk_C) (x1 : Int32) (x2 : Int32) (x3 : Int32) {r : xk_C × Unit} (h : fX0_goThroughB F N x0 σ x1 x2 x3 = some r) : gx_T (gw_I w A) A l yX0_goThrough iX0_goThrough (lF + 1) [va_rf (some x0), .int (x1), .int (x2), .int (x3)] (xk_P A w σ) 0 0 (xk_P A w r.1) (.returned none) := by
  refine gx_T.of (gw_I.inv w A) (by decide) ⟨rfl, rfl⟩ (gx_kR (gx_kI (gx_kI (gx_kI gx_k0)))) (Nat.le_of_ble_eq_true rfl) (fun X hl hAx hX => ?_)
  subst hl
  subst hAx
  show gx_G X (xk_P (gx_A X) w (σ)) 0 0 [some (va_rf (some x0)), some (.int (x1)), some (.int (x2)), some (.int (x3)), none, none] 0 []
  unfold fX0_goThroughB at h
  refine gx_iload_n hX dX0_goThrough_0 rfl ?_
  refine gx_aload_n hX dX0_goThrough_1 rfl ?_
  refine xk_geti hX 20 q242 (fun _ h => h) rfl dX0_goThrough_2 h (fun v1 h => ?_)
  refine gx_icmp_ne (tgt := 58) hX dX0_goThrough_5 (by decide) h (fun h => ?_) (fun h => ?_)
  · refine gx_aload_n hX dX0_goThrough_8 rfl ?_
    refine gx_dup hX dX0_goThrough_9 (gx_cat _) ?_
    refine xk_geti hX 22 q244 (fun _ h => h) rfl dX0_goThrough_10 h (fun v24 h => ?_)
    refine gx_aload_n hX dX0_goThrough_13 rfl ?_
    obtain ⟨b26, hb, h⟩ := gx_bs h
    obtain ⟨eb, hkb⟩ := xk_isS hb
    obtain ⟨r25, hr25, h⟩ := gx_bs h
    refine gx_cV (As := []) (rest := [.int (v24), va_rf (some x0)]) (b := b26) hX (tX0_isCalm w (gx_A X) (gx_l X) N (b26) (σ)  hr25) (lw_V q1058 q1060 qs26 q86 q1061) ⟨rfl, dsX0_isCalm⟩ (by omega) (Nat.le_of_ble_eq_true rfl) (xk_rc hX (ci := 0) (by decide) (by decide) hkb) (by rw [eb]; rfl) (gx_w8 (gx_kI (gx_kR gx_k0)) (Nat.le_of_ble_eq_true rfl)) dX0_goThrough_14 ⟨Nat.le_refl _, Nat.le_refl _⟩ rfl ?_
    refine gx_if_eq (tgt := 24) hX dX0_goThrough_17 (by decide) h (fun h => ?_) (fun h => ?_)
    · refine gx_iconst (v := 0) hX dX0_goThrough_24 (by decide) ?_
      refine gx_sub hX (lv' := [some (va_rf (some x0)), some (.int (x1)), none, some (.int (x3)), none, none]) ⟨Or.inr rfl, ⟨Or.inr rfl, ⟨Or.inl rfl, ⟨Or.inr rfl, ⟨Or.inr rfl, ⟨Or.inr rfl, trivial⟩⟩⟩⟩⟩⟩ ?_
      exact tX0_goThrough_B25 hlF hF hX  h
    · refine gx_iconst (v := 1) hX dX0_goThrough_20 (by decide) ?_
      refine gx_goto (tgt := 25) hX dX0_goThrough_21 (by decide) ?_
      refine gx_sub hX (lv' := [some (va_rf (some x0)), some (.int (x1)), none, some (.int (x3)), none, none]) ⟨Or.inr rfl, ⟨Or.inr rfl, ⟨Or.inl rfl, ⟨Or.inr rfl, ⟨Or.inr rfl, ⟨Or.inr rfl, trivial⟩⟩⟩⟩⟩⟩ ?_
      exact tX0_goThrough_B25 hlF hF hX  h
  · refine gx_iconst (v := 0) hX dX0_goThrough_58 (by decide) ?_
    refine gx_istore hX dX0_goThrough_59 (Nat.le_of_ble_eq_true rfl) gx_c1i (lv' := [some (va_rf (some x0)), some (.int (x1)), some (.int (x2)), some (.int (x3)), some (.int (0)), none]) rfl ?_
    exact tX0_goThrough_L61 hlF hF hX  N _ _ _ _ _ h
def fX0_goThrough (N : Nat) : Nat → xk_C → Nat → Int32 → Int32 → Int32 → Option (xk_C × Unit)
  | 0, _, _, _, _, _ => none
  | D + 1, σ, b, y1, y2, y3 => fX0_goThroughB (fX0_goThrough N D) N b σ y1 y2 y3
theorem tX0_goThrough (w : gw_W) (A : Nat → Prop) (l : Launch) (N : Nat) : ∀ (D : Nat) (σ : xk_C) (b : Nat) (y1 : Int32) (y2 : Int32) (y3 : Int32) {r : xk_C × Unit}, fX0_goThrough N D σ b y1 y2 y3 = some r → gx_T (gw_I w A) A l yX0_goThrough iX0_goThrough (3 + 1 * D) [va_rf (some b), .int y1, .int y2, .int y3] (xk_P A w σ) 0 0 (xk_P A w r.1) (.returned none) := by
  intro D
  induction D with
  | zero =>
    intro σ b y1 y2 y3 r h
    unfold fX0_goThrough at h
    cases h
  | succ D ih =>
    intro σ b y1 y2 y3 r h
    unfold fX0_goThrough at h
    have h2 := tX0_goThroughB w A l (F := fX0_goThrough N D) (lF := 3 + 1 * D) (by omega) ih N b σ y1 y2 y3 h
    rw [show 3 + 1 * (D + 1) = 3 + 1 * D + 1 by omega]
    exact h2
abbrev iX0_findPartings : gx_M := (RX0, "findPartings", cX0_findPartings, 1, none)
theorem dsX0_findPartings : gx_ds yX0_findPartings 0 := by decide +kernel
def fX0_findPartings (N : Nat) (x0 : Nat) (σ : xk_C)  : Option (xk_C × Unit) := (xk_pi (σ) 21 (some x0) ((-2147483648))).bind fun σ1 => (xk_pi (σ1) 22 (some x0) (0)).bind fun σ2 => (xk_is (σ2) 1 (some x0)).bind fun b4 => (fX0_goThrough N 10 (σ2) b4 (0) (0) (0)).bind fun r3 => some (r3.1, ())
set_option maxHeartbeats 4000000 in
theorem tX0_findPartings (w : gw_W) (A : Nat → Prop) (l : Launch) (N : Nat) (x0 : Nat) (σ : xk_C)  {r : xk_C × Unit} (h : fX0_findPartings N x0 σ = some r) : gx_T (gw_I w A) A l yX0_findPartings iX0_findPartings 15 [va_rf (some x0)] (xk_P A w σ) 0 0 (xk_P A w r.1) (.returned none) := by
  refine gx_T.of (gw_I.inv w A) (by decide) ⟨rfl, rfl⟩ (gx_kR gx_k0) (Nat.le_of_ble_eq_true rfl) (fun X hl hAx hX => ?_)
  subst hl
  subst hAx
  show gx_G X (xk_P (gx_A X) w (σ)) 0 0 [some (va_rf (some x0))] 0 []
  unfold fX0_findPartings at h
  refine gx_aload_n hX dX0_findPartings_0 rfl ?_
  refine gx_ldcw (v := (-2147483648)) hX dX0_findPartings_1 q1053 ?_
  refine xk_puti hX 21 xk_ty21 rfl q243 (fun _ h => h) rfl rfl dX0_findPartings_4 h (fun σ1 hτ h => ?_)
  refine gx_aload_n hX dX0_findPartings_7 rfl ?_
  refine gx_iconst (v := 0) hX dX0_findPartings_8 (by decide) ?_
  refine xk_puti hX 22 xk_ty22 rfl q244 (fun _ h => h) rfl rfl dX0_findPartings_9 h (fun σ2 hτ h => ?_)
  refine gx_aload_n hX dX0_findPartings_12 rfl ?_
  refine gx_iconst (v := 0) hX dX0_findPartings_13 (by decide) ?_
  refine gx_iconst (v := 0) hX dX0_findPartings_14 (by decide) ?_
  refine gx_iconst (v := 0) hX dX0_findPartings_15 (by decide) ?_
  obtain ⟨b4, hb, h⟩ := gx_bs h
  obtain ⟨eb, hkb⟩ := xk_isS hb
  obtain ⟨r3, hr3, h⟩ := gx_bs h
  refine gx_cV (As := [.int (0), .int (0), .int (0)]) (rest := []) (b := b4) hX (tX0_goThrough w (gx_A X) (gx_l X) N 10 _ _ _ _ _ hr3) (lw_V q1054 q1056 qs25 q86 q1057) ⟨rfl, dsX0_goThrough⟩ (by omega) (Nat.le_of_ble_eq_true rfl) (xk_rc hX (ci := 0) (by decide) (by decide) hkb) (by rw [eb]; rfl) (gx_w8 gx_k0 (Nat.le_of_ble_eq_true rfl)) dX0_findPartings_16 ⟨Nat.le_refl _, Nat.le_refl _⟩ rfl ?_
  cases h
  exact gx_vret hX rfl dX0_findPartings_19 rfl ⟨rfl, rfl⟩ (fun _ h => h)
abbrev iX0_findTold : gx_M := (RX0, "findTold", cX0_findTold, 3, some .int)
theorem dsX0_findTold : gx_ds yX0_findTold 1 := by decide +kernel
def fX0_findTold_B107 (N : Nat) (x0 : Nat)  (K38 : xk_C → Int32 → Int32 → Option (xk_C × Int32)) (σ : xk_C) (x1 : Int32) (x2 : Int32) : Option (xk_C × Int32) := K38 (σ) (x1) ((x2) + 1)
set_option maxHeartbeats 4000000 in
theorem tX0_findTold_B107 {w : gw_W} {X : gx_X} {N : Nat} {x0 : Nat} {r : xk_C × Int32} (hX : gx_O (gw_I w (gx_A X)) X iX0_findTold 5 0 0 (xk_P (gx_A X) w r.1) (.returned (some (.int r.2)))) {K38 : xk_C → Int32 → Int32 → Option (xk_C × Int32)} (hK38 : ∀ (σ : xk_C) (x1 : Int32) (x2 : Int32), K38 σ x1 x2 = some r → gx_G X (xk_P (gx_A X) w (σ)) 0 0 [some (va_rf (some x0)), some (.int (x1)), some (.int (x2))] 38 []) {σ : xk_C} {x1 : Int32} {x2 : Int32} (h : fX0_findTold_B107 N x0 K38 σ x1 x2 = some r) : gx_G X (xk_P (gx_A X) w (σ)) 0 0 [some (va_rf (some x0)), some (.int (x1)), some (.int (x2))] 107 [] := by
  unfold fX0_findTold_B107 at h
  refine gx_iinc (v := 1) hX dX0_findTold_107 rfl (by decide) gx_c1i (lv' := [some (va_rf (some x0)), some (.int (x1)), some (.int ((x2) + 1))]) rfl ?_
  refine gx_goto (tgt := 38) hX dX0_findTold_110 (by decide) ?_
  exact hK38 _ _ _ h
def fX0_findTold_L38 (N : Nat) (x0 : Nat)   : Nat → xk_C → Int32 → Int32 → Option (xk_C × Int32)
  | 0, _, _, _ => none
  | k + 1, σ, x1, x2 => (xk_gr (σ) 3 (some x0)).bind fun v7 => (xk_is (σ) 21 (v7)).bind fun b9 => (fJ2_size (b9) (σ)).bind fun r8 => if (r8) ≤ x2 then some (σ, 0) else if ((x1) >>> ((x2) &&& 31)) &&& (1) = 0 then fX0_findTold_B107 N x0 (fX0_findTold_L38 N x0 k) (σ) (x1) (x2) else (xk_gr (σ) 3 (some x0)).bind fun v10 => (xk_is (σ) 21 (v10)).bind fun b12 => (fJ2_get (b12) (σ) (x2)).bind fun r11 => (xk_ck (σ) 6 (r11)).bind fun u13 => (xk_is (σ) 6 (r11)).bind fun b15 => (fX5_isHoused (b15) (σ)).bind fun r14 => if r14 = 0 then some (σ, (-3)) else (xk_gr (σ) 17 (some x0)).bind fun v16 => (xk_gi (σ) 20 (some x0)).bind fun v17 => (xk_pi (σ) 20 (some x0) ((v17) + (1))).bind fun σ18 => (xk_gr (σ18) 3 (some x0)).bind fun v19 => (xk_is (σ18) 21 (v19)).bind fun b21 => (fJ2_get (b21) (σ18) (x2)).bind fun r20 => (xk_ck (σ18) 6 (r20)).bind fun u22 => (xk_sa (σ18) 6 (v16) (v17) (r20)).bind fun σ23 => fX0_findTold_B107 N x0 (fX0_findTold_L38 N x0 k) (σ23) (x1) (x2)
set_option maxHeartbeats 4000000 in
theorem tX0_findTold_L38 {w : gw_W} {X : gx_X} {N : Nat} {x0 : Nat} {r : xk_C × Int32} (hX : gx_O (gw_I w (gx_A X)) X iX0_findTold 5 0 0 (xk_P (gx_A X) w r.1) (.returned (some (.int r.2))))  : ∀ (k : Nat) (σ : xk_C) (x1 : Int32) (x2 : Int32), fX0_findTold_L38 N x0 k σ x1 x2 = some r → gx_G X (xk_P (gx_A X) w (σ)) 0 0 [some (va_rf (some x0)), some (.int (x1)), some (.int (x2))] 38 [] := by
  intro k
  induction k with
  | zero =>
    intro σ x1 x2 h
    unfold fX0_findTold_L38 at h
    cases h
  | succ k ih =>
    intro σ x1 x2 h
    unfold fX0_findTold_L38 at h
    refine gx_iload_n hX dX0_findTold_38 rfl ?_
    refine gx_aload_n hX dX0_findTold_39 rfl ?_
    refine xk_getr hX 3 q214 (fun _ h => h) rfl dX0_findTold_40 h (fun v7 h => ?_)
    obtain ⟨b9, hb, h⟩ := gx_bs h
    obtain ⟨eb, hkb⟩ := xk_isS hb
    obtain ⟨r8, hr8, h⟩ := gx_bs h
    refine gx_cV (As := []) (rest := [.int (x2)]) (b := b9) hX (tJ2_size w (gx_A X) (gx_l X) (b9) (σ)  hr8) (lw_V q314 q315 q316 q89 q317) ⟨rfl, dsJ2_size⟩ (by decide) (Nat.le_of_ble_eq_true rfl) (xk_rc hX (ci := 20) (by decide) (by decide) hkb) (by rw [eb]; rfl) (gx_w8 (gx_kI gx_k0) (Nat.le_of_ble_eq_true rfl)) dX0_findTold_43 ⟨Nat.le_refl _, Nat.le_refl _⟩ rfl ?_
    refine gx_icmp_ge (tgt := 113) hX dX0_findTold_46 (by decide) h (fun h => ?_) (fun h => ?_)
    · refine gx_iconst (v := 0) hX dX0_findTold_113 (by decide) ?_
      cases h
      exact gx_iret hX rfl dX0_findTold_114 rfl ⟨rfl, rfl⟩ (fun _ h => h)
    · refine gx_iload_n hX dX0_findTold_49 rfl ?_
      refine gx_iload_n hX dX0_findTold_50 rfl ?_
      refine gx_ishr hX dX0_findTold_51 ?_
      refine gx_iconst (v := 1) hX dX0_findTold_52 (by decide) ?_
      refine gx_iand hX dX0_findTold_53 ?_
      refine gx_if_ne (tgt := 60) hX dX0_findTold_54 (by decide) h (fun h => ?_) (fun h => ?_)
      · refine gx_goto (tgt := 107) hX dX0_findTold_57 (by decide) ?_
        exact tX0_findTold_B107 hX ih h
      · refine gx_aload_n hX dX0_findTold_60 rfl ?_
        refine xk_getr hX 3 q214 (fun _ h => h) rfl dX0_findTold_61 h (fun v10 h => ?_)
        refine gx_iload_n hX dX0_findTold_64 rfl ?_
        obtain ⟨b12, hb, h⟩ := gx_bs h
        obtain ⟨eb, hkb⟩ := xk_isS hb
        obtain ⟨r11, hr11, h⟩ := gx_bs h
        refine gx_cV (As := [.int (x2)]) (rest := []) (b := b12) hX (tJ2_get w (gx_A X) (gx_l X) (b12) (σ) (x2) hr11) (lw_V q433 q434 q435 q89 q436) ⟨rfl, dsJ2_get⟩ (by decide) (Nat.le_of_ble_eq_true rfl) (xk_rc hX (ci := 20) (by decide) (by decide) hkb) (by rw [eb]; rfl) (gx_w8 gx_k0 (Nat.le_of_ble_eq_true rfl)) dX0_findTold_65 ⟨Nat.le_refl _, Nat.le_refl _⟩ rfl ?_
        refine xk_castC hX 5 ⟨by decide, by decide⟩ q204 dX0_findTold_68 h (fun h => ?_)
        obtain ⟨b15, hb, h⟩ := gx_bs h
        obtain ⟨eb, hkb⟩ := xk_isS hb
        obtain ⟨r14, hr14, h⟩ := gx_bs h
        refine gx_cV (As := []) (rest := []) (b := b15) hX (tX5_isHoused w (gx_A X) (gx_l X) (b15) (σ)  hr14) (lw_V q982 q648 q649 q100 q650) ⟨rfl, dsX5_isHoused⟩ (by decide) (Nat.le_of_ble_eq_true rfl) (xk_rc hX (ci := 5) (by decide) (by decide) hkb) (by rw [eb]; rfl) (gx_w8 gx_k0 (Nat.le_of_ble_eq_true rfl)) dX0_findTold_71 ⟨Nat.le_refl _, Nat.le_refl _⟩ rfl ?_
        refine gx_if_ne (tgt := 80) hX dX0_findTold_74 (by decide) h (fun h => ?_) (fun h => ?_)
        · refine gx_bipush (v := (-3)) hX dX0_findTold_77 (by decide) ?_
          cases h
          exact gx_iret hX rfl dX0_findTold_79 rfl ⟨rfl, rfl⟩ (fun _ h => h)
        · refine gx_aload_n hX dX0_findTold_80 rfl ?_
          refine xk_getr hX 17 q239 (fun _ h => h) rfl dX0_findTold_81 h (fun v16 h => ?_)
          refine gx_aload_n hX dX0_findTold_84 rfl ?_
          refine gx_dup hX dX0_findTold_85 (gx_cat _) ?_
          refine xk_geti hX 20 q242 (fun _ h => h) rfl dX0_findTold_86 h (fun v17 h => ?_)
          refine gx_dup_x1 hX dX0_findTold_89 rfl (gx_cat _) ?_
          refine gx_iconst (v := 1) hX dX0_findTold_90 (by decide) ?_
          refine gx_iadd hX dX0_findTold_91 ?_
          refine xk_puti hX 20 xk_ty20 rfl q242 (fun _ h => h) rfl rfl dX0_findTold_92 h (fun σ18 hτ h => ?_)
          refine gx_aload_n hX dX0_findTold_95 rfl ?_
          refine xk_getr hX 3 q214 (fun _ h => h) rfl dX0_findTold_96 h (fun v19 h => ?_)
          refine gx_iload_n hX dX0_findTold_99 rfl ?_
          obtain ⟨b21, hb, h⟩ := gx_bs h
          obtain ⟨eb, hkb⟩ := xk_isS hb
          obtain ⟨r20, hr20, h⟩ := gx_bs h
          refine gx_cV (As := [.int (x2)]) (rest := [.int (v17), va_rf (v16)]) (b := b21) hX (tJ2_get w (gx_A X) (gx_l X) (b21) (σ18) (x2) hr20) (lw_V q433 q434 q435 q89 q436) ⟨rfl, dsJ2_get⟩ (by decide) (Nat.le_of_ble_eq_true rfl) (xk_rc hX (ci := 20) (by decide) (by decide) hkb) (by rw [eb]; rfl) (gx_w8 (gx_kI (gx_kR gx_k0)) (Nat.le_of_ble_eq_true rfl)) dX0_findTold_100 ⟨Nat.le_refl _, Nat.le_refl _⟩ rfl ?_
          refine xk_castC hX 5 ⟨by decide, by decide⟩ q204 dX0_findTold_103 h (fun h => ?_)
          refine xk_aastore hX 6 ⟨by decide, by decide⟩ dX0_findTold_106 h (fun σ23 hτ h => ?_)
          exact tX0_findTold_B107 hX ih h
def fX0_findTold (N : Nat) (x0 : Nat) (σ : xk_C) (x1 : Int32) : Option (xk_C × Int32) := (xk_gr (σ) 3 (some x0)).bind fun v1 => (xk_is (σ) 21 (v1)).bind fun b3 => (fJ2_size (b3) (σ)).bind fun r2 => (fX0_in  (x1) (1) (((1) <<< ((r2) &&& 31)) - (1))).bind fun r4 => if r4 = 0 then some (σ, (-2)) else (fJ13_bitCount  (x1)).bind fun r5 => if (r5) ≤ nI 6 then (xk_pi (σ) 20 (some x0) (0)).bind fun σ6 => fX0_findTold_L38 N x0 N (σ6) (x1) (0) else some (σ, (-2))
set_option maxHeartbeats 4000000 in
theorem tX0_findTold (w : gw_W) (A : Nat → Prop) (l : Launch) (N : Nat) (x0 : Nat) (σ : xk_C) (x1 : Int32) {r : xk_C × Int32} (h : fX0_findTold N x0 σ x1 = some r) : gx_T (gw_I w A) A l yX0_findTold iX0_findTold 5 [va_rf (some x0), .int (x1)] (xk_P A w σ) 0 0 (xk_P A w r.1) (.returned (some (.int r.2))) := by
  refine gx_T.of (gw_I.inv w A) (by decide) ⟨rfl, rfl⟩ (gx_kR (gx_kI gx_k0)) (Nat.le_of_ble_eq_true rfl) (fun X hl hAx hX => ?_)
  subst hl
  subst hAx
  show gx_G X (xk_P (gx_A X) w (σ)) 0 0 [some (va_rf (some x0)), some (.int (x1)), none] 0 []
  unfold fX0_findTold at h
  refine gx_iload_n hX dX0_findTold_0 rfl ?_
  refine gx_iconst (v := 1) hX dX0_findTold_1 (by decide) ?_
  refine gx_iconst (v := 1) hX dX0_findTold_2 (by decide) ?_
  refine gx_aload_n hX dX0_findTold_3 rfl ?_
  refine xk_getr hX 3 q214 (fun _ h => h) rfl dX0_findTold_4 h (fun v1 h => ?_)
  obtain ⟨b3, hb, h⟩ := gx_bs h
  obtain ⟨eb, hkb⟩ := xk_isS hb
  obtain ⟨r2, hr2, h⟩ := gx_bs h
  refine gx_cV (As := []) (rest := [.int (1), .int (1), .int (x1)]) (b := b3) hX (tJ2_size w (gx_A X) (gx_l X) (b3) (σ)  hr2) (lw_V q314 q315 q316 q89 q317) ⟨rfl, dsJ2_size⟩ (by decide) (Nat.le_of_ble_eq_true rfl) (xk_rc hX (ci := 20) (by decide) (by decide) hkb) (by rw [eb]; rfl) (gx_w8 (gx_kI (gx_kI (gx_kI gx_k0))) (Nat.le_of_ble_eq_true rfl)) dX0_findTold_7 ⟨Nat.le_refl _, Nat.le_refl _⟩ rfl ?_
  refine gx_ishl hX dX0_findTold_10 ?_
  refine gx_iconst (v := 1) hX dX0_findTold_11 (by decide) ?_
  refine gx_isub hX dX0_findTold_12 ?_
  obtain ⟨r4, hr4, h⟩ := gx_bs h
  refine gx_cS (As := [.int (x1), .int (1), .int (((1) <<< ((r2) &&& 31)) - (1))]) (rest := []) hX (tX0_in w (gx_A X) (gx_l X) (xk_P (gx_A X) w (σ)) (x1) (1) (((1) <<< ((r2) &&& 31)) - (1)) hr4) (lw_S q311 q312 q86 q313) dsX0_in (by decide) (Nat.le_of_ble_eq_true rfl) rfl (gx_w8 gx_k0 (Nat.le_of_ble_eq_true rfl)) dX0_findTold_13 ⟨Nat.le_refl _, Nat.le_refl _⟩ rfl ?_
  refine gx_if_eq (tgt := 28) hX dX0_findTold_16 (by decide) h (fun h => ?_) (fun h => ?_)
  · refine gx_bipush (v := (-2)) hX dX0_findTold_28 (by decide) ?_
    cases h
    exact gx_iret hX rfl dX0_findTold_30 rfl ⟨rfl, rfl⟩ (fun _ h => h)
  · refine gx_iload_n hX dX0_findTold_19 rfl ?_
    obtain ⟨r5, hr5, h⟩ := gx_bs h
    refine gx_cS (As := [.int (x1)]) (rest := []) hX (tJ13_bitCount w (gx_A X) (gx_l X) (xk_P (gx_A X) w (σ)) (x1) hr5) (lw_S q1043 q1044 q118 q1045) dsJ13_bitCount (by decide) (Nat.le_of_ble_eq_true rfl) rfl (gx_w8 gx_k0 (Nat.le_of_ble_eq_true rfl)) dX0_findTold_20 ⟨Nat.le_refl _, Nat.le_refl _⟩ rfl ?_
    refine gx_bipush (v := nI 6) hX dX0_findTold_23 (by decide) ?_
    refine gx_icmp_le (tgt := 31) hX dX0_findTold_25 (by decide) h (fun h => ?_) (fun h => ?_)
    · refine gx_aload_n hX dX0_findTold_31 rfl ?_
      refine gx_iconst (v := 0) hX dX0_findTold_32 (by decide) ?_
      refine xk_puti hX 20 xk_ty20 rfl q242 (fun _ h => h) rfl rfl dX0_findTold_33 h (fun σ6 hτ h => ?_)
      refine gx_iconst (v := 0) hX dX0_findTold_36 (by decide) ?_
      refine gx_istore_n hX dX0_findTold_37 (Nat.le_of_ble_eq_true rfl) gx_c1i (lv' := [some (va_rf (some x0)), some (.int (x1)), some (.int (0))]) rfl ?_
      exact tX0_findTold_L38 hX  N _ _ _ h
    · refine gx_bipush (v := (-2)) hX dX0_findTold_28 (by decide) ?_
      cases h
      exact gx_iret hX rfl dX0_findTold_30 rfl ⟨rfl, rfl⟩ (fun _ h => h)
abbrev iX0_best : gx_M := (RX0, "best", cX0_best, 4, some .int)
theorem dsX0_best : gx_ds yX0_best 2 := by decide +kernel
def fX0_best (N : Nat) (x0 : Nat) (σ : xk_C) (x1 : Int32) (x2 : Int32) : Option (xk_C × Int32) := (xk_is (σ) 1 (some x0)).bind fun b2 => (fX0_findTold N (b2) (σ) (x1)).bind fun r1 => if r1.2 = 0 then (xk_gi (r1.1) 20 (some x0)).bind fun v3 => (fX0_in  (x2) ((-1)) ((v3) - (1))).bind fun r4 => if r4 = 0 then some (r1.1, (-1)) else (xk_is (r1.1) 1 (some x0)).bind fun b6 => (fX0_findPartings N (b6) (r1.1)).bind fun r5 => if x2 = (-1) then (xk_gi (r5.1) 21 (some x0)).bind fun v10 => some (r5.1, v10) else (xk_gr (r5.1) 19 (some x0)).bind fun v7 => (xk_lq (r5.1) 7 (v7) (x2)).bind fun v8 => (xk_gi (r5.1) 37 (v8)).bind fun v9 => some (r5.1, v9) else some (r1.1, r1.2)
set_option maxHeartbeats 4000000 in
theorem tX0_best (w : gw_W) (A : Nat → Prop) (l : Launch) (N : Nat) (x0 : Nat) (σ : xk_C) (x1 : Int32) (x2 : Int32) {r : xk_C × Int32} (h : fX0_best N x0 σ x1 x2 = some r) : gx_T (gw_I w A) A l yX0_best iX0_best 16 [va_rf (some x0), .int (x1), .int (x2)] (xk_P A w σ) 0 0 (xk_P A w r.1) (.returned (some (.int r.2))) := by
  refine gx_T.of (gw_I.inv w A) (by decide) ⟨rfl, rfl⟩ (gx_kR (gx_kI (gx_kI gx_k0))) (Nat.le_of_ble_eq_true rfl) (fun X hl hAx hX => ?_)
  subst hl
  subst hAx
  show gx_G X (xk_P (gx_A X) w (σ)) 0 0 [some (va_rf (some x0)), some (.int (x1)), some (.int (x2)), none] 0 []
  unfold fX0_best at h
  refine gx_aload_n hX dX0_best_0 rfl ?_
  refine gx_iload_n hX dX0_best_1 rfl ?_
  obtain ⟨b2, hb, h⟩ := gx_bs h
  obtain ⟨eb, hkb⟩ := xk_isS hb
  obtain ⟨r1, hr1, h⟩ := gx_bs h
  refine gx_cV (As := [.int (x1)]) (rest := []) (b := b2) hX (tX0_findTold w (gx_A X) (gx_l X) N (b2) (σ) (x1) hr1) (lw_V q1039 q1041 qs23 q86 q1042) ⟨rfl, dsX0_findTold⟩ (by decide) (Nat.le_of_ble_eq_true rfl) (xk_rc hX (ci := 0) (by decide) (by decide) hkb) (by rw [eb]; rfl) (gx_w8 gx_k0 (Nat.le_of_ble_eq_true rfl)) dX0_best_2 ⟨Nat.le_refl _, Nat.le_refl _⟩ rfl ?_
  refine gx_istore_n hX dX0_best_5 (Nat.le_of_ble_eq_true rfl) gx_c1i (lv' := [some (va_rf (some x0)), some (.int (x1)), some (.int (x2)), some (.int (r1.2))]) rfl ?_
  refine gx_iload_n hX dX0_best_6 rfl ?_
  refine gx_if_eq (tgt := 12) hX dX0_best_7 (by decide) h (fun h => ?_) (fun h => ?_)
  · refine gx_iload_n hX dX0_best_12 rfl ?_
    refine gx_iconst (v := (-1)) hX dX0_best_13 (by decide) ?_
    refine gx_aload_n hX dX0_best_14 rfl ?_
    refine xk_geti hX 20 q242 (fun _ h => h) rfl dX0_best_15 h (fun v3 h => ?_)
    refine gx_iconst (v := 1) hX dX0_best_18 (by decide) ?_
    refine gx_isub hX dX0_best_19 ?_
    obtain ⟨r4, hr4, h⟩ := gx_bs h
    refine gx_cS (As := [.int (x2), .int ((-1)), .int ((v3) - (1))]) (rest := []) hX (tX0_in w (gx_A X) (gx_l X) (xk_P (gx_A X) w (r1.1)) (x2) ((-1)) ((v3) - (1)) hr4) (lw_S q311 q312 q86 q313) dsX0_in (by decide) (Nat.le_of_ble_eq_true rfl) rfl (gx_w8 gx_k0 (Nat.le_of_ble_eq_true rfl)) dX0_best_20 ⟨Nat.le_refl _, Nat.le_refl _⟩ rfl ?_
    refine gx_if_ne (tgt := 28) hX dX0_best_23 (by decide) h (fun h => ?_) (fun h => ?_)
    · refine gx_iconst (v := (-1)) hX dX0_best_26 (by decide) ?_
      cases h
      exact gx_iret hX rfl dX0_best_27 rfl ⟨rfl, rfl⟩ (fun _ h => h)
    · refine gx_aload_n hX dX0_best_28 rfl ?_
      obtain ⟨b6, hb, h⟩ := gx_bs h
      obtain ⟨eb, hkb⟩ := xk_isS hb
      obtain ⟨r5, hr5, h⟩ := gx_bs h
      refine gx_cV (As := []) (rest := []) (b := b6) hX (tX0_findPartings w (gx_A X) (gx_l X) N (b6) (r1.1)  hr5) (lw_V q1049 q1051 qs24 q86 q1052) ⟨rfl, dsX0_findPartings⟩ (by decide) (Nat.le_of_ble_eq_true rfl) (xk_rc hX (ci := 0) (by decide) (by decide) hkb) (by rw [eb]; rfl) (gx_w8 gx_k0 (Nat.le_of_ble_eq_true rfl)) dX0_best_29 ⟨Nat.le_refl _, Nat.le_refl _⟩ rfl ?_
      refine gx_iload_n hX dX0_best_32 rfl ?_
      refine gx_iconst (v := (-1)) hX dX0_best_33 (by decide) ?_
      refine gx_icmp_ne (tgt := 44) hX dX0_best_34 (by decide) h (fun h => ?_) (fun h => ?_)
      · refine gx_aload_n hX dX0_best_37 rfl ?_
        refine xk_geti hX 21 q243 (fun _ h => h) rfl dX0_best_38 h (fun v10 h => ?_)
        refine gx_goto (tgt := 53) hX dX0_best_41 (by decide) ?_
        cases h
        exact gx_iret hX rfl dX0_best_53 rfl ⟨rfl, rfl⟩ (fun _ h => h)
      · refine gx_aload_n hX dX0_best_44 rfl ?_
        refine xk_getr hX 19 q241 (fun _ h => h) rfl dX0_best_45 h (fun v7 h => ?_)
        refine gx_iload_n hX dX0_best_48 rfl ?_
        refine xk_aaload hX 7 ⟨by decide, by decide, rfl⟩ dX0_best_49 h (fun v8 h => ?_)
        refine xk_getiN hX 37 q325 rfl dX0_best_50 h (fun v9 h => ?_)
        cases h
        exact gx_iret hX rfl dX0_best_53 rfl ⟨rfl, rfl⟩ (fun _ h => h)
  · refine gx_iload_n hX dX0_best_10 rfl ?_
    cases h
    exact gx_iret hX rfl dX0_best_11 rfl ⟨rfl, rfl⟩ (fun _ h => h)
abbrev iX0_calm : gx_M := (RX0, "calm", cX0_calm, 3, some .int)
theorem dsX0_calm : gx_ds yX0_calm 1 := by decide +kernel
def fX0_calm (N : Nat) (x0 : Nat) (σ : xk_C) (x1 : Int32) : Option (xk_C × Int32) := (xk_is (σ) 1 (some x0)).bind fun b2 => (fX0_findTold N (b2) (σ) (x1)).bind fun r1 => if r1.2 = 0 then (xk_is (r1.1) 1 (some x0)).bind fun b4 => (fX0_findPartings N (b4) (r1.1)).bind fun r3 => (xk_gi (r3.1) 22 (some x0)).bind fun v5 => some (r3.1, v5) else some (r1.1, r1.2)
set_option maxHeartbeats 4000000 in
theorem tX0_calm (w : gw_W) (A : Nat → Prop) (l : Launch) (N : Nat) (x0 : Nat) (σ : xk_C) (x1 : Int32) {r : xk_C × Int32} (h : fX0_calm N x0 σ x1 = some r) : gx_T (gw_I w A) A l yX0_calm iX0_calm 16 [va_rf (some x0), .int (x1)] (xk_P A w σ) 0 0 (xk_P A w r.1) (.returned (some (.int r.2))) := by
  refine gx_T.of (gw_I.inv w A) (by decide) ⟨rfl, rfl⟩ (gx_kR (gx_kI gx_k0)) (Nat.le_of_ble_eq_true rfl) (fun X hl hAx hX => ?_)
  subst hl
  subst hAx
  show gx_G X (xk_P (gx_A X) w (σ)) 0 0 [some (va_rf (some x0)), some (.int (x1)), none] 0 []
  unfold fX0_calm at h
  refine gx_aload_n hX dX0_calm_0 rfl ?_
  refine gx_iload_n hX dX0_calm_1 rfl ?_
  obtain ⟨b2, hb, h⟩ := gx_bs h
  obtain ⟨eb, hkb⟩ := xk_isS hb
  obtain ⟨r1, hr1, h⟩ := gx_bs h
  refine gx_cV (As := [.int (x1)]) (rest := []) (b := b2) hX (tX0_findTold w (gx_A X) (gx_l X) N (b2) (σ) (x1) hr1) (lw_V q1039 q1041 qs23 q86 q1042) ⟨rfl, dsX0_findTold⟩ (by decide) (Nat.le_of_ble_eq_true rfl) (xk_rc hX (ci := 0) (by decide) (by decide) hkb) (by rw [eb]; rfl) (gx_w8 gx_k0 (Nat.le_of_ble_eq_true rfl)) dX0_calm_2 ⟨Nat.le_refl _, Nat.le_refl _⟩ rfl ?_
  refine gx_istore_n hX dX0_calm_5 (Nat.le_of_ble_eq_true rfl) gx_c1i (lv' := [some (va_rf (some x0)), some (.int (x1)), some (.int (r1.2))]) rfl ?_
  refine gx_iload_n hX dX0_calm_6 rfl ?_
  refine gx_if_eq (tgt := 12) hX dX0_calm_7 (by decide) h (fun h => ?_) (fun h => ?_)
  · refine gx_aload_n hX dX0_calm_12 rfl ?_
    obtain ⟨b4, hb, h⟩ := gx_bs h
    obtain ⟨eb, hkb⟩ := xk_isS hb
    obtain ⟨r3, hr3, h⟩ := gx_bs h
    refine gx_cV (As := []) (rest := []) (b := b4) hX (tX0_findPartings w (gx_A X) (gx_l X) N (b4) (r1.1)  hr3) (lw_V q1049 q1051 qs24 q86 q1052) ⟨rfl, dsX0_findPartings⟩ (by decide) (Nat.le_of_ble_eq_true rfl) (xk_rc hX (ci := 0) (by decide) (by decide) hkb) (by rw [eb]; rfl) (gx_w8 gx_k0 (Nat.le_of_ble_eq_true rfl)) dX0_calm_13 ⟨Nat.le_refl _, Nat.le_refl _⟩ rfl ?_
    refine gx_aload_n hX dX0_calm_16 rfl ?_
    refine xk_geti hX 22 q244 (fun _ h => h) rfl dX0_calm_17 h (fun v5 h => ?_)
    cases h
    exact gx_iret hX rfl dX0_calm_20 rfl ⟨rfl, rfl⟩ (fun _ h => h)
  · refine gx_iload_n hX dX0_calm_10 rfl ?_
    cases h
    exact gx_iret hX rfl dX0_calm_11 rfl ⟨rfl, rfl⟩ (fun _ h => h)
abbrev iX0_pairs : gx_M := (RX0, "pairs", cX0_pairs, 4, some .int)
theorem dsX0_pairs : gx_ds yX0_pairs 0 := by decide +kernel
def fX0_pairs_B115 (N : Nat) (x0 : Nat) (σ : xk_C)  (K4 : Int32 → Int32 → Option (Int32)) (K17 : Int32 → Int32 → Int32 → Option (Int32)) (x1 : Int32) (x2 : Int32) (x3 : Int32) : Option (Int32) := K17 (x1) (x2) ((x3) + 1)
set_option maxHeartbeats 4000000 in
theorem tX0_pairs_B115 {w : gw_W} {X : gx_X} {N : Nat} {x0 : Nat} {σ : xk_C} {r : Int32} (hX : gx_O (gw_I w (gx_A X)) X iX0_pairs 5 0 0 (xk_P (gx_A X) w σ) (.returned (some (.int r)))) {K4 : Int32 → Int32 → Option (Int32)} {K17 : Int32 → Int32 → Int32 → Option (Int32)} (hK4 : ∀ (x1 : Int32) (x2 : Int32), K4 x1 x2 = some r → gx_G X (xk_P (gx_A X) w (σ)) 0 0 [some (va_rf (some x0)), some (.int (x1)), some (.int (x2)), none] 4 []) (hK17 : ∀ (x1 : Int32) (x2 : Int32) (x3 : Int32), K17 x1 x2 x3 = some r → gx_G X (xk_P (gx_A X) w (σ)) 0 0 [some (va_rf (some x0)), some (.int (x1)), some (.int (x2)), some (.int (x3))] 17 []) {x1 : Int32} {x2 : Int32} {x3 : Int32} (h : fX0_pairs_B115 N x0 σ K4 K17 x1 x2 x3 = some r) : gx_G X (xk_P (gx_A X) w (σ)) 0 0 [some (va_rf (some x0)), some (.int (x1)), some (.int (x2)), some (.int (x3))] 115 [] := by
  unfold fX0_pairs_B115 at h
  refine gx_iinc (v := 1) hX dX0_pairs_115 rfl (by decide) gx_c1i (lv' := [some (va_rf (some x0)), some (.int (x1)), some (.int (x2)), some (.int ((x3) + 1))]) rfl ?_
  refine gx_goto (tgt := 17) hX dX0_pairs_118 (by decide) ?_
  exact hK17 _ _ _ h
def fX0_pairs_L17 (N : Nat) (x0 : Nat) (σ : xk_C)  (K4 : Int32 → Int32 → Option (Int32)) : Nat → Int32 → Int32 → Int32 → Option (Int32)
  | 0, _, _, _ => none
  | k + 1, x1, x2, x3 => if (x2) ≤ x3 then K4 (x1) ((x2) + 1) else (xk_gr (σ) 3 (some x0)).bind fun v4 => (xk_is (σ) 21 (v4)).bind fun b6 => (fJ2_get (b6) (σ) (x2)).bind fun r5 => (xk_ck (σ) 6 (r5)).bind fun u7 => (xk_is (σ) 6 (r5)).bind fun b9 => (fX5_isHoused (b9) (σ)).bind fun r8 => if r8 = 0 then fX0_pairs_B115 N x0 σ K4 (fX0_pairs_L17 N x0 σ K4 k) (x1) (x2) (x3) else (xk_gr (σ) 3 (some x0)).bind fun v10 => (xk_is (σ) 21 (v10)).bind fun b12 => (fJ2_get (b12) (σ) (x3)).bind fun r11 => (xk_ck (σ) 6 (r11)).bind fun u13 => (xk_is (σ) 6 (r11)).bind fun b15 => (fX5_isHoused (b15) (σ)).bind fun r14 => if r14 = 0 then fX0_pairs_B115 N x0 σ K4 (fX0_pairs_L17 N x0 σ K4 k) (x1) (x2) (x3) else (xk_gr (σ) 3 (some x0)).bind fun v16 => (xk_is (σ) 21 (v16)).bind fun b18 => (fJ2_get (b18) (σ) (x2)).bind fun r17 => (xk_ck (σ) 6 (r17)).bind fun u19 => (xk_gr (σ) 3 (some x0)).bind fun v20 => (xk_is (σ) 21 (v20)).bind fun b22 => (fJ2_get (b22) (σ) (x2)).bind fun r21 => (xk_ck (σ) 6 (r21)).bind fun u23 => (xk_gr (σ) 53 (r21)).bind fun v24 => (xk_gr (σ) 3 (some x0)).bind fun v25 => (xk_is (σ) 21 (v25)).bind fun b27 => (fJ2_get (b27) (σ) (x3)).bind fun r26 => (xk_ck (σ) 6 (r26)).bind fun u28 => (xk_gr (σ) 3 (some x0)).bind fun v29 => (xk_is (σ) 21 (v29)).bind fun b31 => (fJ2_get (b31) (σ) (x3)).bind fun r30 => (xk_ck (σ) 6 (r30)).bind fun u32 => (xk_gr (σ) 53 (r30)).bind fun v33 => (fX0_wouldBoth (σ) (r17) (v24) (r26) (v33)).bind fun r34 => if r34 = 0 then fX0_pairs_B115 N x0 σ K4 (fX0_pairs_L17 N x0 σ K4 k) (x1) (x2) (x3) else fX0_pairs_B115 N x0 σ K4 (fX0_pairs_L17 N x0 σ K4 k) ((x1) + 1) (x2) (x3)
set_option maxHeartbeats 4000000 in
theorem tX0_pairs_L17 {w : gw_W} {X : gx_X} {N : Nat} {x0 : Nat} {σ : xk_C} {r : Int32} (hX : gx_O (gw_I w (gx_A X)) X iX0_pairs 5 0 0 (xk_P (gx_A X) w σ) (.returned (some (.int r)))) {K4 : Int32 → Int32 → Option (Int32)} (hK4 : ∀ (x1 : Int32) (x2 : Int32), K4 x1 x2 = some r → gx_G X (xk_P (gx_A X) w (σ)) 0 0 [some (va_rf (some x0)), some (.int (x1)), some (.int (x2)), none] 4 []) : ∀ (k : Nat) (x1 : Int32) (x2 : Int32) (x3 : Int32), fX0_pairs_L17 N x0 σ K4 k x1 x2 x3 = some r → gx_G X (xk_P (gx_A X) w (σ)) 0 0 [some (va_rf (some x0)), some (.int (x1)), some (.int (x2)), some (.int (x3))] 17 [] := by
  intro k
  induction k with
  | zero =>
    intro x1 x2 x3 h
    unfold fX0_pairs_L17 at h
    cases h
  | succ k ih =>
    intro x1 x2 x3 h
    unfold fX0_pairs_L17 at h
    refine gx_iload_n hX dX0_pairs_17 rfl ?_
    refine gx_iload_n hX dX0_pairs_18 rfl ?_
    refine gx_icmp_ge (tgt := 121) hX dX0_pairs_19 (by decide) h (fun h => ?_) (fun h => ?_)
    · refine gx_iinc (v := 1) hX dX0_pairs_121 rfl (by decide) gx_c1i (lv' := [some (va_rf (some x0)), some (.int (x1)), some (.int ((x2) + 1)), some (.int (x3))]) rfl ?_
      refine gx_goto (tgt := 4) hX dX0_pairs_124 (by decide) ?_
      refine gx_sub hX (lv' := [some (va_rf (some x0)), some (.int (x1)), some (.int ((x2) + 1)), none]) ⟨Or.inr rfl, ⟨Or.inr rfl, ⟨Or.inr rfl, ⟨Or.inl rfl, trivial⟩⟩⟩⟩ ?_
      exact hK4 _ _ h
    · refine gx_aload_n hX dX0_pairs_22 rfl ?_
      refine xk_getr hX 3 q214 (fun _ h => h) rfl dX0_pairs_23 h (fun v4 h => ?_)
      refine gx_iload_n hX dX0_pairs_26 rfl ?_
      obtain ⟨b6, hb, h⟩ := gx_bs h
      obtain ⟨eb, hkb⟩ := xk_isS hb
      obtain ⟨r5, hr5, h⟩ := gx_bs h
      refine gx_cV (As := [.int (x2)]) (rest := []) (b := b6) hX (tJ2_get w (gx_A X) (gx_l X) (b6) (σ) (x2) hr5) (lw_V q433 q434 q435 q89 q436) ⟨rfl, dsJ2_get⟩ (by decide) (Nat.le_of_ble_eq_true rfl) (xk_rc hX (ci := 20) (by decide) (by decide) hkb) (by rw [eb]; rfl) (gx_w8 gx_k0 (Nat.le_of_ble_eq_true rfl)) dX0_pairs_27 ⟨Nat.le_refl _, Nat.le_refl _⟩ rfl ?_
      refine xk_castC hX 5 ⟨by decide, by decide⟩ q204 dX0_pairs_30 h (fun h => ?_)
      obtain ⟨b9, hb, h⟩ := gx_bs h
      obtain ⟨eb, hkb⟩ := xk_isS hb
      obtain ⟨r8, hr8, h⟩ := gx_bs h
      refine gx_cV (As := []) (rest := []) (b := b9) hX (tX5_isHoused w (gx_A X) (gx_l X) (b9) (σ)  hr8) (lw_V q982 q648 q649 q100 q650) ⟨rfl, dsX5_isHoused⟩ (by decide) (Nat.le_of_ble_eq_true rfl) (xk_rc hX (ci := 5) (by decide) (by decide) hkb) (by rw [eb]; rfl) (gx_w8 gx_k0 (Nat.le_of_ble_eq_true rfl)) dX0_pairs_33 ⟨Nat.le_refl _, Nat.le_refl _⟩ rfl ?_
      refine gx_if_eq (tgt := 115) hX dX0_pairs_36 (by decide) h (fun h => ?_) (fun h => ?_)
      · exact tX0_pairs_B115 hX hK4 ih h
      · refine gx_aload_n hX dX0_pairs_39 rfl ?_
        refine xk_getr hX 3 q214 (fun _ h => h) rfl dX0_pairs_40 h (fun v10 h => ?_)
        refine gx_iload_n hX dX0_pairs_43 rfl ?_
        obtain ⟨b12, hb, h⟩ := gx_bs h
        obtain ⟨eb, hkb⟩ := xk_isS hb
        obtain ⟨r11, hr11, h⟩ := gx_bs h
        refine gx_cV (As := [.int (x3)]) (rest := []) (b := b12) hX (tJ2_get w (gx_A X) (gx_l X) (b12) (σ) (x3) hr11) (lw_V q433 q434 q435 q89 q436) ⟨rfl, dsJ2_get⟩ (by decide) (Nat.le_of_ble_eq_true rfl) (xk_rc hX (ci := 20) (by decide) (by decide) hkb) (by rw [eb]; rfl) (gx_w8 gx_k0 (Nat.le_of_ble_eq_true rfl)) dX0_pairs_44 ⟨Nat.le_refl _, Nat.le_refl _⟩ rfl ?_
        refine xk_castC hX 5 ⟨by decide, by decide⟩ q204 dX0_pairs_47 h (fun h => ?_)
        obtain ⟨b15, hb, h⟩ := gx_bs h
        obtain ⟨eb, hkb⟩ := xk_isS hb
        obtain ⟨r14, hr14, h⟩ := gx_bs h
        refine gx_cV (As := []) (rest := []) (b := b15) hX (tX5_isHoused w (gx_A X) (gx_l X) (b15) (σ)  hr14) (lw_V q982 q648 q649 q100 q650) ⟨rfl, dsX5_isHoused⟩ (by decide) (Nat.le_of_ble_eq_true rfl) (xk_rc hX (ci := 5) (by decide) (by decide) hkb) (by rw [eb]; rfl) (gx_w8 gx_k0 (Nat.le_of_ble_eq_true rfl)) dX0_pairs_50 ⟨Nat.le_refl _, Nat.le_refl _⟩ rfl ?_
        refine gx_if_eq (tgt := 115) hX dX0_pairs_53 (by decide) h (fun h => ?_) (fun h => ?_)
        · exact tX0_pairs_B115 hX hK4 ih h
        · refine gx_aload_n hX dX0_pairs_56 rfl ?_
          refine xk_getr hX 3 q214 (fun _ h => h) rfl dX0_pairs_57 h (fun v16 h => ?_)
          refine gx_iload_n hX dX0_pairs_60 rfl ?_
          obtain ⟨b18, hb, h⟩ := gx_bs h
          obtain ⟨eb, hkb⟩ := xk_isS hb
          obtain ⟨r17, hr17, h⟩ := gx_bs h
          refine gx_cV (As := [.int (x2)]) (rest := []) (b := b18) hX (tJ2_get w (gx_A X) (gx_l X) (b18) (σ) (x2) hr17) (lw_V q433 q434 q435 q89 q436) ⟨rfl, dsJ2_get⟩ (by decide) (Nat.le_of_ble_eq_true rfl) (xk_rc hX (ci := 20) (by decide) (by decide) hkb) (by rw [eb]; rfl) (gx_w8 gx_k0 (Nat.le_of_ble_eq_true rfl)) dX0_pairs_61 ⟨Nat.le_refl _, Nat.le_refl _⟩ rfl ?_
          refine xk_castC hX 5 ⟨by decide, by decide⟩ q204 dX0_pairs_64 h (fun h => ?_)
          refine gx_aload_n hX dX0_pairs_67 rfl ?_
          refine xk_getr hX 3 q214 (fun _ h => h) rfl dX0_pairs_68 h (fun v20 h => ?_)
          refine gx_iload_n hX dX0_pairs_71 rfl ?_
          obtain ⟨b22, hb, h⟩ := gx_bs h
          obtain ⟨eb, hkb⟩ := xk_isS hb
          obtain ⟨r21, hr21, h⟩ := gx_bs h
          refine gx_cV (As := [.int (x2)]) (rest := [va_rf (r17)]) (b := b22) hX (tJ2_get w (gx_A X) (gx_l X) (b22) (σ) (x2) hr21) (lw_V q433 q434 q435 q89 q436) ⟨rfl, dsJ2_get⟩ (by decide) (Nat.le_of_ble_eq_true rfl) (xk_rc hX (ci := 20) (by decide) (by decide) hkb) (by rw [eb]; rfl) (gx_w8 (gx_kR gx_k0) (Nat.le_of_ble_eq_true rfl)) dX0_pairs_72 ⟨Nat.le_refl _, Nat.le_refl _⟩ rfl ?_
          refine xk_castC hX 5 ⟨by decide, by decide⟩ q204 dX0_pairs_75 h (fun h => ?_)
          refine xk_getrN hX 53 q575 rfl dX0_pairs_78 h (fun v24 h => ?_)
          refine gx_aload_n hX dX0_pairs_81 rfl ?_
          refine xk_getr hX 3 q214 (fun _ h => h) rfl dX0_pairs_82 h (fun v25 h => ?_)
          refine gx_iload_n hX dX0_pairs_85 rfl ?_
          obtain ⟨b27, hb, h⟩ := gx_bs h
          obtain ⟨eb, hkb⟩ := xk_isS hb
          obtain ⟨r26, hr26, h⟩ := gx_bs h
          refine gx_cV (As := [.int (x3)]) (rest := [va_rf (v24), va_rf (r17)]) (b := b27) hX (tJ2_get w (gx_A X) (gx_l X) (b27) (σ) (x3) hr26) (lw_V q433 q434 q435 q89 q436) ⟨rfl, dsJ2_get⟩ (by decide) (Nat.le_of_ble_eq_true rfl) (xk_rc hX (ci := 20) (by decide) (by decide) hkb) (by rw [eb]; rfl) (gx_w8 (gx_kR (gx_kR gx_k0)) (Nat.le_of_ble_eq_true rfl)) dX0_pairs_86 ⟨Nat.le_refl _, Nat.le_refl _⟩ rfl ?_
          refine xk_castC hX 5 ⟨by decide, by decide⟩ q204 dX0_pairs_89 h (fun h => ?_)
          refine gx_aload_n hX dX0_pairs_92 rfl ?_
          refine xk_getr hX 3 q214 (fun _ h => h) rfl dX0_pairs_93 h (fun v29 h => ?_)
          refine gx_iload_n hX dX0_pairs_96 rfl ?_
          obtain ⟨b31, hb, h⟩ := gx_bs h
          obtain ⟨eb, hkb⟩ := xk_isS hb
          obtain ⟨r30, hr30, h⟩ := gx_bs h
          refine gx_cV (As := [.int (x3)]) (rest := [va_rf (r26), va_rf (v24), va_rf (r17)]) (b := b31) hX (tJ2_get w (gx_A X) (gx_l X) (b31) (σ) (x3) hr30) (lw_V q433 q434 q435 q89 q436) ⟨rfl, dsJ2_get⟩ (by decide) (Nat.le_of_ble_eq_true rfl) (xk_rc hX (ci := 20) (by decide) (by decide) hkb) (by rw [eb]; rfl) (gx_w8 (gx_kR (gx_kR (gx_kR gx_k0))) (Nat.le_of_ble_eq_true rfl)) dX0_pairs_97 ⟨Nat.le_refl _, Nat.le_refl _⟩ rfl ?_
          refine xk_castC hX 5 ⟨by decide, by decide⟩ q204 dX0_pairs_100 h (fun h => ?_)
          refine xk_getrN hX 53 q575 rfl dX0_pairs_103 h (fun v33 h => ?_)
          obtain ⟨r34, hr34, h⟩ := gx_bs h
          refine gx_cS (As := [va_rf (r17), va_rf (v24), va_rf (r26), va_rf (v33)]) (rest := []) hX (tX0_wouldBoth w (gx_A X) (gx_l X) (σ) (r17) (v24) (r26) (v33) hr34) (lw_S q1062 q1063 q86 q1064) dsX0_wouldBoth (by decide) (Nat.le_of_ble_eq_true rfl) rfl (gx_w8 gx_k0 (Nat.le_of_ble_eq_true rfl)) dX0_pairs_106 ⟨Nat.le_refl _, Nat.le_refl _⟩ rfl ?_
          refine gx_if_eq (tgt := 115) hX dX0_pairs_109 (by decide) h (fun h => ?_) (fun h => ?_)
          · exact tX0_pairs_B115 hX hK4 ih h
          · refine gx_iinc (v := 1) hX dX0_pairs_112 rfl (by decide) gx_c1r (lv' := [some (va_rf (some x0)), some (.int ((x1) + 1)), some (.int (x2)), some (.int (x3))]) rfl ?_
            exact tX0_pairs_B115 hX hK4 ih h
def fX0_pairs_L4 (N : Nat) (x0 : Nat) (σ : xk_C)   : Nat → Int32 → Int32 → Option (Int32)
  | 0, _, _ => none
  | k + 1, x1, x2 => (xk_gr (σ) 3 (some x0)).bind fun v1 => (xk_is (σ) 21 (v1)).bind fun b3 => (fJ2_size (b3) (σ)).bind fun r2 => if (r2) ≤ x2 then some (x1) else fX0_pairs_L17 N x0 σ (fX0_pairs_L4 N x0 σ k) N (x1) (x2) (0)
set_option maxHeartbeats 4000000 in
theorem tX0_pairs_L4 {w : gw_W} {X : gx_X} {N : Nat} {x0 : Nat} {σ : xk_C} {r : Int32} (hX : gx_O (gw_I w (gx_A X)) X iX0_pairs 5 0 0 (xk_P (gx_A X) w σ) (.returned (some (.int r))))  : ∀ (k : Nat) (x1 : Int32) (x2 : Int32), fX0_pairs_L4 N x0 σ k x1 x2 = some r → gx_G X (xk_P (gx_A X) w (σ)) 0 0 [some (va_rf (some x0)), some (.int (x1)), some (.int (x2)), none] 4 [] := by
  intro k
  induction k with
  | zero =>
    intro x1 x2 h
    unfold fX0_pairs_L4 at h
    cases h
  | succ k ih =>
    intro x1 x2 h
    unfold fX0_pairs_L4 at h
    refine gx_iload_n hX dX0_pairs_4 rfl ?_
    refine gx_aload_n hX dX0_pairs_5 rfl ?_
    refine xk_getr hX 3 q214 (fun _ h => h) rfl dX0_pairs_6 h (fun v1 h => ?_)
    obtain ⟨b3, hb, h⟩ := gx_bs h
    obtain ⟨eb, hkb⟩ := xk_isS hb
    obtain ⟨r2, hr2, h⟩ := gx_bs h
    refine gx_cV (As := []) (rest := [.int (x2)]) (b := b3) hX (tJ2_size w (gx_A X) (gx_l X) (b3) (σ)  hr2) (lw_V q314 q315 q316 q89 q317) ⟨rfl, dsJ2_size⟩ (by decide) (Nat.le_of_ble_eq_true rfl) (xk_rc hX (ci := 20) (by decide) (by decide) hkb) (by rw [eb]; rfl) (gx_w8 (gx_kI gx_k0) (Nat.le_of_ble_eq_true rfl)) dX0_pairs_9 ⟨Nat.le_refl _, Nat.le_refl _⟩ rfl ?_
    refine gx_icmp_ge (tgt := 127) hX dX0_pairs_12 (by decide) h (fun h => ?_) (fun h => ?_)
    · refine gx_iload_n hX dX0_pairs_127 rfl ?_
      cases h
      exact gx_iret hX rfl dX0_pairs_128 rfl ⟨rfl, rfl⟩ (fun _ h => h)
    · refine gx_iconst (v := 0) hX dX0_pairs_15 (by decide) ?_
      refine gx_istore_n hX dX0_pairs_16 (Nat.le_of_ble_eq_true rfl) gx_c1i (lv' := [some (va_rf (some x0)), some (.int (x1)), some (.int (x2)), some (.int (0))]) rfl ?_
      exact tX0_pairs_L17 hX ih N _ _ _ h
def fX0_pairs (N : Nat) (x0 : Nat) (σ : xk_C)  : Option (Int32) := fX0_pairs_L4 N x0 σ N (0) (0)
set_option maxHeartbeats 4000000 in
theorem tX0_pairs (w : gw_W) (A : Nat → Prop) (l : Launch) (N : Nat) (x0 : Nat) (σ : xk_C)  {r : Int32} (h : fX0_pairs N x0 σ = some r) : gx_T (gw_I w A) A l yX0_pairs iX0_pairs 5 [va_rf (some x0)] (xk_P A w σ) 0 0 (xk_P A w σ) (.returned (some (.int r))) := by
  refine gx_T.of (gw_I.inv w A) (by decide) ⟨rfl, rfl⟩ (gx_kR gx_k0) (Nat.le_of_ble_eq_true rfl) (fun X hl hAx hX => ?_)
  subst hl
  subst hAx
  show gx_G X (xk_P (gx_A X) w (σ)) 0 0 [some (va_rf (some x0)), none, none, none] 0 []
  unfold fX0_pairs at h
  refine gx_iconst (v := 0) hX dX0_pairs_0 (by decide) ?_
  refine gx_istore_n hX dX0_pairs_1 (Nat.le_of_ble_eq_true rfl) gx_c1r (lv' := [some (va_rf (some x0)), some (.int (0)), none, none]) rfl ?_
  refine gx_iconst (v := 0) hX dX0_pairs_2 (by decide) ?_
  refine gx_istore_n hX dX0_pairs_3 (Nat.le_of_ble_eq_true rfl) gx_c1i (lv' := [some (va_rf (some x0)), some (.int (0)), some (.int (0)), none]) rfl ?_
  exact tX0_pairs_L4 hX  N _ _ h
abbrev iX18_init : gx_M := (RX18, "<init>", cX18_init, 8, none)
theorem dsX18_init : gx_ds yX18_init 7 := by decide +kernel
def fX18_init (x0 : Nat) (σ : xk_C) (x1 : Int32) (x2 : Int32) (x3 : Int32) (x4 : Int32) (x5 : Int32) (x6 : Int32) (x7 : Int32) : Option (xk_C × Unit) := (xk_pi (σ) 84 (some x0) (x1)).bind fun σ1 => (xk_pi (σ1) 85 (some x0) (x2)).bind fun σ2 => (xk_pi (σ2) 86 (some x0) (x3)).bind fun σ3 => (xk_pi (σ3) 87 (some x0) (x4)).bind fun σ4 => (xk_pi (σ4) 88 (some x0) (x5)).bind fun σ5 => (xk_pi (σ5) 89 (some x0) (x6)).bind fun σ6 => (xk_pi (σ6) 90 (some x0) (x7)).bind fun σ7 => some (σ7, ())
set_option maxHeartbeats 4000000 in
theorem eX18_init {x0 : Nat} {σ : xk_C} {x1 : Int32} {x2 : Int32} {x3 : Int32} {x4 : Int32} {x5 : Int32} {x6 : Int32} {x7 : Int32} : ∀ p, fX18_init x0 σ x1 x2 x3 x4 x5 x6 x7 = some p → xk_n p.1 = xk_n σ ∧ xk_s p.1 = xk_s σ := fun r => show xk_er r σ (fX18_init x0 σ x1 x2 x3 x4 x5 x6 x7) from by
  unfold fX18_init
  exact (xk_er_op xk_e_pi (fun _ => (xk_er_op xk_e_pi (fun _ => (xk_er_op xk_e_pi (fun _ => (xk_er_op xk_e_pi (fun _ => (xk_er_op xk_e_pi (fun _ => (xk_er_op xk_e_pi (fun _ => (xk_er_op xk_e_pi (fun _ => xk_er_ret))))))))))))))
theorem mX18_init {x0 : Nat} {σ : xk_C} {x1 : Int32} {x2 : Int32} {x3 : Int32} {x4 : Int32} {x5 : Int32} {x6 : Int32} {x7 : Int32} : ∀ p, fX18_init x0 σ x1 x2 x3 x4 x5 x6 x7 = some p → xk_n σ ≤ xk_n p.1 ∧ xk_s σ ≤ xk_s p.1 := fun p h => xk_le_of (eX18_init p h)
set_option maxHeartbeats 4000000 in
theorem tX18_init (w : gw_W) (A : Nat → Prop) (l : Launch) (x0 : Nat) (σ : xk_C) (x1 : Int32) (x2 : Int32) (x3 : Int32) (x4 : Int32) (x5 : Int32) (x6 : Int32) (x7 : Int32) {r : xk_C × Unit} (h : fX18_init x0 σ x1 x2 x3 x4 x5 x6 x7 = some r) : gx_T (gw_I w A) A l yX18_init iX18_init 2 [va_rf (some x0), .int (x1), .int (x2), .int (x3), .int (x4), .int (x5), .int (x6), .int (x7)] (xk_P A w σ) 0 0 (xk_P A w r.1) (.returned none) := by
  refine gx_T.of (gw_I.inv w A) (by decide) ⟨rfl, rfl⟩ (gx_kR (gx_kI (gx_kI (gx_kI (gx_kI (gx_kI (gx_kI (gx_kI gx_k0)))))))) (Nat.le_of_ble_eq_true rfl) (fun X hl hAx hX => ?_)
  subst hl
  subst hAx
  show gx_G X (xk_P (gx_A X) w (σ)) 0 0 [some (va_rf (some x0)), some (.int (x1)), some (.int (x2)), some (.int (x3)), some (.int (x4)), some (.int (x5)), some (.int (x6)), some (.int (x7))] 0 []
  unfold fX18_init at h
  refine gx_aload_n hX dX18_init_0 rfl ?_
  refine gx_obj (b := x0) hX ⟨q1083, q127, q128⟩ (by decide) (gx_w8 gx_k0 (Nat.le_of_ble_eq_true rfl)) dX18_init_1 rfl ?_
  refine gx_aload_n hX dX18_init_4 rfl ?_
  refine gx_iload_n hX dX18_init_5 rfl ?_
  refine xk_putiF hX 84 xk_ty84 rfl q1084 rfl ⟨rfl, rfl, rfl⟩ dX18_init_6 h (fun σ1 hτ h => ?_)
  refine gx_aload_n hX dX18_init_9 rfl ?_
  refine gx_iload_n hX dX18_init_10 rfl ?_
  refine xk_putiF hX 85 xk_ty85 rfl q1085 rfl ⟨rfl, rfl, rfl⟩ dX18_init_11 h (fun σ2 hτ h => ?_)
  refine gx_aload_n hX dX18_init_14 rfl ?_
  refine gx_iload_n hX dX18_init_15 rfl ?_
  refine xk_putiF hX 86 xk_ty86 rfl q1086 rfl ⟨rfl, rfl, rfl⟩ dX18_init_16 h (fun σ3 hτ h => ?_)
  refine gx_aload_n hX dX18_init_19 rfl ?_
  refine gx_iload hX dX18_init_20 rfl ?_
  refine xk_putiF hX 87 xk_ty87 rfl q1087 rfl ⟨rfl, rfl, rfl⟩ dX18_init_22 h (fun σ4 hτ h => ?_)
  refine gx_aload_n hX dX18_init_25 rfl ?_
  refine gx_iload hX dX18_init_26 rfl ?_
  refine xk_putiF hX 88 xk_ty88 rfl q1088 rfl ⟨rfl, rfl, rfl⟩ dX18_init_28 h (fun σ5 hτ h => ?_)
  refine gx_aload_n hX dX18_init_31 rfl ?_
  refine gx_iload hX dX18_init_32 rfl ?_
  refine xk_putiF hX 89 xk_ty89 rfl q1089 rfl ⟨rfl, rfl, rfl⟩ dX18_init_34 h (fun σ6 hτ h => ?_)
  refine gx_aload_n hX dX18_init_37 rfl ?_
  refine gx_iload hX dX18_init_38 rfl ?_
  refine xk_putiF hX 90 xk_ty90 rfl q1090 rfl ⟨rfl, rfl, rfl⟩ dX18_init_40 h (fun σ7 hτ h => ?_)
  cases h
  exact gx_vret hX rfl dX18_init_43 rfl ⟨rfl, rfl⟩ (fun _ h => h)
abbrev iX0_film : gx_M := (RX0, "film", cX0_film, 8, some .int)
theorem dsX0_film : gx_ds yX0_film 7 := by decide +kernel
def fX0_film (x0 : Nat) (σ : xk_C) (x1 : Int32) (x2 : Int32) (x3 : Int32) (x4 : Int32) (x5 : Int32) (x6 : Int32) (x7 : Int32) : Option (xk_C × Int32) := (fX0_in  (x1) (0) (3)).bind fun r1 => if r1 = 0 then some (σ, (-1)) else (fX0_areNumbers  (x2) (x3) (x4) (x5) (x6)).bind fun r2 => if r2 = 0 then some (σ, (-2)) else (fX0_in  (x7) ((-1)) (1)).bind fun r3 => if r3 = 0 then some (σ, (-2)) else (xk_gr (σ) 23 (some x0)).bind fun v4 => (xk_is (σ) 21 (v4)).bind fun b6 => (fJ2_size (b6) (σ)).bind fun r5 => if r5 = nI 40 then some (σ, (-4)) else (xk_gr (σ) 23 (some x0)).bind fun v7 => (xk_nw (σ) 18).bind fun σ8 => (fX18_init ((xk_n (σ))) (σ8) (x1) (x2) (x3) (x4) (x5) (x6) (x7)).bind fun r9 => (xk_is (r9.1) 21 (v7)).bind fun b11 => (fJ2_add (b11) (r9.1) (some (xk_n (σ)))).bind fun r10 => (xk_gr (r10.1) 23 (some x0)).bind fun v12 => (xk_is (r10.1) 21 (v12)).bind fun b14 => (fJ2_size (b14) (r10.1)).bind fun r13 => some (r10.1, r13)
set_option maxHeartbeats 4000000 in
theorem mX0_film {x0 : Nat} {σ : xk_C} {x1 : Int32} {x2 : Int32} {x3 : Int32} {x4 : Int32} {x5 : Int32} {x6 : Int32} {x7 : Int32} : ∀ p, fX0_film x0 σ x1 x2 x3 x4 x5 x6 x7 = some p → xk_n σ ≤ xk_n p.1 ∧ xk_s σ ≤ xk_s p.1 := fun r => show xk_lr r σ (fX0_film x0 σ x1 x2 x3 x4 x5 x6 x7) from by
  unfold fX0_film
  exact (xk_lr_rd (fun _ => (xk_lr_ite xk_lr_ret (xk_lr_rd (fun _ => (xk_lr_ite xk_lr_ret (xk_lr_rd (fun _ => (xk_lr_ite xk_lr_ret (xk_lr_rd (fun _ => (xk_lr_rd (fun _ => (xk_lr_rd (fun _ => (xk_lr_ite xk_lr_ret (xk_lr_rd (fun _ => (xk_lr_op xk_m_nw (fun _ => (xk_lr_ca (mX18_init) (fun _ => (xk_lr_rd (fun _ => (xk_lr_ca (mJ2_add) (fun _ => (xk_lr_rd (fun _ => (xk_lr_rd (fun _ => (xk_lr_rd (fun _ => xk_lr_ret))))))))))))))))))))))))))))))))
set_option maxHeartbeats 4000000 in
theorem tX0_film (w : gw_W) (A : Nat → Prop) (l : Launch) (x0 : Nat) (σ : xk_C) (x1 : Int32) (x2 : Int32) (x3 : Int32) (x4 : Int32) (x5 : Int32) (x6 : Int32) (x7 : Int32) {r : xk_C × Int32} (h : fX0_film x0 σ x1 x2 x3 x4 x5 x6 x7 = some r) : gx_T (gw_I w A) A l yX0_film iX0_film 8 [va_rf (some x0), .int (x1), .int (x2), .int (x3), .int (x4), .int (x5), .int (x6), .int (x7)] (xk_P A w σ) (xk_n r.1 - xk_n σ) (xk_s r.1 - xk_s σ) (xk_P A w r.1) (.returned (some (.int r.2))) := by
  refine gx_T.of (gw_I.inv w A) (by decide) ⟨rfl, rfl⟩ (gx_kR (gx_kI (gx_kI (gx_kI (gx_kI (gx_kI (gx_kI (gx_kI gx_k0)))))))) (Nat.le_of_ble_eq_true rfl) (fun X hl hAx hX => ?_)
  subst hl
  subst hAx
  show gx_G X (xk_P (gx_A X) w (σ)) 0 0 [some (va_rf (some x0)), some (.int (x1)), some (.int (x2)), some (.int (x3)), some (.int (x4)), some (.int (x5)), some (.int (x6)), some (.int (x7))] 0 []
  have hu := mX0_film _ h
  unfold fX0_film at h
  refine xk_G0 (a := xk_n σ) (b := xk_s σ) ?_
  have hm : xk_n σ ≤ xk_n σ ∧ xk_s σ ≤ xk_s σ := ⟨Nat.le_refl _, Nat.le_refl _⟩
  refine gx_iload_n hX dX0_film_0 rfl ?_
  refine gx_iconst (v := 0) hX dX0_film_1 (by decide) ?_
  refine gx_iconst (v := 3) hX dX0_film_2 (by decide) ?_
  obtain ⟨r1, hr1, h⟩ := gx_bs h
  refine gx_cS (As := [.int (x1), .int (0), .int (3)]) (rest := []) hX (tX0_in w (gx_A X) (gx_l X) (xk_P (gx_A X) w (σ)) (x1) (0) (3) hr1) (lw_S q311 q312 q86 q313) dsX0_in (by decide) (Nat.le_of_ble_eq_true rfl) rfl (gx_w8 gx_k0 (Nat.le_of_ble_eq_true rfl)) dX0_film_3 (xk_hfe hu) rfl (xk_Gz ?_)
  refine gx_if_ne (tgt := 11) hX dX0_film_6 (by decide) h (fun h => ?_) (fun h => ?_)
  · refine gx_iconst (v := (-1)) hX dX0_film_9 (by decide) ?_
    cases h
    exact gx_iret hX rfl dX0_film_10 rfl ⟨rfl, rfl⟩ (fun _ h => h)
  · refine gx_iload_n hX dX0_film_11 rfl ?_
    refine gx_iload_n hX dX0_film_12 rfl ?_
    refine gx_iload hX dX0_film_13 rfl ?_
    refine gx_iload hX dX0_film_15 rfl ?_
    refine gx_iload hX dX0_film_17 rfl ?_
    obtain ⟨r2, hr2, h⟩ := gx_bs h
    refine gx_cS (As := [.int (x2), .int (x3), .int (x4), .int (x5), .int (x6)]) (rest := []) hX (tX0_areNumbers w (gx_A X) (gx_l X) (xk_P (gx_A X) w (σ)) (x2) (x3) (x4) (x5) (x6) hr2) (lw_S q906 q907 q86 q908) dsX0_areNumbers (by decide) (Nat.le_of_ble_eq_true rfl) rfl (gx_w8 gx_k0 (Nat.le_of_ble_eq_true rfl)) dX0_film_19 (xk_hfe hu) rfl (xk_Gz ?_)
    refine gx_if_eq (tgt := 35) hX dX0_film_22 (by decide) h (fun h => ?_) (fun h => ?_)
    · refine gx_bipush (v := (-2)) hX dX0_film_35 (by decide) ?_
      cases h
      exact gx_iret hX rfl dX0_film_37 rfl ⟨rfl, rfl⟩ (fun _ h => h)
    · refine gx_iload hX dX0_film_25 rfl ?_
      refine gx_iconst (v := (-1)) hX dX0_film_27 (by decide) ?_
      refine gx_iconst (v := 1) hX dX0_film_28 (by decide) ?_
      obtain ⟨r3, hr3, h⟩ := gx_bs h
      refine gx_cS (As := [.int (x7), .int ((-1)), .int (1)]) (rest := []) hX (tX0_in w (gx_A X) (gx_l X) (xk_P (gx_A X) w (σ)) (x7) ((-1)) (1) hr3) (lw_S q311 q312 q86 q313) dsX0_in (by decide) (Nat.le_of_ble_eq_true rfl) rfl (gx_w8 gx_k0 (Nat.le_of_ble_eq_true rfl)) dX0_film_29 (xk_hfe hu) rfl (xk_Gz ?_)
      refine gx_if_ne (tgt := 38) hX dX0_film_32 (by decide) h (fun h => ?_) (fun h => ?_)
      · refine gx_bipush (v := (-2)) hX dX0_film_35 (by decide) ?_
        cases h
        exact gx_iret hX rfl dX0_film_37 rfl ⟨rfl, rfl⟩ (fun _ h => h)
      · refine gx_aload_n hX dX0_film_38 rfl ?_
        refine xk_getr hX 23 q245 (fun _ h => h) rfl dX0_film_39 h (fun v4 h => ?_)
        obtain ⟨b6, hb, h⟩ := gx_bs h
        obtain ⟨eb, hkb⟩ := xk_isS hb
        obtain ⟨r5, hr5, h⟩ := gx_bs h
        refine gx_cV (As := []) (rest := []) (b := b6) hX (tJ2_size w (gx_A X) (gx_l X) (b6) (σ)  hr5) (lw_V q314 q315 q316 q89 q317) ⟨rfl, dsJ2_size⟩ (by decide) (Nat.le_of_ble_eq_true rfl) (xk_rc hX (ci := 20) (by decide) (by decide) hkb) (by rw [eb]; rfl) (gx_w8 gx_k0 (Nat.le_of_ble_eq_true rfl)) dX0_film_42 (xk_hfe hu) rfl (xk_Gz ?_)
        refine gx_bipush (v := nI 40) hX dX0_film_45 (by decide) ?_
        refine gx_icmp_ne (tgt := 53) hX dX0_film_47 (by decide) h (fun h => ?_) (fun h => ?_)
        · refine gx_bipush (v := (-4)) hX dX0_film_50 (by decide) ?_
          cases h
          exact gx_iret hX rfl dX0_film_52 rfl ⟨rfl, rfl⟩ (fun _ h => h)
        · refine gx_aload_n hX dX0_film_53 rfl ?_
          refine xk_getr hX 23 q245 (fun _ h => h) rfl dX0_film_54 h (fun v7 h => ?_)
          refine xk_new hX 18 ⟨by decide, by decide⟩ ⟨q1078, q1079, q119⟩ dX0_film_57 h (fun σ8 hτ h => ?_)
          have hu := xk_use (C := σ8) h (xk_lr_ca (mX18_init) (fun _ => (xk_lr_rd (fun _ => (xk_lr_ca (mJ2_add) (fun _ => (xk_lr_rd (fun _ => (xk_lr_rd (fun _ => (xk_lr_rd (fun _ => xk_lr_ret))))))))))))
          refine ⟨xk_hfm hm hτ hu, xk_Gm hm hτ ?_⟩
          have hm := xk_hmm hm hτ
          refine gx_dup hX dX0_film_60 (gx_cat _) ?_
          refine gx_iload_n hX dX0_film_61 rfl ?_
          refine gx_iload_n hX dX0_film_62 rfl ?_
          refine gx_iload_n hX dX0_film_63 rfl ?_
          refine gx_iload hX dX0_film_64 rfl ?_
          refine gx_iload hX dX0_film_66 rfl ?_
          refine gx_iload hX dX0_film_68 rfl ?_
          refine gx_iload hX dX0_film_70 rfl ?_
          obtain ⟨r9, hr9, h⟩ := gx_bs h
          have he := eX18_init _ hr9
          refine gx_cI (As := [.int (x1), .int (x2), .int (x3), .int (x4), .int (x5), .int (x6), .int (x7)]) (rest := [va_rf (some (xk_n (σ))), va_rf (v7)]) (b := (xk_n (σ))) (C2 := RX18) (nm2 := "<init>") hX (tX18_init w (gx_A X) (gx_l X) ((xk_n (σ))) (σ8) (x1) (x2) (x3) (x4) (x5) (x6) (x7) hr9) (lw_meth q1082) ⟨q119, q1080, q1081⟩ ⟨rfl, dsX18_init⟩ (by decide) (Nat.le_of_ble_eq_true rfl) rfl (gx_w8 (gx_kR (gx_kR gx_k0)) (Nat.le_of_ble_eq_true rfl)) dX0_film_72 (xk_hfe hu) rfl (xk_Ge he ?_)
          have hm := xk_hme hm he
          have hu := xk_hue hu he
          obtain ⟨b11, hb, h⟩ := gx_bs h
          obtain ⟨eb, hkb⟩ := xk_isS hb
          obtain ⟨r10, hr10, h⟩ := gx_bs h
          have hl := (mJ2_add) _ hr10
          have hu := xk_use (C := r10.1) h (xk_lr_rd (fun _ => (xk_lr_rd (fun _ => (xk_lr_rd (fun _ => xk_lr_ret))))))
          refine gx_cV (As := [va_rf (some (xk_n (σ)))]) (rest := []) (b := b11) hX (tJ2_add w (gx_A X) (gx_l X) (b11) (r9.1) (some (xk_n (σ))) hr10) (lw_V q357 q358 q359 q89 q360) ⟨rfl, dsJ2_add⟩ (by decide) (Nat.le_of_ble_eq_true rfl) (xk_rc hX (ci := 20) (by decide) (by decide) hkb) (by rw [eb]; rfl) (gx_w8 gx_k0 (Nat.le_of_ble_eq_true rfl)) dX0_film_75 (xk_hfc hm hl hu) rfl (xk_Gc hm hl ?_)
          have hm := xk_hmc hm hl
          refine gx_pop hX dX0_film_78 rfl ?_
          refine gx_aload_n hX dX0_film_79 rfl ?_
          refine xk_getr hX 23 q245 (fun _ h => h) rfl dX0_film_80 h (fun v12 h => ?_)
          obtain ⟨b14, hb, h⟩ := gx_bs h
          obtain ⟨eb, hkb⟩ := xk_isS hb
          obtain ⟨r13, hr13, h⟩ := gx_bs h
          refine gx_cV (As := []) (rest := []) (b := b14) hX (tJ2_size w (gx_A X) (gx_l X) (b14) (r10.1)  hr13) (lw_V q314 q315 q316 q89 q317) ⟨rfl, dsJ2_size⟩ (by decide) (Nat.le_of_ble_eq_true rfl) (xk_rc hX (ci := 20) (by decide) (by decide) hkb) (by rw [eb]; rfl) (gx_w8 gx_k0 (Nat.le_of_ble_eq_true rfl)) dX0_film_83 (xk_hfe hu) rfl (xk_Gz ?_)
          cases h
          exact gx_iret hX rfl dX0_film_86 rfl ⟨rfl, rfl⟩ (fun _ h => h)
abbrev iX18_agrees : gx_M := (RX18, "agrees", cX18_agrees, 2, some .boolean)
theorem dsX18_agrees : gx_ds yX18_agrees 1 := by decide +kernel
def fX18_agrees_B41 (N : Nat) (x0 : Nat)   (σ : xk_C) (y0 : Int32) (y1 : Int32) : Option (xk_C × Int32) := if y1 = y0 then some (σ, 1) else some (σ, 0)
set_option maxHeartbeats 4000000 in
theorem tX18_agrees_B41 {w : gw_W} {X : gx_X} {N : Nat} {x0 : Nat} {r : xk_C × Int32} (hX : gx_O (gw_I w (gx_A X)) X iX18_agrees 135 0 0 (xk_P (gx_A X) w r.1) (.returned (some (.int r.2))))  {σ : xk_C} {y0 : Int32} {y1 : Int32} (h : fX18_agrees_B41 N x0 σ y0 y1 = some r) : gx_G X (xk_P (gx_A X) w (σ)) 0 0 [none, none] 41 [.int (y0), .int (y1)] := by
  unfold fX18_agrees_B41 at h
  refine gx_icmp_ne (tgt := 48) hX dX18_agrees_41 (by decide) h (fun h => ?_) (fun h => ?_)
  · refine gx_iconst (v := 1) hX dX18_agrees_44 (by decide) ?_
    refine gx_goto (tgt := 49) hX dX18_agrees_45 (by decide) ?_
    cases h
    exact gx_zret hX rfl rfl dX18_agrees_49 rfl ⟨rfl, rfl⟩ (fun _ h => h)
  · refine gx_iconst (v := 0) hX dX18_agrees_48 (by decide) ?_
    cases h
    exact gx_zret hX rfl rfl dX18_agrees_49 rfl ⟨rfl, rfl⟩ (fun _ h => h)
def fX18_agrees (N : Nat) (x0 : Nat) (σ : xk_C) (x1 : Option Nat) : Option (xk_C × Int32) := (xk_gi (σ) 84 (some x0)).bind fun v1 => (xk_gi (σ) 85 (some x0)).bind fun v2 => (xk_gi (σ) 86 (some x0)).bind fun v3 => (xk_gi (σ) 87 (some x0)).bind fun v4 => (xk_gi (σ) 88 (some x0)).bind fun v5 => (xk_gi (σ) 89 (some x0)).bind fun v6 => (xk_is (σ) 14 (x1)).bind fun b8 => (fX13_holds N (b8) (σ) (v1) (v2) (v3) (v4) (v5) (v6)).bind fun r7 => (xk_gi (r7.1) 90 (some x0)).bind fun v9 => if v9 = 1 then fX18_agrees_B41 N x0 (r7.1) (1) (r7.2) else fX18_agrees_B41 N x0 (r7.1) (0) (r7.2)
set_option maxHeartbeats 4000000 in
theorem tX18_agrees (w : gw_W) (A : Nat → Prop) (l : Launch) (N : Nat) (x0 : Nat) (σ : xk_C) (x1 : Option Nat) {r : xk_C × Int32} (h : fX18_agrees N x0 σ x1 = some r) : gx_T (gw_I w A) A l yX18_agrees iX18_agrees 135 [va_rf (some x0), va_rf (x1)] (xk_P A w σ) 0 0 (xk_P A w r.1) (.returned (some (.int r.2))) := by
  refine gx_T.of (gw_I.inv w A) (by decide) ⟨rfl, rfl⟩ (gx_kR (gx_kR gx_k0)) (Nat.le_of_ble_eq_true rfl) (fun X hl hAx hX => ?_)
  subst hl
  subst hAx
  show gx_G X (xk_P (gx_A X) w (σ)) 0 0 [some (va_rf (some x0)), some (va_rf (x1))] 0 []
  unfold fX18_agrees at h
  refine gx_aload_n hX dX18_agrees_0 rfl ?_
  refine gx_aload_n hX dX18_agrees_1 rfl ?_
  refine xk_geti hX 84 q1084 (fun _ h => h) rfl dX18_agrees_2 h (fun v1 h => ?_)
  refine gx_aload_n hX dX18_agrees_5 rfl ?_
  refine xk_geti hX 85 q1085 (fun _ h => h) rfl dX18_agrees_6 h (fun v2 h => ?_)
  refine gx_aload_n hX dX18_agrees_9 rfl ?_
  refine xk_geti hX 86 q1086 (fun _ h => h) rfl dX18_agrees_10 h (fun v3 h => ?_)
  refine gx_aload_n hX dX18_agrees_13 rfl ?_
  refine xk_geti hX 87 q1087 (fun _ h => h) rfl dX18_agrees_14 h (fun v4 h => ?_)
  refine gx_aload_n hX dX18_agrees_17 rfl ?_
  refine xk_geti hX 88 q1088 (fun _ h => h) rfl dX18_agrees_18 h (fun v5 h => ?_)
  refine gx_aload_n hX dX18_agrees_21 rfl ?_
  refine xk_geti hX 89 q1089 (fun _ h => h) rfl dX18_agrees_22 h (fun v6 h => ?_)
  obtain ⟨b8, hb, h⟩ := gx_bs h
  obtain ⟨eb, hkb⟩ := xk_isS hb
  obtain ⟨r7, hr7, h⟩ := gx_bs h
  refine gx_cV (As := [.int (v1), .int (v2), .int (v3), .int (v4), .int (v5), .int (v6)]) (rest := []) (b := b8) hX (tX13_holds w (gx_A X) (gx_l X) N (b8) (σ) (v1) (v2) (v3) (v4) (v5) (v6) hr7) (lw_V q1122 q913 q914 q108 q915) ⟨rfl, dsX13_holds⟩ (by decide) (Nat.le_of_ble_eq_true rfl) (xk_rc hX (ci := 13) (by decide) (by decide) hkb) (by rw [eb]; rfl) (gx_w8 gx_k0 (Nat.le_of_ble_eq_true rfl)) dX18_agrees_25 ⟨Nat.le_refl _, Nat.le_refl _⟩ rfl ?_
  refine gx_aload_n hX dX18_agrees_28 rfl ?_
  refine xk_geti hX 90 q1090 (fun _ h => h) rfl dX18_agrees_29 h (fun v9 h => ?_)
  refine gx_iconst (v := 1) hX dX18_agrees_32 (by decide) ?_
  refine gx_icmp_ne (tgt := 40) hX dX18_agrees_33 (by decide) h (fun h => ?_) (fun h => ?_)
  · refine gx_iconst (v := 1) hX dX18_agrees_36 (by decide) ?_
    refine gx_goto (tgt := 41) hX dX18_agrees_37 (by decide) ?_
    refine gx_sub hX (lv' := [none, none]) ⟨Or.inl rfl, ⟨Or.inl rfl, trivial⟩⟩ ?_
    exact tX18_agrees_B41 hX  h
  · refine gx_iconst (v := 0) hX dX18_agrees_40 (by decide) ?_
    refine gx_sub hX (lv' := [none, none]) ⟨Or.inl rfl, ⟨Or.inl rfl, trivial⟩⟩ ?_
    exact tX18_agrees_B41 hX  h
abbrev iX18_isSeen : gx_M := (RX18, "isSeen", cX18_isSeen, 1, some .boolean)
theorem dsX18_isSeen : gx_ds yX18_isSeen 0 := by decide +kernel
def fX18_isSeen (x0 : Nat) (σ : xk_C)  : Option (Int32) := (xk_gi (σ) 90 (some x0)).bind fun v1 => if v1 = (-1) then some (0) else some (1)
set_option maxHeartbeats 4000000 in
theorem tX18_isSeen (w : gw_W) (A : Nat → Prop) (l : Launch) (x0 : Nat) (σ : xk_C)  {r : Int32} (h : fX18_isSeen x0 σ = some r) : gx_T (gw_I w A) A l yX18_isSeen iX18_isSeen 1 [va_rf (some x0)] (xk_P A w σ) 0 0 (xk_P A w σ) (.returned (some (.int r))) := by
  refine gx_T.of (gw_I.inv w A) (by decide) ⟨rfl, rfl⟩ (gx_kR gx_k0) (Nat.le_of_ble_eq_true rfl) (fun X hl hAx hX => ?_)
  subst hl
  subst hAx
  show gx_G X (xk_P (gx_A X) w (σ)) 0 0 [some (va_rf (some x0))] 0 []
  unfold fX18_isSeen at h
  refine gx_aload_n hX dX18_isSeen_0 rfl ?_
  refine xk_geti hX 90 q1090 (fun _ h => h) rfl dX18_isSeen_1 h (fun v1 h => ?_)
  refine gx_iconst (v := (-1)) hX dX18_isSeen_4 (by decide) ?_
  refine gx_icmp_eq (tgt := 12) hX dX18_isSeen_5 (by decide) h (fun h => ?_) (fun h => ?_)
  · refine gx_iconst (v := 0) hX dX18_isSeen_12 (by decide) ?_
    cases h
    exact gx_zret hX rfl rfl dX18_isSeen_13 rfl ⟨rfl, rfl⟩ (fun _ h => h)
  · refine gx_iconst (v := 1) hX dX18_isSeen_8 (by decide) ?_
    refine gx_goto (tgt := 13) hX dX18_isSeen_9 (by decide) ?_
    cases h
    exact gx_zret hX rfl rfl dX18_isSeen_13 rfl ⟨rfl, rfl⟩ (fun _ h => h)
abbrev iX0_agreeing : gx_M := (RX0, "agreeing", cX0_agreeing, 5, some .int)
theorem dsX0_agreeing : gx_ds yX0_agreeing 2 := by decide +kernel
def fX0_agreeing_B61 (N : Nat) (x0 : Nat)  (K5 : xk_C → Option Nat → Int32 → Int32 → Int32 → Option (xk_C × Int32)) (σ : xk_C) (x1 : Option Nat) (x2 : Int32) (x4 : Int32) (y0 : Int32) (y1 : Int32) : Option (xk_C × Int32) := K5 (σ) (x1) (x2) ((y1) + (y0)) ((x4) + 1)
set_option maxHeartbeats 4000000 in
theorem tX0_agreeing_B61 {w : gw_W} {X : gx_X} {N : Nat} {x0 : Nat} {r : xk_C × Int32} (hX : gx_O (gw_I w (gx_A X)) X iX0_agreeing 136 0 0 (xk_P (gx_A X) w r.1) (.returned (some (.int r.2)))) {K5 : xk_C → Option Nat → Int32 → Int32 → Int32 → Option (xk_C × Int32)} (hK5 : ∀ (σ : xk_C) (x1 : Option Nat) (x2 : Int32) (x3 : Int32) (x4 : Int32), K5 σ x1 x2 x3 x4 = some r → gx_G X (xk_P (gx_A X) w (σ)) 0 0 [some (va_rf (some x0)), some (va_rf (x1)), some (.int (x2)), some (.int (x3)), some (.int (x4))] 5 []) {σ : xk_C} {x1 : Option Nat} {x2 : Int32} {x4 : Int32} {y0 : Int32} {y1 : Int32} (h : fX0_agreeing_B61 N x0 K5 σ x1 x2 x4 y0 y1 = some r) : gx_G X (xk_P (gx_A X) w (σ)) 0 0 [some (va_rf (some x0)), some (va_rf (x1)), some (.int (x2)), none, some (.int (x4))] 61 [.int (y0), .int (y1)] := by
  unfold fX0_agreeing_B61 at h
  refine gx_iadd hX dX0_agreeing_61 ?_
  refine gx_istore_n hX dX0_agreeing_62 (Nat.le_of_ble_eq_true rfl) gx_c1i (lv' := [some (va_rf (some x0)), some (va_rf (x1)), some (.int (x2)), some (.int ((y1) + (y0))), some (.int (x4))]) rfl ?_
  refine gx_iinc (v := 1) hX dX0_agreeing_63 rfl (by decide) gx_c1i (lv' := [some (va_rf (some x0)), some (va_rf (x1)), some (.int (x2)), some (.int ((y1) + (y0))), some (.int ((x4) + 1))]) rfl ?_
  refine gx_goto (tgt := 5) hX dX0_agreeing_66 (by decide) ?_
  exact hK5 _ _ _ _ _ h
def fX0_agreeing_B60 (N : Nat) (x0 : Nat)  (K5 : xk_C → Option Nat → Int32 → Int32 → Int32 → Option (xk_C × Int32)) (σ : xk_C) (x1 : Option Nat) (x2 : Int32) (x4 : Int32) (y0 : Int32) : Option (xk_C × Int32) := fX0_agreeing_B61 N x0 K5 (σ) (x1) (x2) (x4) (0) (y0)
set_option maxHeartbeats 4000000 in
theorem tX0_agreeing_B60 {w : gw_W} {X : gx_X} {N : Nat} {x0 : Nat} {r : xk_C × Int32} (hX : gx_O (gw_I w (gx_A X)) X iX0_agreeing 136 0 0 (xk_P (gx_A X) w r.1) (.returned (some (.int r.2)))) {K5 : xk_C → Option Nat → Int32 → Int32 → Int32 → Option (xk_C × Int32)} (hK5 : ∀ (σ : xk_C) (x1 : Option Nat) (x2 : Int32) (x3 : Int32) (x4 : Int32), K5 σ x1 x2 x3 x4 = some r → gx_G X (xk_P (gx_A X) w (σ)) 0 0 [some (va_rf (some x0)), some (va_rf (x1)), some (.int (x2)), some (.int (x3)), some (.int (x4))] 5 []) {σ : xk_C} {x1 : Option Nat} {x2 : Int32} {x4 : Int32} {y0 : Int32} (h : fX0_agreeing_B60 N x0 K5 σ x1 x2 x4 y0 = some r) : gx_G X (xk_P (gx_A X) w (σ)) 0 0 [some (va_rf (some x0)), some (va_rf (x1)), some (.int (x2)), none, some (.int (x4))] 60 [.int (y0)] := by
  unfold fX0_agreeing_B60 at h
  refine gx_iconst (v := 0) hX dX0_agreeing_60 (by decide) ?_
  exact tX0_agreeing_B61 hX hK5 h
def fX0_agreeing_L5 (N : Nat) (x0 : Nat)   : Nat → xk_C → Option Nat → Int32 → Int32 → Int32 → Option (xk_C × Int32)
  | 0, _, _, _, _, _ => none
  | k + 1, σ, x1, x2, x3, x4 => (xk_gr (σ) 23 (some x0)).bind fun v1 => (xk_is (σ) 21 (v1)).bind fun b3 => (fJ2_size (b3) (σ)).bind fun r2 => if (r2) ≤ x4 then some (σ, x3) else (xk_gr (σ) 23 (some x0)).bind fun v4 => (xk_is (σ) 21 (v4)).bind fun b6 => (fJ2_get (b6) (σ) (x4)).bind fun r5 => (xk_ck (σ) 19 (r5)).bind fun u7 => (xk_is (σ) 19 (r5)).bind fun b9 => (fX18_isSeen (b9) (σ)).bind fun r8 => if r8 = 0 then fX0_agreeing_B60 N x0 (fX0_agreeing_L5 N x0 k) (σ) (x1) (x2) (x4) (x3) else (xk_gr (σ) 23 (some x0)).bind fun v10 => (xk_is (σ) 21 (v10)).bind fun b12 => (fJ2_get (b12) (σ) (x4)).bind fun r11 => (xk_ck (σ) 19 (r11)).bind fun u13 => (xk_is (σ) 19 (r11)).bind fun b15 => (fX18_agrees N (b15) (σ) (x1)).bind fun r14 => if r14.2 = x2 then fX0_agreeing_B61 N x0 (fX0_agreeing_L5 N x0 k) (r14.1) (x1) (x2) (x4) (1) (x3) else fX0_agreeing_B60 N x0 (fX0_agreeing_L5 N x0 k) (r14.1) (x1) (x2) (x4) (x3)
set_option maxHeartbeats 4000000 in
theorem tX0_agreeing_L5 {w : gw_W} {X : gx_X} {N : Nat} {x0 : Nat} {r : xk_C × Int32} (hX : gx_O (gw_I w (gx_A X)) X iX0_agreeing 136 0 0 (xk_P (gx_A X) w r.1) (.returned (some (.int r.2))))  : ∀ (k : Nat) (σ : xk_C) (x1 : Option Nat) (x2 : Int32) (x3 : Int32) (x4 : Int32), fX0_agreeing_L5 N x0 k σ x1 x2 x3 x4 = some r → gx_G X (xk_P (gx_A X) w (σ)) 0 0 [some (va_rf (some x0)), some (va_rf (x1)), some (.int (x2)), some (.int (x3)), some (.int (x4))] 5 [] := by
  intro k
  induction k with
  | zero =>
    intro σ x1 x2 x3 x4 h
    unfold fX0_agreeing_L5 at h
    cases h
  | succ k ih =>
    intro σ x1 x2 x3 x4 h
    unfold fX0_agreeing_L5 at h
    refine gx_iload hX dX0_agreeing_5 rfl ?_
    refine gx_aload_n hX dX0_agreeing_7 rfl ?_
    refine xk_getr hX 23 q245 (fun _ h => h) rfl dX0_agreeing_8 h (fun v1 h => ?_)
    obtain ⟨b3, hb, h⟩ := gx_bs h
    obtain ⟨eb, hkb⟩ := xk_isS hb
    obtain ⟨r2, hr2, h⟩ := gx_bs h
    refine gx_cV (As := []) (rest := [.int (x4)]) (b := b3) hX (tJ2_size w (gx_A X) (gx_l X) (b3) (σ)  hr2) (lw_V q314 q315 q316 q89 q317) ⟨rfl, dsJ2_size⟩ (by decide) (Nat.le_of_ble_eq_true rfl) (xk_rc hX (ci := 20) (by decide) (by decide) hkb) (by rw [eb]; rfl) (gx_w8 (gx_kI gx_k0) (Nat.le_of_ble_eq_true rfl)) dX0_agreeing_11 ⟨Nat.le_refl _, Nat.le_refl _⟩ rfl ?_
    refine gx_icmp_ge (tgt := 69) hX dX0_agreeing_14 (by decide) h (fun h => ?_) (fun h => ?_)
    · refine gx_iload_n hX dX0_agreeing_69 rfl ?_
      cases h
      exact gx_iret hX rfl dX0_agreeing_70 rfl ⟨rfl, rfl⟩ (fun _ h => h)
    · refine gx_iload_n hX dX0_agreeing_17 rfl ?_
      refine gx_aload_n hX dX0_agreeing_18 rfl ?_
      refine xk_getr hX 23 q245 (fun _ h => h) rfl dX0_agreeing_19 h (fun v4 h => ?_)
      refine gx_iload hX dX0_agreeing_22 rfl ?_
      obtain ⟨b6, hb, h⟩ := gx_bs h
      obtain ⟨eb, hkb⟩ := xk_isS hb
      obtain ⟨r5, hr5, h⟩ := gx_bs h
      refine gx_cV (As := [.int (x4)]) (rest := [.int (x3)]) (b := b6) hX (tJ2_get w (gx_A X) (gx_l X) (b6) (σ) (x4) hr5) (lw_V q433 q434 q435 q89 q436) ⟨rfl, dsJ2_get⟩ (by decide) (Nat.le_of_ble_eq_true rfl) (xk_rc hX (ci := 20) (by decide) (by decide) hkb) (by rw [eb]; rfl) (gx_w8 (gx_kI gx_k0) (Nat.le_of_ble_eq_true rfl)) dX0_agreeing_24 ⟨Nat.le_refl _, Nat.le_refl _⟩ rfl ?_
      refine xk_castC hX 18 ⟨by decide, by decide⟩ q1078 dX0_agreeing_27 h (fun h => ?_)
      obtain ⟨b9, hb, h⟩ := gx_bs h
      obtain ⟨eb, hkb⟩ := xk_isS hb
      obtain ⟨r8, hr8, h⟩ := gx_bs h
      refine gx_cV (As := []) (rest := [.int (x3)]) (b := b9) hX (tX18_isSeen w (gx_A X) (gx_l X) (b9) (σ)  hr8) (lw_V q1114 q1115 q1116 q119 q1117) ⟨rfl, dsX18_isSeen⟩ (by decide) (Nat.le_of_ble_eq_true rfl) (xk_rc hX (ci := 18) (by decide) (by decide) hkb) (by rw [eb]; rfl) (gx_w8 (gx_kI gx_k0) (Nat.le_of_ble_eq_true rfl)) dX0_agreeing_30 ⟨Nat.le_refl _, Nat.le_refl _⟩ rfl ?_
      refine gx_if_eq (tgt := 60) hX dX0_agreeing_33 (by decide) h (fun h => ?_) (fun h => ?_)
      · refine gx_sub hX (lv' := [some (va_rf (some x0)), some (va_rf (x1)), some (.int (x2)), none, some (.int (x4))]) ⟨Or.inr rfl, ⟨Or.inr rfl, ⟨Or.inr rfl, ⟨Or.inl rfl, ⟨Or.inr rfl, trivial⟩⟩⟩⟩⟩ ?_
        exact tX0_agreeing_B60 hX ih h
      · refine gx_aload_n hX dX0_agreeing_36 rfl ?_
        refine xk_getr hX 23 q245 (fun _ h => h) rfl dX0_agreeing_37 h (fun v10 h => ?_)
        refine gx_iload hX dX0_agreeing_40 rfl ?_
        obtain ⟨b12, hb, h⟩ := gx_bs h
        obtain ⟨eb, hkb⟩ := xk_isS hb
        obtain ⟨r11, hr11, h⟩ := gx_bs h
        refine gx_cV (As := [.int (x4)]) (rest := [.int (x3)]) (b := b12) hX (tJ2_get w (gx_A X) (gx_l X) (b12) (σ) (x4) hr11) (lw_V q433 q434 q435 q89 q436) ⟨rfl, dsJ2_get⟩ (by decide) (Nat.le_of_ble_eq_true rfl) (xk_rc hX (ci := 20) (by decide) (by decide) hkb) (by rw [eb]; rfl) (gx_w8 (gx_kI gx_k0) (Nat.le_of_ble_eq_true rfl)) dX0_agreeing_42 ⟨Nat.le_refl _, Nat.le_refl _⟩ rfl ?_
        refine xk_castC hX 18 ⟨by decide, by decide⟩ q1078 dX0_agreeing_45 h (fun h => ?_)
        refine gx_aload_n hX dX0_agreeing_48 rfl ?_
        obtain ⟨b15, hb, h⟩ := gx_bs h
        obtain ⟨eb, hkb⟩ := xk_isS hb
        obtain ⟨r14, hr14, h⟩ := gx_bs h
        refine gx_cV (As := [va_rf (x1)]) (rest := [.int (x3)]) (b := b15) hX (tX18_agrees w (gx_A X) (gx_l X) N (b15) (σ) (x1) hr14) (lw_V q1118 q1119 q1120 q119 q1121) ⟨rfl, dsX18_agrees⟩ (by decide) (Nat.le_of_ble_eq_true rfl) (xk_rc hX (ci := 18) (by decide) (by decide) hkb) (by rw [eb]; rfl) (gx_w8 (gx_kI gx_k0) (Nat.le_of_ble_eq_true rfl)) dX0_agreeing_49 ⟨Nat.le_refl _, Nat.le_refl _⟩ rfl ?_
        refine gx_iload_n hX dX0_agreeing_52 rfl ?_
        refine gx_icmp_ne (tgt := 60) hX dX0_agreeing_53 (by decide) h (fun h => ?_) (fun h => ?_)
        · refine gx_iconst (v := 1) hX dX0_agreeing_56 (by decide) ?_
          refine gx_goto (tgt := 61) hX dX0_agreeing_57 (by decide) ?_
          refine gx_sub hX (lv' := [some (va_rf (some x0)), some (va_rf (x1)), some (.int (x2)), none, some (.int (x4))]) ⟨Or.inr rfl, ⟨Or.inr rfl, ⟨Or.inr rfl, ⟨Or.inl rfl, ⟨Or.inr rfl, trivial⟩⟩⟩⟩⟩ ?_
          exact tX0_agreeing_B61 hX ih h
        · refine gx_sub hX (lv' := [some (va_rf (some x0)), some (va_rf (x1)), some (.int (x2)), none, some (.int (x4))]) ⟨Or.inr rfl, ⟨Or.inr rfl, ⟨Or.inr rfl, ⟨Or.inl rfl, ⟨Or.inr rfl, trivial⟩⟩⟩⟩⟩ ?_
          exact tX0_agreeing_B60 hX ih h
def fX0_agreeing (N : Nat) (x0 : Nat) (σ : xk_C) (x1 : Option Nat) (x2 : Int32) : Option (xk_C × Int32) := fX0_agreeing_L5 N x0 N (σ) (x1) (x2) (0) (0)
set_option maxHeartbeats 4000000 in
theorem tX0_agreeing (w : gw_W) (A : Nat → Prop) (l : Launch) (N : Nat) (x0 : Nat) (σ : xk_C) (x1 : Option Nat) (x2 : Int32) {r : xk_C × Int32} (h : fX0_agreeing N x0 σ x1 x2 = some r) : gx_T (gw_I w A) A l yX0_agreeing iX0_agreeing 136 [va_rf (some x0), va_rf (x1), .int (x2)] (xk_P A w σ) 0 0 (xk_P A w r.1) (.returned (some (.int r.2))) := by
  refine gx_T.of (gw_I.inv w A) (by decide) ⟨rfl, rfl⟩ (gx_kR (gx_kR (gx_kI gx_k0))) (Nat.le_of_ble_eq_true rfl) (fun X hl hAx hX => ?_)
  subst hl
  subst hAx
  show gx_G X (xk_P (gx_A X) w (σ)) 0 0 [some (va_rf (some x0)), some (va_rf (x1)), some (.int (x2)), none, none] 0 []
  unfold fX0_agreeing at h
  refine gx_iconst (v := 0) hX dX0_agreeing_0 (by decide) ?_
  refine gx_istore_n hX dX0_agreeing_1 (Nat.le_of_ble_eq_true rfl) gx_c1i (lv' := [some (va_rf (some x0)), some (va_rf (x1)), some (.int (x2)), some (.int (0)), none]) rfl ?_
  refine gx_iconst (v := 0) hX dX0_agreeing_2 (by decide) ?_
  refine gx_istore hX dX0_agreeing_3 (Nat.le_of_ble_eq_true rfl) gx_c1i (lv' := [some (va_rf (some x0)), some (va_rf (x1)), some (.int (x2)), some (.int (0)), some (.int (0))]) rfl ?_
  exact tX0_agreeing_L5 hX  N _ _ _ _ _ h
abbrev iX0_reads : gx_M := (RX0, "reads", cX0_reads, 4, some .int)
theorem dsX0_reads : gx_ds yX0_reads 2 := by decide +kernel
def fX0_reads_B19 (N : Nat) (x0 : Nat)   (σ : xk_C) : Option (xk_C × Int32) := some (σ, (-1))
set_option maxHeartbeats 4000000 in
theorem tX0_reads_B19 {w : gw_W} {X : gx_X} {N : Nat} {x0 : Nat} {r : xk_C × Int32} (hX : gx_O (gw_I w (gx_A X)) X iX0_reads 137 0 0 (xk_P (gx_A X) w r.1) (.returned (some (.int r.2))))  {σ : xk_C} (h : fX0_reads_B19 N x0 σ = some r) : gx_G X (xk_P (gx_A X) w (σ)) 0 0 [none, none, none, none] 19 [] := by
  unfold fX0_reads_B19 at h
  refine gx_iconst (v := (-1)) hX dX0_reads_19 (by decide) ?_
  refine gx_goto (tgt := 37) hX dX0_reads_20 (by decide) ?_
  cases h
  exact gx_iret hX rfl dX0_reads_37 rfl ⟨rfl, rfl⟩ (fun _ h => h)
def fX0_reads_B34 (N : Nat) (x0 : Nat)   (σ : xk_C) (y0 : Int32) (y1 : Option Nat) : Option (xk_C × Int32) := (xk_is (σ) 1 (some x0)).bind fun b5 => (fX0_agreeing N (b5) (σ) (y1) (y0)).bind fun r4 => some (r4.1, r4.2)
set_option maxHeartbeats 4000000 in
theorem tX0_reads_B34 {w : gw_W} {X : gx_X} {N : Nat} {x0 : Nat} {r : xk_C × Int32} (hX : gx_O (gw_I w (gx_A X)) X iX0_reads 137 0 0 (xk_P (gx_A X) w r.1) (.returned (some (.int r.2))))  {σ : xk_C} {y0 : Int32} {y1 : Option Nat} (h : fX0_reads_B34 N x0 σ y0 y1 = some r) : gx_G X (xk_P (gx_A X) w (σ)) 0 0 [none, none, none, none] 34 [.int (y0), va_rf (y1), va_rf (some x0)] := by
  unfold fX0_reads_B34 at h
  obtain ⟨b5, hb, h⟩ := gx_bs h
  obtain ⟨eb, hkb⟩ := xk_isS hb
  obtain ⟨r4, hr4, h⟩ := gx_bs h
  refine gx_cV (As := [va_rf (y1), .int (y0)]) (rest := []) (b := b5) hX (tX0_agreeing w (gx_A X) (gx_l X) N (b5) (σ) (y1) (y0) hr4) (lw_V q1110 q1112 qs27 q86 q1113) ⟨rfl, dsX0_agreeing⟩ (by decide) (Nat.le_of_ble_eq_true rfl) (xk_rc hX (ci := 0) (by decide) (by decide) hkb) (by rw [eb]; rfl) (gx_w8 gx_k0 (Nat.le_of_ble_eq_true rfl)) dX0_reads_34 ⟨Nat.le_refl _, Nat.le_refl _⟩ rfl ?_
  cases h
  exact gx_iret hX rfl dX0_reads_37 rfl ⟨rfl, rfl⟩ (fun _ h => h)
def fX0_reads (N : Nat) (x0 : Nat) (σ : xk_C) (x1 : Int32) (x2 : Int32) : Option (xk_C × Int32) := (xk_is (σ) 1 (some x0)).bind fun b2 => (fX0_habitAt (b2) (σ) (x1)).bind fun r1 => if r1 = none then fX0_reads_B19 N x0 (σ) else (fX0_in  (x2) (0) (1)).bind fun r3 => if r3 = 0 then fX0_reads_B19 N x0 (σ) else if x2 = 0 then fX0_reads_B34 N x0 (σ) (1) (r1) else fX0_reads_B34 N x0 (σ) (0) (r1)
set_option maxHeartbeats 4000000 in
theorem tX0_reads (w : gw_W) (A : Nat → Prop) (l : Launch) (N : Nat) (x0 : Nat) (σ : xk_C) (x1 : Int32) (x2 : Int32) {r : xk_C × Int32} (h : fX0_reads N x0 σ x1 x2 = some r) : gx_T (gw_I w A) A l yX0_reads iX0_reads 137 [va_rf (some x0), .int (x1), .int (x2)] (xk_P A w σ) 0 0 (xk_P A w r.1) (.returned (some (.int r.2))) := by
  refine gx_T.of (gw_I.inv w A) (by decide) ⟨rfl, rfl⟩ (gx_kR (gx_kI (gx_kI gx_k0))) (Nat.le_of_ble_eq_true rfl) (fun X hl hAx hX => ?_)
  subst hl
  subst hAx
  show gx_G X (xk_P (gx_A X) w (σ)) 0 0 [some (va_rf (some x0)), some (.int (x1)), some (.int (x2)), none] 0 []
  unfold fX0_reads at h
  refine gx_aload_n hX dX0_reads_0 rfl ?_
  refine gx_iload_n hX dX0_reads_1 rfl ?_
  obtain ⟨b2, hb, h⟩ := gx_bs h
  obtain ⟨eb, hkb⟩ := xk_isS hb
  obtain ⟨r1, hr1, h⟩ := gx_bs h
  refine gx_cV (As := [.int (x1)]) (rest := []) (b := b2) hX (tX0_habitAt w (gx_A X) (gx_l X) (b2) (σ) (x1) hr1) (lw_V q626 q628 qs5 q86 q629) ⟨rfl, dsX0_habitAt⟩ (by decide) (Nat.le_of_ble_eq_true rfl) (xk_rc hX (ci := 0) (by decide) (by decide) hkb) (by rw [eb]; rfl) (gx_w8 gx_k0 (Nat.le_of_ble_eq_true rfl)) dX0_reads_2 ⟨Nat.le_refl _, Nat.le_refl _⟩ rfl ?_
  refine gx_astore_n hX dX0_reads_5 (Nat.le_of_ble_eq_true rfl) gx_c1i (lv' := [some (va_rf (some x0)), some (.int (x1)), some (.int (x2)), some (va_rf (r1))]) rfl ?_
  refine gx_aload_n hX dX0_reads_6 rfl ?_
  refine gx_ifnull (tgt := 19) hX dX0_reads_7 (by decide) h (fun h => ?_) (fun h => ?_)
  · refine gx_sub hX (lv' := [none, none, none, none]) ⟨Or.inl rfl, ⟨Or.inl rfl, ⟨Or.inl rfl, ⟨Or.inl rfl, trivial⟩⟩⟩⟩ ?_
    exact tX0_reads_B19 hX  h
  · refine gx_iload_n hX dX0_reads_10 rfl ?_
    refine gx_iconst (v := 0) hX dX0_reads_11 (by decide) ?_
    refine gx_iconst (v := 1) hX dX0_reads_12 (by decide) ?_
    obtain ⟨r3, hr3, h⟩ := gx_bs h
    refine gx_cS (As := [.int (x2), .int (0), .int (1)]) (rest := []) hX (tX0_in w (gx_A X) (gx_l X) (xk_P (gx_A X) w (σ)) (x2) (0) (1) hr3) (lw_S q311 q312 q86 q313) dsX0_in (by decide) (Nat.le_of_ble_eq_true rfl) rfl (gx_w8 gx_k0 (Nat.le_of_ble_eq_true rfl)) dX0_reads_13 ⟨Nat.le_refl _, Nat.le_refl _⟩ rfl ?_
    refine gx_if_ne (tgt := 23) hX dX0_reads_16 (by decide) h (fun h => ?_) (fun h => ?_)
    · refine gx_sub hX (lv' := [none, none, none, none]) ⟨Or.inl rfl, ⟨Or.inl rfl, ⟨Or.inl rfl, ⟨Or.inl rfl, trivial⟩⟩⟩⟩ ?_
      exact tX0_reads_B19 hX  h
    · refine gx_aload_n hX dX0_reads_23 rfl ?_
      refine gx_aload_n hX dX0_reads_24 rfl ?_
      refine gx_iload_n hX dX0_reads_25 rfl ?_
      refine gx_if_ne (tgt := 33) hX dX0_reads_26 (by decide) h (fun h => ?_) (fun h => ?_)
      · refine gx_iconst (v := 1) hX dX0_reads_29 (by decide) ?_
        refine gx_goto (tgt := 34) hX dX0_reads_30 (by decide) ?_
        refine gx_sub hX (lv' := [none, none, none, none]) ⟨Or.inl rfl, ⟨Or.inl rfl, ⟨Or.inl rfl, ⟨Or.inl rfl, trivial⟩⟩⟩⟩ ?_
        exact tX0_reads_B34 hX  h
      · refine gx_iconst (v := 0) hX dX0_reads_33 (by decide) ?_
        refine gx_sub hX (lv' := [none, none, none, none]) ⟨Or.inl rfl, ⟨Or.inl rfl, ⟨Or.inl rfl, ⟨Or.inl rfl, trivial⟩⟩⟩⟩ ?_
        exact tX0_reads_B34 hX  h
abbrev iX0_sure : gx_M := (RX0, "sure", cX0_sure, 3, some .int)
theorem dsX0_sure : gx_ds yX0_sure 0 := by decide +kernel
def fX0_sure_B42 (N : Nat) (x0 : Nat)  (K4 : xk_C → Int32 → Int32 → Option (xk_C × Int32)) (σ : xk_C) (x2 : Int32) (y0 : Int32) (y1 : Int32) : Option (xk_C × Int32) := K4 (σ) ((y1) ||| (y0)) ((x2) + 1)
set_option maxHeartbeats 4000000 in
theorem tX0_sure_B42 {w : gw_W} {X : gx_X} {N : Nat} {x0 : Nat} {r : xk_C × Int32} (hX : gx_O (gw_I w (gx_A X)) X iX0_sure 137 0 0 (xk_P (gx_A X) w r.1) (.returned (some (.int r.2)))) {K4 : xk_C → Int32 → Int32 → Option (xk_C × Int32)} (hK4 : ∀ (σ : xk_C) (x1 : Int32) (x2 : Int32), K4 σ x1 x2 = some r → gx_G X (xk_P (gx_A X) w (σ)) 0 0 [some (va_rf (some x0)), some (.int (x1)), some (.int (x2))] 4 []) {σ : xk_C} {x2 : Int32} {y0 : Int32} {y1 : Int32} (h : fX0_sure_B42 N x0 K4 σ x2 y0 y1 = some r) : gx_G X (xk_P (gx_A X) w (σ)) 0 0 [some (va_rf (some x0)), none, some (.int (x2))] 42 [.int (y0), .int (y1)] := by
  unfold fX0_sure_B42 at h
  refine gx_ior hX dX0_sure_42 ?_
  refine gx_istore_n hX dX0_sure_43 (Nat.le_of_ble_eq_true rfl) gx_c1r (lv' := [some (va_rf (some x0)), some (.int ((y1) ||| (y0))), some (.int (x2))]) rfl ?_
  refine gx_iinc (v := 1) hX dX0_sure_44 rfl (by decide) gx_c1i (lv' := [some (va_rf (some x0)), some (.int ((y1) ||| (y0))), some (.int ((x2) + 1))]) rfl ?_
  refine gx_goto (tgt := 4) hX dX0_sure_47 (by decide) ?_
  exact hK4 _ _ _ h
def fX0_sure_L4 (N : Nat) (x0 : Nat)   : Nat → xk_C → Int32 → Int32 → Option (xk_C × Int32)
  | 0, _, _, _ => none
  | k + 1, σ, x1, x2 => (xk_gr (σ) 11 (some x0)).bind fun v1 => (xk_is (σ) 21 (v1)).bind fun b3 => (fJ2_size (b3) (σ)).bind fun r2 => if (r2) ≤ x2 then some (σ, x1) else (xk_gr (σ) 11 (some x0)).bind fun v4 => (xk_is (σ) 21 (v4)).bind fun b6 => (fJ2_get (b6) (σ) (x2)).bind fun r5 => (xk_ck (σ) 14 (r5)).bind fun u7 => (xk_is (σ) 1 (some x0)).bind fun b9 => (fX0_agreeing N (b9) (σ) (r5) (0)).bind fun r8 => if r8.2 = 0 then fX0_sure_B42 N x0 (fX0_sure_L4 N x0 k) (r8.1) (x2) ((1) <<< ((x2) &&& 31)) (x1) else fX0_sure_B42 N x0 (fX0_sure_L4 N x0 k) (r8.1) (x2) (0) (x1)
set_option maxHeartbeats 4000000 in
theorem tX0_sure_L4 {w : gw_W} {X : gx_X} {N : Nat} {x0 : Nat} {r : xk_C × Int32} (hX : gx_O (gw_I w (gx_A X)) X iX0_sure 137 0 0 (xk_P (gx_A X) w r.1) (.returned (some (.int r.2))))  : ∀ (k : Nat) (σ : xk_C) (x1 : Int32) (x2 : Int32), fX0_sure_L4 N x0 k σ x1 x2 = some r → gx_G X (xk_P (gx_A X) w (σ)) 0 0 [some (va_rf (some x0)), some (.int (x1)), some (.int (x2))] 4 [] := by
  intro k
  induction k with
  | zero =>
    intro σ x1 x2 h
    unfold fX0_sure_L4 at h
    cases h
  | succ k ih =>
    intro σ x1 x2 h
    unfold fX0_sure_L4 at h
    refine gx_iload_n hX dX0_sure_4 rfl ?_
    refine gx_aload_n hX dX0_sure_5 rfl ?_
    refine xk_getr hX 11 q232 (fun _ h => h) rfl dX0_sure_6 h (fun v1 h => ?_)
    obtain ⟨b3, hb, h⟩ := gx_bs h
    obtain ⟨eb, hkb⟩ := xk_isS hb
    obtain ⟨r2, hr2, h⟩ := gx_bs h
    refine gx_cV (As := []) (rest := [.int (x2)]) (b := b3) hX (tJ2_size w (gx_A X) (gx_l X) (b3) (σ)  hr2) (lw_V q314 q315 q316 q89 q317) ⟨rfl, dsJ2_size⟩ (by decide) (Nat.le_of_ble_eq_true rfl) (xk_rc hX (ci := 20) (by decide) (by decide) hkb) (by rw [eb]; rfl) (gx_w8 (gx_kI gx_k0) (Nat.le_of_ble_eq_true rfl)) dX0_sure_9 ⟨Nat.le_refl _, Nat.le_refl _⟩ rfl ?_
    refine gx_icmp_ge (tgt := 50) hX dX0_sure_12 (by decide) h (fun h => ?_) (fun h => ?_)
    · refine gx_iload_n hX dX0_sure_50 rfl ?_
      cases h
      exact gx_iret hX rfl dX0_sure_51 rfl ⟨rfl, rfl⟩ (fun _ h => h)
    · refine gx_iload_n hX dX0_sure_15 rfl ?_
      refine gx_aload_n hX dX0_sure_16 rfl ?_
      refine gx_aload_n hX dX0_sure_17 rfl ?_
      refine xk_getr hX 11 q232 (fun _ h => h) rfl dX0_sure_18 h (fun v4 h => ?_)
      refine gx_iload_n hX dX0_sure_21 rfl ?_
      obtain ⟨b6, hb, h⟩ := gx_bs h
      obtain ⟨eb, hkb⟩ := xk_isS hb
      obtain ⟨r5, hr5, h⟩ := gx_bs h
      refine gx_cV (As := [.int (x2)]) (rest := [va_rf (some x0), .int (x1)]) (b := b6) hX (tJ2_get w (gx_A X) (gx_l X) (b6) (σ) (x2) hr5) (lw_V q433 q434 q435 q89 q436) ⟨rfl, dsJ2_get⟩ (by decide) (Nat.le_of_ble_eq_true rfl) (xk_rc hX (ci := 20) (by decide) (by decide) hkb) (by rw [eb]; rfl) (gx_w8 (gx_kR (gx_kI gx_k0)) (Nat.le_of_ble_eq_true rfl)) dX0_sure_22 ⟨Nat.le_refl _, Nat.le_refl _⟩ rfl ?_
      refine xk_castC hX 13 ⟨by decide, by decide⟩ q630 dX0_sure_25 h (fun h => ?_)
      refine gx_iconst (v := 0) hX dX0_sure_28 (by decide) ?_
      obtain ⟨b9, hb, h⟩ := gx_bs h
      obtain ⟨eb, hkb⟩ := xk_isS hb
      obtain ⟨r8, hr8, h⟩ := gx_bs h
      refine gx_cV (As := [va_rf (r5), .int (0)]) (rest := [.int (x1)]) (b := b9) hX (tX0_agreeing w (gx_A X) (gx_l X) N (b9) (σ) (r5) (0) hr8) (lw_V q1110 q1112 qs27 q86 q1113) ⟨rfl, dsX0_agreeing⟩ (by decide) (Nat.le_of_ble_eq_true rfl) (xk_rc hX (ci := 0) (by decide) (by decide) hkb) (by rw [eb]; rfl) (gx_w8 (gx_kI gx_k0) (Nat.le_of_ble_eq_true rfl)) dX0_sure_29 ⟨Nat.le_refl _, Nat.le_refl _⟩ rfl ?_
      refine gx_if_ne (tgt := 41) hX dX0_sure_32 (by decide) h (fun h => ?_) (fun h => ?_)
      · refine gx_iconst (v := 1) hX dX0_sure_35 (by decide) ?_
        refine gx_iload_n hX dX0_sure_36 rfl ?_
        refine gx_ishl hX dX0_sure_37 ?_
        refine gx_goto (tgt := 42) hX dX0_sure_38 (by decide) ?_
        refine gx_sub hX (lv' := [some (va_rf (some x0)), none, some (.int (x2))]) ⟨Or.inr rfl, ⟨Or.inl rfl, ⟨Or.inr rfl, trivial⟩⟩⟩ ?_
        exact tX0_sure_B42 hX ih h
      · refine gx_iconst (v := 0) hX dX0_sure_41 (by decide) ?_
        refine gx_sub hX (lv' := [some (va_rf (some x0)), none, some (.int (x2))]) ⟨Or.inr rfl, ⟨Or.inl rfl, ⟨Or.inr rfl, trivial⟩⟩⟩ ?_
        exact tX0_sure_B42 hX ih h
def fX0_sure (N : Nat) (x0 : Nat) (σ : xk_C)  : Option (xk_C × Int32) := fX0_sure_L4 N x0 N (σ) (0) (0)
set_option maxHeartbeats 4000000 in
theorem tX0_sure (w : gw_W) (A : Nat → Prop) (l : Launch) (N : Nat) (x0 : Nat) (σ : xk_C)  {r : xk_C × Int32} (h : fX0_sure N x0 σ = some r) : gx_T (gw_I w A) A l yX0_sure iX0_sure 137 [va_rf (some x0)] (xk_P A w σ) 0 0 (xk_P A w r.1) (.returned (some (.int r.2))) := by
  refine gx_T.of (gw_I.inv w A) (by decide) ⟨rfl, rfl⟩ (gx_kR gx_k0) (Nat.le_of_ble_eq_true rfl) (fun X hl hAx hX => ?_)
  subst hl
  subst hAx
  show gx_G X (xk_P (gx_A X) w (σ)) 0 0 [some (va_rf (some x0)), none, none] 0 []
  unfold fX0_sure at h
  refine gx_iconst (v := 0) hX dX0_sure_0 (by decide) ?_
  refine gx_istore_n hX dX0_sure_1 (Nat.le_of_ble_eq_true rfl) gx_c1r (lv' := [some (va_rf (some x0)), some (.int (0)), none]) rfl ?_
  refine gx_iconst (v := 0) hX dX0_sure_2 (by decide) ?_
  refine gx_istore_n hX dX0_sure_3 (Nat.le_of_ble_eq_true rfl) gx_c1i (lv' := [some (va_rf (some x0)), some (.int (0)), some (.int (0))]) rfl ?_
  exact tX0_sure_L4 hX  N _ _ _ h
