set_option maxRecDepth 100000
/-! THE WHOLE WALK OF THE LAW -/
theorem lx_sim (bx n0 : Nat) : lx_S 1000 bx n0 (Rl bx n0) :=
  ⟨fun k C σ R => R.b, fun k C σ hk R => R.up hk, Rl.s0 (by decide), Rl.s1 (by decide), Rl.s2 (by decide), Rl.s3 (by decide), Rl.s4 (by decide), Rl.s5 (by decide), Rl.s6 (by decide), Rl.s7 (by decide), Rl.s8 (by decide), Rl.s9 (by decide), Rl.s10 (by decide), Rl.s11 (by decide), Rl.s12 (by decide), Rl.s13 (by decide), Rl.s14 (by decide), Rl.s15 (by decide), Rl.s16 (by decide), Rl.s17 (by decide), Rl.s18 (by decide), Rl.s19 (by decide), Rl.s20 (by decide), Rl.s21 (by decide), Rl.s22 (by decide), Rl.s23 (by decide), Rl.s24 (by decide), Rl.s25 (by decide), Rl.s26 (by decide), Rl.s27 (by decide), Rl.s28 (by decide), Rl.s29 (by decide), Rl.s30 (by decide), Rl.s31 (by decide), Rl.s32 (by decide)⟩
/-- the end: 1 on the stack -/
theorem lx_end {w : gw_W} {X : gx_X} {n n0 : Nat} {P' P : Heap → Prop} {oc : Outcome} {b cs ss : Nat} {lv : List (Option Value)} (K : lx_K w X iL_law n n0 P' oc) (hR : gx_R X = room_1) (ha : gx_args X = #[Value.ref b]) (hQ : gx_Q X = lw_Z (gx_below X) #[Value.ref b] (gx_s X)) (hc : cs ≤ 601024) (hs : ss ≤ 7293033) : gx_G X P cs ss lv 1263 [] := by
  have hX := K.1
  refine gx_iconst (v := 1) hX dL_law_1263 rfl ?_
  intro H locs ls hP hS hl
  refine va_forget (fun q hq => ?_) (W.widen hc hs ?_)
  · have h1 := (K.2.1 q.base).mp (hS.2.2 q hq)
    rw [K.2.2.1]
    exact h1
  · rw [hR, ha, hQ]
    exact lw_ret hX.1 hX.2.1 hX.2.2.1 hX.2.2.2.2.2.2.1 dL_law_1264
theorem lx_first {w : gw_W} {X : gx_X} {n n0 : Nat} {P' : Heap → Prop} {oc : Outcome} {b : Nat} (K : lx_K w X iL_law n n0 P' oc) (hn : 200 ≤ n) (hmo : gw_mo w = n0 + 19) (hd : gw_d0 w < n0)
    (kk : ∀ C σ ss, Rl n0 n0 0 C σ → ss ≤ 100000 → gx_G X (lx_P n0 w C σ) (xk_n C - n0) ss [some (va_rf (some b)), some (va_rf (some n0)), some (va_rf (some (gw_mo w))), some (.int (nI 0))] 18 []) :
    gx_G X (xk_P (gx_A X) w (Ht n0 (gw_d0 w, gw_u1 w, gw_u2 w, gw_mi w) (fun _ => (1, [], [], 0, [], [])) 0 0)) 0 0 [some (va_rf (some b)), none, none, none] 0 [] := by
  have hX := K.1
  have hA : gx_A X = fun q => n0 ≤ q := funext fun q => propext (K.2.1 q)
  obtain ⟨T, z, hx0, hz, t0, t1, t2, t3, t4, t5, t6, t7, t8, t9, t10, t11, t12, t13, t14, t15, t16, t17, t18⟩ := t_X0 (n0 := n0) (D := (gw_d0 w, gw_u1 w, gw_u2 w, gw_mi w)) (0 + xk_N 0)
  obtain ⟨T3, z3, hx3, hz3, h19, u19, u20, u21, u22, u23, u24, u25, u26, u27, u28, u29, u30, u31, u32, u33, u34, u35⟩ := t_X3u (n0 := n0) (D := (gw_d0 w, gw_u1 w, gw_u2 w, gw_mi w)) T (z + xk_N 3)
  have hN0 : xk_N 0 = 27 := rfl
  have hN3 : xk_N 3 = 39 := rfl
  have e1 : xk_mk (Ht n0 (gw_d0 w, gw_u1 w, gw_u2 w, gw_mi w) (fun _ => (1, [], [], 0, [], [])) 0 0) 1 0 (xk_N 0) = Ht n0 (gw_d0 w, gw_u1 w, gw_u2 w, gw_mi w) (fun _ => (1, [], [], 0, [], [])) 1 (0 + xk_N 0) := by
    rw [h_mk]
    congr 1
    funext p
    by_cases q : p = 0
    · rw [q, uT_s]
    · rw [uT_n _ _ q]
  have e2 : xk_mk (Ht n0 (gw_d0 w, gw_u1 w, gw_u2 w, gw_mi w) T 19 z) 4 0 (xk_N 3) = Ht n0 (gw_d0 w, gw_u1 w, gw_u2 w, gw_mi w) (uT T 19 (4, [], [], 0, [], [])) 20 (z + xk_N 3) := h_mk _ _ _
  have m1 : xk_n (Ht n0 (gw_d0 w, gw_u1 w, gw_u2 w, gw_mi w) T 19 z) - xk_n (Ht n0 (gw_d0 w, gw_u1 w, gw_u2 w, gw_mi w) (fun _ => (1, [], [], 0, [], [])) 1 (0 + xk_N 0)) = 18 := by
    show n0 + 19 - (n0 + 1) = 18
    omega
  have m2 : xk_s (Ht n0 (gw_d0 w, gw_u1 w, gw_u2 w, gw_mi w) T 19 z) - xk_s (Ht n0 (gw_d0 w, gw_u1 w, gw_u2 w, gw_mi w) (fun _ => (1, [], [], 0, [], [])) 1 (0 + xk_N 0)) ≤ 1000 := by
    show z - (0 + xk_N 0) ≤ 1000
    omega
  have m3 : xk_n (Ht n0 (gw_d0 w, gw_u1 w, gw_u2 w, gw_mi w) T3 36 z3) - xk_n (Ht n0 (gw_d0 w, gw_u1 w, gw_u2 w, gw_mi w) (uT T 19 (4, [], [], 0, [], [])) 20 (z + xk_N 3)) = 16 := by
    show n0 + 36 - (n0 + 20) = 16
    omega
  have m4 : xk_s (Ht n0 (gw_d0 w, gw_u1 w, gw_u2 w, gw_mi w) T3 36 z3) - xk_s (Ht n0 (gw_d0 w, gw_u1 w, gw_u2 w, gw_mi w) (uT T 19 (4, [], [], 0, [], [])) 20 (z + xk_N 3)) ≤ 4000 := by
    show z3 - (z + xk_N 3) ≤ 4000
    omega
  have c1 := tX0_init w (gx_A X) (gx_l X) n0 _ hx0
  have c3 := tX3_init w (gx_A X) (gx_l X) (n0 + 19) _ hx3
  rw [m1] at c1
  rw [m3] at c3
  have hRl : Rl n0 n0 0 (cutM n0 (Ht n0 (gw_d0 w, gw_u1 w, gw_u2 w, gw_mi w) T3 36 z3)) sg0 := rl0 (D := (gw_d0 w, gw_u1 w, gw_u2 w, gw_mi w)) hd ((h19 0 (by decide)).trans t0) ((h19 1 (by decide)).trans t1) ((h19 2 (by decide)).trans t2) ((h19 3 (by decide)).trans t3) ((h19 4 (by decide)).trans t4) ((h19 5 (by decide)).trans t5) ((h19 6 (by decide)).trans t6) ((h19 7 (by decide)).trans t7) ((h19 8 (by decide)).trans t8) ((h19 9 (by decide)).trans t9) ((h19 10 (by decide)).trans t10) ((h19 11 (by decide)).trans t11) ((h19 12 (by decide)).trans t12) ((h19 13 (by decide)).trans t13) ((h19 14 (by decide)).trans t14) ((h19 15 (by decide)).trans t15) ((h19 16 (by decide)).trans t16) ((h19 17 (by decide)).trans t17) ((h19 18 (by decide)).trans t18)
  generalize hS1 : xk_s (Ht n0 (gw_d0 w, gw_u1 w, gw_u2 w, gw_mi w) T 19 z) - xk_s (Ht n0 (gw_d0 w, gw_u1 w, gw_u2 w, gw_mi w) (fun _ => (1, [], [], 0, [], [])) 1 (0 + xk_N 0)) = S1 at c1 m2
  generalize hS3 : xk_s (Ht n0 (gw_d0 w, gw_u1 w, gw_u2 w, gw_mi w) T3 36 z3) - xk_s (Ht n0 (gw_d0 w, gw_u1 w, gw_u2 w, gw_mi w) (uT T 19 (4, [], [], 0, [], [])) 20 (z + xk_N 3)) = S3 at c3 m4
  refine xk_new (ρ := xk_C) (g := some) (r := Ht n0 (gw_d0 w, gw_u1 w, gw_u2 w, gw_mi w) (fun _ => (1, [], [], 0, [], [])) 1 (0 + xk_N 0)) hX 0 ⟨by decide, by decide⟩ ⟨q121, q122, q86⟩ dL_law_0 (congrArg some e1) (fun τ hτ h => ⟨⟨by decide, by rw [hN0]; decide⟩, ?_⟩)
  cases h
  refine gx_dup hX dL_law_3 (gx_cat _) ?_
  refine gx_cI (As := []) (rest := [va_rf (some n0)]) (b := n0) (C2 := RX0) (nm2 := "<init>") hX c1 (lw_meth q125) ⟨q86, q123, q124⟩ ⟨rfl, dsX0_init⟩ (by omega) (Nat.le_of_ble_eq_true rfl) rfl (gx_w8 (gx_kR gx_k0) (Nat.le_of_ble_eq_true rfl)) dL_law_4 ⟨by omega, by omega⟩ rfl ?_
  refine gx_astore_n hX dL_law_7 (Nat.le_of_ble_eq_true rfl) gx_c1r (lv' := [some (va_rf (some b)), some (va_rf (some n0)), none, none]) rfl ?_
  refine xk_new (ρ := xk_C) (g := some) (r := Ht n0 (gw_d0 w, gw_u1 w, gw_u2 w, gw_mi w) (uT T 19 (4, [], [], 0, [], [])) 20 (z + xk_N 3)) hX 3 ⟨by decide, by decide⟩ ⟨q1336, q1337, q92⟩ dL_law_8 (congrArg some e2) (fun τ hτ h => ⟨⟨by omega, by omega⟩, ?_⟩)
  cases h
  refine gx_dup hX dL_law_11 (gx_cat _) ?_
  refine gx_cI (As := []) (rest := [va_rf (some (n0 + 19))]) (b := n0 + 19) (C2 := RX3) (nm2 := "<init>") hX c3 (lw_meth q1340) ⟨q92, q1338, q1339⟩ ⟨rfl, dsX3_init⟩ (by omega) (Nat.le_of_ble_eq_true rfl) rfl (gx_w8 (gx_kR gx_k0) (Nat.le_of_ble_eq_true rfl)) dL_law_12 ⟨by omega, by omega⟩ rfl ?_
  refine gx_astore_n hX dL_law_15 (Nat.le_of_ble_eq_true rfl) gx_c1r (lv' := [some (va_rf (some b)), some (va_rf (some n0)), some (va_rf (some (n0 + 19))), none]) rfl ?_
  refine gx_iconst (v := 0) hX dL_law_16 rfl ?_
  refine gx_istore_n hX dL_law_17 (Nat.le_of_ble_eq_true rfl) gx_c1r (lv' := [some (va_rf (some b)), some (va_rf (some n0)), some (va_rf (some (n0 + 19))), some (.int 0)]) rfl ?_
  have h18 := kk _ _ (0 + xk_N 0 + S1 + xk_N 3 + S3) hRl (by omega)
  rw [hmo] at h18
  refine lx_less (fun H hP => ?_) (lx_conv (fun H hP => ?_) h18)
  · rw [hA] at hP
    exact ⟨lx_cut hP hmo rfl, lx_gm hP hmo u19 u20 u21 u22 u23 u24 u25 u26 u27 u28 u29 u30 u31 u32 u33 u34 u35⟩
  · show 0 + 1 + 18 + 1 + 16 = n0 + 36 - n0
    omega
theorem whole_start (l : Launch) {p : Program} {e : Env} {s : State} {m : MethodId} {below : List Frame} {meth : Method} {c : Code} {b L : Nat} {xs : Nat → Int32} (hbd : L ≤ 512) (h : lw_At p s m meth c b L xs) :
    W p l e room_1 s m #[Value.ref b] below meth c s.heap [] 0 0 (lw_Z below #[Value.ref b] s) (entryFrame m ([Value.ref b] : List Value).toArray 4) := by
  obtain ⟨h1, h2, h3, h4, h5, hts, hx, hb, h9, hgv, hnm⟩ := h
  obtain ⟨w, hI, hmo, hd, hc⟩ := lx_world hts hgv rfl
  rw [lg_entry_eq]
  have K : lx_K w (p, l, e, room_1, s, m, #[Value.ref b], below, meth, c, lw_Z below #[Value.ref b] s, fun q => s.heap.size ≤ q) iL_law 2000 s.heap.size (fun _ => False) (.returned none) :=
    ⟨⟨h1, h2, h3, h4, h5, fun w h => hts w (lw_all_tbl h), h9, hI, fun t ht => False.elim ht.2.2.1, ⟨(show 2000 ≤ room_1.frames by decide), (show 601024 ≤ room_1.cells by decide), (show 7293033 ≤ room_1.slots by decide), (show 40 * 2000 ≤ room_1.locals by decide)⟩, hnm, trivial, gw_I.inv w _⟩, fun q => Iff.rfl, rfl, by rw [hmo]; omega⟩
  have hbA : b < s.heap.size ∧ ¬ (s.heap.size ≤ b) := ⟨hb, by omega⟩
  refine lx_first (b := b) K (by decide) hmo hd (fun C σ ss hR hss => ?_) s.heap [] _ (lx_p0 _ rfl hd hc) va_S.rf (gx_entry [Value.ref b] 4 (gx_kR (x := some b) gx_k0) (Nat.le_of_ble_eq_true rfl))
  exact lx_loop K (by decide) (N := 1000) hx hbA hbd (lx_sim _ _) (fun k C σ ss hk hR hss => lx_end K rfl rfl rfl (by have := hR.b; omega) (by omega)) 65 0 C σ ss rfl hR (by omega)
