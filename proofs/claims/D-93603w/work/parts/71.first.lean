set_option maxRecDepth 100000
/-! THE START: the pictures (gen/mklast.py) -/
theorem lx_p0 {H : Heap} {n0 : Nat} {w : gw_W} (T : Nat → tR) (hn : H.size = n0) (hd : gw_d0 w < n0) (hc : ∃ cell : Cell, H[gw_d0 w]? = some cell ∧ cell.cls = gw_dA w 4 ∧ cell.slots.size = 0 ∧ cell.vm ≠ .unknown ∧ cell.vm.isStatics = false) : xk_P (fun q => n0 ≤ q) w (Ht n0 (gw_d0 w, gw_u1 w, gw_u2 w, gw_mi w) T 0 0) H := by
  have K0 : ∀ a, xk_k (Ht n0 (gw_d0 w, gw_u1 w, gw_u2 w, gw_mi w) T 0 0) a = if a = gw_d0 w then 34 else 0 := fun a => by
    show (if a < n0 then (if a = gw_d0 w then 34 else 0) else if a < n0 + 0 then (T (a - n0)).1 else 0) = _
    by_cases c : a < n0
    · rw [if_pos c]
    · rw [if_neg c, if_neg (by omega), if_neg (by omega)]
  have L0 : xk_l (Ht n0 (gw_d0 w, gw_u1 w, gw_u2 w, gw_mi w) T 0 0) (gw_d0 w) = 0 := by
    show (if gw_d0 w < n0 then 0 else (T (gw_d0 w - n0)).2.2.2.1) = 0
    rw [if_pos hd]
  have Kd : ∀ a k, k ≠ 0 → xk_k (Ht n0 (gw_d0 w, gw_u1 w, gw_u2 w, gw_mi w) T 0 0) a = k → a = gw_d0 w ∧ k = 34 := fun a k h0 h => by
    rw [K0] at h
    by_cases c : a = gw_d0 w
    · rw [if_pos c] at h; exact ⟨c, h.symm⟩
    · rw [if_neg c] at h; exact absurd h.symm h0
  refine ⟨hn, ⟨rfl, rfl, rfl, rfl⟩, fun q hq => hq, fun a ha => ?_, fun a ci hci _ hk => ?_, fun a t ht hk => ?_, fun a t h4 ht hk => ?_⟩
  · obtain ⟨rfl, e⟩ := Kd a _ ha rfl
    exact Or.inr ⟨by rw [e]; decide, L0⟩
  · have := (Kd a _ (by omega) hk).2
    omega
  · have := (Kd a _ (by omega) hk).2
    omega
  · obtain ⟨rfl, e⟩ := Kd a _ (by omega) hk
    have : t = 4 := by omega
    subst this
    exact Or.inr ⟨L0, hc⟩
theorem gm_off_ex {k : Nat} (h : gm_off k ≠ 0) : k = 1 ∨ k = 2 ∨ k = 3 ∨ k = 8 ∨ k = 9 ∨ k = 10 ∨ k = 11 ∨ k = 16 ∨ k = 17 ∨ k = 18 ∨ k = 19 ∨ k = 23 ∨ k = 27 ∨ k = 28 ∨ k = 29 ∨ k = 34 := by
  unfold gm_off at h
  split at h <;> first | simp | (exact absurd rfl h)
theorem lx_arr {A : Nat → Prop} {w : gw_W} {H : Heap} {n0 : Nat} {D : Nat × Option Nat × Option Nat × Nat} {T : Nat → tR} {z : Nat} (hP : xk_P A w (Ht n0 D T 36 z) H) {k o t len : Nat} {es : List (Nat × Int32)} (ho : o < 36) (ht : t < 4) (hT : T o = (30 + t, [], [], len, es, [])) (ha : gm_a w k = n0 + o) (hl : gm_len k = len) (hty : gm_ty k = t) (he : ∀ j, lk 0 es j = ga sg0 k j) : H[gm_a w k]? = some (arrV (gw_dA w (gm_ty k)) (gm_len k) (fun j => .int (ga sg0 k j))) := by
  have h6 := hP.2.2.2.2.2.1 (n0 + o) t ht (by rw [h_k ho, hT])
  rw [h_l, hT] at h6
  rw [ha, hl, hty, h6]
  congr 2
  funext j
  rw [h_e, hT]
  exact congrArg Value.int (he j)
theorem lx_gm {A : Nat → Prop} {w : gw_W} {H : Heap} {n0 : Nat} {D : Nat × Option Nat × Option Nat × Nat} {T : Nat → tR} {z : Nat} (hP : xk_P A w (Ht n0 D T 36 z) H) (hmo : gw_mo w = n0 + 19) (t19 : T 19 = (4, [(126, (-1)), (124, (-1))], [(138, some (n0 + 35)), (133, some (n0 + 34)), (132, some (n0 + 33)), (131, some (n0 + 32)), (127, some (n0 + 31)), (123, some (n0 + 30)), (122, some (n0 + 29)), (121, some (n0 + 28)), (120, some (n0 + 27)), (115, some (n0 + 26)), (114, some (n0 + 25)), (113, some (n0 + 24)), (112, some (n0 + 23)), (107, some (n0 + 22)), (106, some (n0 + 21)), (105, some (n0 + 20))], 0, [], [])) (t20 : T 20 = (30, [], [], 240, [(3, 1)], [])) (t21 : T 21 = (30, [], [], 240, [], [])) (t22 : T 22 = (30, [], [], 240, [], [])) (t23 : T 23 = (30, [], [], 120, [], [])) (t24 : T 24 = (30, [], [], 960, [], [])) (t25 : T 25 = (30, [], [], 8, [], [])) (t26 : T 26 = (30, [], [], 280, [], [])) (t27 : T 27 = (30, [], [], 5, [], [])) (t28 : T 28 = (30, [], [], 1120, [], [])) (t29 : T 29 = (30, [], [], 8, [], [])) (t30 : T 30 = (33, [], [], 64, [], [])) (t31 : T 31 = (30, [], [], 12, [], [])) (t32 : T 32 = (30, [], [], 6, [], [])) (t33 : T 33 = (30, [], [], 6, [], [])) (t34 : T 34 = (30, [], [], 6, [], [])) (t35 : T 35 = (30, [], [], 20, [], [])) : gm_P w sg0 H := by
  have ha : ∀ k, gm_a w k = n0 + 19 + gm_off k := fun k => by unfold gm_a; rw [hmo]
  refine ⟨?_, fun k hk => ?_⟩
  · rw [hmo]
    refine (hP.2.2.2.2.1 (n0 + 19) 3 (by decide) (by decide) (by rw [h_k (by decide), t19])).to (fun k hk => ?_)
    have hi : ∀ f v, lk 0 (T 19).2.1 f = v → Value.int (xk_i (Ht n0 D T 36 z) f (n0 + 19)) = .int v := fun f v e => by rw [h_i, e]
    have hr : ∀ f p k, lk none (T 19).2.2.1 f = some (n0 + 19 + p) → gm_off k = p → p ≠ 0 → va_rf (xk_r (Ht n0 D T 36 z) f (n0 + 19)) = gm_V w sg0 k := fun f p k e e2 e3 => by
      unfold gm_V
      rw [h_r, e, if_neg (by rw [e2]; exact e3), ha, e2]
      rfl
    exact match k, hk with
      | 0, _ => hi 104 _ (by rw [t19]; rfl)
      | 1, _ => hr 105 1 1 (by rw [t19]; rfl) rfl (by decide)
      | 2, _ => hr 106 2 2 (by rw [t19]; rfl) rfl (by decide)
      | 3, _ => hr 107 3 3 (by rw [t19]; rfl) rfl (by decide)
      | 4, _ => hi 108 _ (by rw [t19]; rfl)
      | 5, _ => hi 109 _ (by rw [t19]; rfl)
      | 6, _ => hi 110 _ (by rw [t19]; rfl)
      | 7, _ => hi 111 _ (by rw [t19]; rfl)
      | 8, _ => hr 112 4 8 (by rw [t19]; rfl) rfl (by decide)
      | 9, _ => hr 113 5 9 (by rw [t19]; rfl) rfl (by decide)
      | 10, _ => hr 114 6 10 (by rw [t19]; rfl) rfl (by decide)
      | 11, _ => hr 115 7 11 (by rw [t19]; rfl) rfl (by decide)
      | 12, _ => hi 116 _ (by rw [t19]; rfl)
      | 13, _ => hi 117 _ (by rw [t19]; rfl)
      | 14, _ => hi 118 _ (by rw [t19]; rfl)
      | 15, _ => hi 119 _ (by rw [t19]; rfl)
      | 16, _ => hr 120 8 16 (by rw [t19]; rfl) rfl (by decide)
      | 17, _ => hr 121 9 17 (by rw [t19]; rfl) rfl (by decide)
      | 18, _ => hr 122 10 18 (by rw [t19]; rfl) rfl (by decide)
      | 19, _ => hr 123 11 19 (by rw [t19]; rfl) rfl (by decide)
      | 20, _ => hi 124 _ (by rw [t19]; rfl)
      | 21, _ => hi 125 _ (by rw [t19]; rfl)
      | 22, _ => hi 126 _ (by rw [t19]; rfl)
      | 23, _ => hr 127 12 23 (by rw [t19]; rfl) rfl (by decide)
      | 24, _ => hi 128 _ (by rw [t19]; rfl)
      | 25, _ => hi 129 _ (by rw [t19]; rfl)
      | 26, _ => hi 130 _ (by rw [t19]; rfl)
      | 27, _ => hr 131 13 27 (by rw [t19]; rfl) rfl (by decide)
      | 28, _ => hr 132 14 28 (by rw [t19]; rfl) rfl (by decide)
      | 29, _ => hr 133 15 29 (by rw [t19]; rfl) rfl (by decide)
      | 30, _ => hi 134 _ (by rw [t19]; rfl)
      | 31, _ => hi 135 _ (by rw [t19]; rfl)
      | 32, _ => hi 136 _ (by rw [t19]; rfl)
      | 33, _ => hi 137 _ (by rw [t19]; rfl)
      | 34, _ => hr 138 16 34 (by rw [t19]; rfl) rfl (by decide)
      | 35, _ => hi 139 _ (by rw [t19]; rfl)
      | 36, _ => hi 140 _ (by rw [t19]; rfl)
      | 37, _ => hi 141 _ (by rw [t19]; rfl)
      | 38, _ => hi 142 _ (by rw [t19]; rfl)
      | k + 39, h => absurd (show k + 39 < 39 from h) (by omega)
  · rcases gm_off_ex hk with rfl | rfl | rfl | rfl | rfl | rfl | rfl | rfl | rfl | rfl | rfl | rfl | rfl | rfl | rfl | rfl
    · exact lx_arr hP (o := 20) (t := 0) (by decide) (by decide) t20 ((ha 1).trans rfl) rfl rfl (fun j => rfl)
    · exact lx_arr hP (o := 21) (t := 0) (by decide) (by decide) t21 ((ha 2).trans rfl) rfl rfl (fun j => (sg0_a (.inl (by decide))).symm)
    · exact lx_arr hP (o := 22) (t := 0) (by decide) (by decide) t22 ((ha 3).trans rfl) rfl rfl (fun j => (sg0_a (.inl (by decide))).symm)
    · exact lx_arr hP (o := 23) (t := 0) (by decide) (by decide) t23 ((ha 8).trans rfl) rfl rfl (fun j => (sg0_a (.inl (by decide))).symm)
    · exact lx_arr hP (o := 24) (t := 0) (by decide) (by decide) t24 ((ha 9).trans rfl) rfl rfl (fun j => (sg0_a (.inl (by decide))).symm)
    · exact lx_arr hP (o := 25) (t := 0) (by decide) (by decide) t25 ((ha 10).trans rfl) rfl rfl (fun j => (sg0_a (.inl (by decide))).symm)
    · exact lx_arr hP (o := 26) (t := 0) (by decide) (by decide) t26 ((ha 11).trans rfl) rfl rfl (fun j => (sg0_a (.inl (by decide))).symm)
    · exact lx_arr hP (o := 27) (t := 0) (by decide) (by decide) t27 ((ha 16).trans rfl) rfl rfl (fun j => (sg0_a (.inl (by decide))).symm)
    · exact lx_arr hP (o := 28) (t := 0) (by decide) (by decide) t28 ((ha 17).trans rfl) rfl rfl (fun j => (sg0_a (.inl (by decide))).symm)
    · exact lx_arr hP (o := 29) (t := 0) (by decide) (by decide) t29 ((ha 18).trans rfl) rfl rfl (fun j => (sg0_a (.inl (by decide))).symm)
    · exact lx_arr hP (o := 30) (t := 3) (by decide) (by decide) t30 ((ha 19).trans rfl) rfl rfl (fun j => (sg0_a (.inl (by decide))).symm)
    · exact lx_arr hP (o := 31) (t := 0) (by decide) (by decide) t31 ((ha 23).trans rfl) rfl rfl (fun j => (sg0_a (.inl (by decide))).symm)
    · exact lx_arr hP (o := 32) (t := 0) (by decide) (by decide) t32 ((ha 27).trans rfl) rfl rfl (fun j => (sg0_a (.inl (by decide))).symm)
    · exact lx_arr hP (o := 33) (t := 0) (by decide) (by decide) t33 ((ha 28).trans rfl) rfl rfl (fun j => (sg0_a (.inl (by decide))).symm)
    · exact lx_arr hP (o := 34) (t := 0) (by decide) (by decide) t34 ((ha 29).trans rfl) rfl rfl (fun j => (sg0_a (.inl (by decide))).symm)
    · exact lx_arr hP (o := 35) (t := 0) (by decide) (by decide) t35 ((ha 34).trans rfl) rfl rfl (fun j => (sg0_a (.inl (by decide))).symm)
theorem lx_cut {w : gw_W} {H : Heap} {n0 : Nat} {C : xk_C} (hP : xk_P (fun q => n0 ≤ q) w C H) (hmo : gw_mo w = n0 + 19) (hn : xk_n C = n0 + 36) : xk_P (lx_A n0 w) w (cutM n0 C) H := by
  obtain ⟨p1, p2, p3, p4, p5, p6, p7⟩ := hP
  have K : ∀ a k, k ≠ 0 → xk_k (cutM n0 C) a = k → a < n0 + 19 ∧ xk_k C a = k := fun a k h0 h => by
    have h' : (if n0 + 19 ≤ a then 0 else xk_k C a) = k := h
    by_cases c : n0 + 19 ≤ a
    · rw [if_pos c] at h'; exact absurd h'.symm h0
    · rw [if_neg c] at h'; exact ⟨by omega, h'⟩
  refine ⟨p1, p2, fun q hq => ⟨?_, fun h => ?_⟩, fun a ha => ?_, fun a ci hci h3 hk => ?_, fun a t ht hk => ?_, fun a t h4 ht hk => ?_⟩
  · have hq' : n0 + 36 ≤ q := by rw [← hn]; exact hq
    omega
  · have hq' : n0 + 36 ≤ q := by rw [← hn]; exact hq
    have h1 := h.2
    rw [hmo] at h1
    omega
  · obtain ⟨h1, h2⟩ := K a _ ha rfl
    rcases p4 a (by rw [h2]; exact ha) with q | q
    · refine Or.inl ⟨q, fun h => ?_⟩
      have h5 := h.1
      rw [hmo] at h5
      omega
    · exact Or.inr ⟨by rw [← h2]; exact q.1, q.2⟩
  · exact p5 a ci hci h3 (K a _ (by omega) hk).2
  · exact p6 a t ht (K a _ (by omega) hk).2
  · exact (p7 a t h4 ht (K a _ (by omega) hk).2).kept rfl rfl (fun _ => rfl)
