set_option maxRecDepth 16384
section
/-! STAGE 2: the relation at the start (gen/mkd6.py) -/
/-- the reference's first state -/
def sg0 : gm_S := (fun k => if k = 20 then -1 else if k = 22 then -1 else 0, fun k j => if k = 1 then (if j = 3 then 1 else 0) else 0)
theorem sg0_a {k j : Nat} (h : k ≠ 1 ∨ j ≠ 3) : ga sg0 k j = 0 := by
  show (if k = 1 then (if j = 3 then (1 : Int32) else 0) else 0) = 0
  by_cases c : k = 1
  · rw [if_pos c, if_neg (by omega)]
  · rw [if_neg c]
/-- the heap without the reference's cells -/
def cutM (n0 : Nat) (C : xk_C) : xk_C := (fun b => if n0 + 19 ≤ b then 0 else xk_k C b, C.2)
section
variable {n0 : Nat} {D : Nat × Option Nat × Option Nat × Nat} {T : Nat → tR} {s : Nat}
theorem rl0 (hd : D.1 < n0) (t0 : T 0 = (1, [(5, 1)], [(23, some (n0 + 18)), (19, some (n0 + 17)), (18, some (n0 + 16)), (17, some (n0 + 15)), (13, some (n0 + 14)), (12, some (n0 + 8)), (11, some (n0 + 7)), (10, some (n0 + 6)), (8, some (n0 + 5)), (7, some (n0 + 4)), (3, some (n0 + 3)), (2, some (n0 + 2)), (0, some (n0 + 1))], 0, [], [])) (t1 : T 1 = (21, [(101, 0)], [(102, some D.1)], 0, [], [])) (t2 : T 2 = (30, [], [], 20, [], [])) (t3 : T 3 = (21, [(101, 0)], [(102, some D.1)], 0, [], [])) (t4 : T 4 = (30, [], [], 3, [], [])) (t5 : T 5 = (31, [], [], 120, [], [])) (t6 : T 6 = (2, [], [], 0, [], [])) (t7 : T 7 = (21, [(101, 0)], [(102, some D.1)], 0, [], [])) (t8 : T 8 = (3, [], [(32, some (n0 + 9)), (36, some (n0 + 0))], 0, [], [])) (t9 : T 9 = (39, [], [], 4, [], [(3, some (n0 + 13)), (2, some (n0 + 12)), (1, some (n0 + 11)), (0, some (n0 + 10))])) (t10 : T 10 = (32, [], [], 4, [(3, 101), (2, 107), (1, 97), (0, 116)], [])) (t11 : T 11 = (32, [], [], 5, [(4, 107), (3, 99), (2, 111), (1, 110), (0, 107)], [])) (t12 : T 12 = (32, [], [], 4, [(3, 101), (2, 118), (1, 105), (0, 103)], [])) (t13 : T 13 = (32, [], [], 4, [(3, 116), (2, 105), (1, 97), (0, 119)], [])) (t14 : T 14 = (30, [], [], 12, [], [])) (t15 : T 15 = (36, [], [], 6, [], [])) (t16 : T 16 = (37, [], [], 6, [], [])) (t17 : T 17 = (37, [], [], 6, [], [])) (t18 : T 18 = (21, [(101, 0)], [(102, some D.1)], 0, [], [])) : Rl n0 n0 0 (cutM n0 (Ht n0 D T 36 s)) sg0 := by
  have K : ∀ o, o < 19 → xk_k (cutM n0 (Ht n0 D T 36 s)) (n0 + o) = (T o).1 := fun o ho => by
    show (if n0 + 19 ≤ n0 + o then 0 else xk_k (Ht n0 D T 36 s) (n0 + o)) = _
    rw [if_neg (by omega), h_k (by omega)]
  have I : ∀ f o, xk_i (cutM n0 (Ht n0 D T 36 s)) f (n0 + o) = lk 0 (T o).2.1 f := fun f o => h_i
  have Rr : ∀ f o, xk_r (cutM n0 (Ht n0 D T 36 s)) f (n0 + o) = lk none (T o).2.2.1 f := fun f o => h_r
  have Ll : ∀ o, xk_l (cutM n0 (Ht n0 D T 36 s)) (n0 + o) = (T o).2.2.2.1 := fun o => h_l
  have Ee : ∀ o j, xk_e (cutM n0 (Ht n0 D T 36 s)) (n0 + o) j = lk 0 (T o).2.2.2.2.1 j := fun o j => h_e
  have Qq : ∀ o j, xk_q (cutM n0 (Ht n0 D T 36 s)) (n0 + o) j = lk none (T o).2.2.2.2.2 j := fun o j => h_q
  have Nn : xk_n (cutM n0 (Ht n0 D T 36 s)) = n0 + 36 := rfl
  have Dd : xk_d (cutM n0 (Ht n0 D T 36 s)) = D.1 := rfl
  have Kd : xk_k (cutM n0 (Ht n0 D T 36 s)) D.1 = 34 := by
    show (if n0 + 19 ≤ D.1 then 0 else if D.1 < n0 then (if D.1 = D.1 then 34 else 0) else if D.1 < n0 + 36 then (T (D.1 - n0)).1 else 0) = 34
    rw [if_neg (by omega), if_pos hd, if_pos rfl]
  have Ld : xk_l (cutM n0 (Ht n0 D T 36 s)) D.1 = 0 := by
    show (if D.1 < n0 then 0 else (T (D.1 - n0)).2.2.2.1) = 0
    rw [if_pos hd]
  have Kx : ∀ a, xk_k (cutM n0 (Ht n0 D T 36 s)) a = 21 → ∃ o, a = n0 + o ∧ (o = 1 ∨ o = 3 ∨ o = 7 ∨ o = 18) := fun a ha => by
    have ha' : (if n0 + 19 ≤ a then 0 else if a < n0 then (if a = D.1 then 34 else 0) else if a < n0 + 36 then (T (a - n0)).1 else 0) = 21 := ha
    by_cases c1 : n0 + 19 ≤ a
    · rw [if_pos c1] at ha'; cases ha'
    · rw [if_neg c1] at ha'
      by_cases c2 : a < n0
      · rw [if_pos c2] at ha'
        by_cases c3 : a = D.1
        · rw [if_pos c3] at ha'; cases ha'
        · rw [if_neg c3] at ha'; cases ha'
      · obtain ⟨o, rfl⟩ : ∃ o, a = n0 + o := ⟨a - n0, by omega⟩
        refine ⟨o, rfl, ?_⟩
        rw [K o (by omega)] at ha
        have ho : o < 19 := by omega
        clear ha' c1 c2 K I Rr Ll Ee Qq Nn Dd Kd Ld
        exact match o, ho, ha with
          | 0, _, h => by rw [t0] at h; cases h
          | 1, _, _ => .inl rfl
          | 2, _, h => by rw [t2] at h; cases h
          | 3, _, _ => .inr (.inl rfl)
          | 4, _, h => by rw [t4] at h; cases h
          | 5, _, h => by rw [t5] at h; cases h
          | 6, _, h => by rw [t6] at h; cases h
          | 7, _, _ => .inr (.inr (.inl rfl))
          | 8, _, h => by rw [t8] at h; cases h
          | 9, _, h => by rw [t9] at h; cases h
          | 10, _, h => by rw [t10] at h; cases h
          | 11, _, h => by rw [t11] at h; cases h
          | 12, _, h => by rw [t12] at h; cases h
          | 13, _, h => by rw [t13] at h; cases h
          | 14, _, h => by rw [t14] at h; cases h
          | 15, _, h => by rw [t15] at h; cases h
          | 16, _, h => by rw [t16] at h; cases h
          | 17, _, h => by rw [t17] at h; cases h
          | 18, _, _ => .inr (.inr (.inr rfl))
          | o + 19, h, _ => absurd h (by omega)
  generalize cutM n0 (Ht n0 D T 36 s) = C at *
  have k : ∀ o kd, o < 19 → (T o).1 = kd → xk_k C (n0 + o) = kd := fun o kd h e => (K o h).trans e
  have hk0 : xk_k C n0 = 1 := k 0 1 (by decide) (by rw [t0])
  have i : ∀ f o v, lk 0 (T o).2.1 f = v → xk_i C f (n0 + o) = v := fun f o v e => (I f o).trans e
  have r : ∀ f o v, lk none (T o).2.2.1 f = v → xk_r C f (n0 + o) = v := fun f o v e => (Rr f o).trans e
  have l : ∀ o v, (T o).2.2.2.1 = v → xk_l C (n0 + o) = v := fun o v e => (Ll o).trans e
  have r0 : ∀ f v, lk none (T 0).2.2.1 f = v → xk_r C f n0 = v := fun f v e => (Rr f 0).trans e
  have i0 : ∀ f v, lk 0 (T 0).2.1 f = v → xk_i C f n0 = v := fun f v e => (I f 0).trans e
  have r102 : ∀ o, (o = 1 ∨ o = 3 ∨ o = 7 ∨ o = 18) → xk_r C 102 (n0 + o) = some D.1 := fun o ho => by
    rcases ho with rfl | rfl | rfl | rfl
    · exact r 102 1 _ (by rw [t1]; rfl)
    · exact r 102 3 _ (by rw [t3]; rfl)
    · exact r 102 7 _ (by rw [t7]; rfl)
    · exact r 102 18 _ (by rw [t18]; rfl)
  have U : U1 C := by
    refine ⟨fun a ha => ?_, fun a e ha he => ?_, fun a b e ha hb he he' => ?_, by rw [Nn, Dd]; omega, by rw [Dd]; exact Kd, by rw [Dd]; exact Ld⟩
    · obtain ⟨o, rfl, ho⟩ := Kx a ha
      rw [Nn]; omega
    · obtain ⟨o, rfl, ho⟩ := Kx a ha
      rw [r102 o ho] at he
      cases he
      rw [Nn]; omega
    · obtain ⟨o, rfl, ho⟩ := Kx a ha
      rw [r102 o ho] at he
      cases he
      exact .inl Dd.symm
  have pl : ∀ o g, (o = 1 ∨ o = 3 ∨ o = 7 ∨ o = 18) → (T o).1 = 21 → lk 0 (T o).2.1 103 = 0 → pL C (n0 + o) 0 g := fun o g ho h1 h2 => by
    refine ⟨k o 21 (by omega) h1, by rw [Nn]; omega, i 103 o _ h2, fun i hi => absurd hi (by omega), D.1, r102 o ho, by rw [Nn]; omega, Kd, Nat.zero_le _, by rw [Ld]; omega, ⟨fun _ => Dd.symm, fun _ => Ld⟩, fun i hi => absurd hi (by omega)⟩
  have hB : pB n0 C := by
    refine ⟨⟨hk0, by rw [Nn]; omega, U⟩, ?_, ?_, ?_⟩
    · exact ⟨r0 0 _ (by rw [t0]; rfl), r0 2 _ (by rw [t0]; rfl), r0 3 _ (by rw [t0]; rfl), r0 7 _ (by rw [t0]; rfl), r0 8 _ (by rw [t0]; rfl), r0 10 _ (by rw [t0]; rfl), r0 11 _ (by rw [t0]; rfl), r0 12 _ (by rw [t0]; rfl), r0 13 _ (by rw [t0]; rfl), r0 17 _ (by rw [t0]; rfl), r0 18 _ (by rw [t0]; rfl), r0 19 _ (by rw [t0]; rfl), r0 23 _ (by rw [t0]; rfl)⟩
    · exact ⟨k 1 21 (by decide) (by rw [t1]), k 2 30 (by decide) (by rw [t2]), k 3 21 (by decide) (by rw [t3]), k 4 30 (by decide) (by rw [t4]), k 5 31 (by decide) (by rw [t5]), k 6 2 (by decide) (by rw [t6]), k 7 21 (by decide) (by rw [t7]), k 8 3 (by decide) (by rw [t8]), k 14 30 (by decide) (by rw [t14]), k 15 36 (by decide) (by rw [t15]), k 16 37 (by decide) (by rw [t16]), k 17 37 (by decide) (by rw [t17]), k 18 21 (by decide) (by rw [t18])⟩
    · exact ⟨l 2 20 (by rw [t2]), l 4 3 (by rw [t4]), l 5 120 (by rw [t5]), l 14 12 (by rw [t14]), l 15 6 (by rw [t15]), l 16 6 (by rw [t16]), l 17 6 (by rw [t17])⟩
  have v0 : ∀ {p : Prop} {j : Nat}, j < 0 → p := fun h => absurd h (by omega)
  have hR : cR n0 (fun _ => 0) (fun _ => 0) (fun _ => 0) 0 0 0 C sg0 := by
    refine ⟨⟨hB, pl 1 _ (.inl rfl) (by rw [t1]) (by rw [t1]; rfl), pl 3 _ (.inr (.inl rfl)) (by rw [t3]) (by rw [t3]; rfl), ⟨fun _ h => v0 h, fun _ h => v0 h, fun _ h => v0 h, fun _ h => v0 h, fun _ h => v0 h, fun _ h => v0 h, fun _ h => v0 h, fun _ h => v0 h, fun _ h => v0 h⟩, ⟨fun _ h => v0 h, fun _ h => v0 h, fun _ h => v0 h, fun _ h => v0 h, fun _ h => v0 h, fun _ h => v0 h, fun _ h => v0 h, fun _ h => v0 h, fun _ h => v0 h, fun _ h => v0 h, fun _ h => v0 h⟩, ⟨i0 4 _ (by rw [t0]; rfl), i0 5 _ (by rw [t0]; rfl), i0 6 _ (by rw [t0]; rfl), fun j hj => ?_⟩, by decide, by decide⟩, ⟨fun _ h => v0 h, fun _ h => v0 h, fun _ h => v0 h⟩, ⟨⟨by decide, by decide, by decide, rfl, rfl, ⟨by decide, by decide⟩, ⟨by decide, by decide⟩⟩, fun _ h => v0 h, fun _ h => v0 h, fun _ h => v0 h, fun _ h => v0 h⟩⟩
    rw [Ee, t4, sg0_a (.inr (by omega))]; rfl
  have hF : pF n0 (fun _ => 0) 0 C sg0 := ⟨rfl, by decide, pl 18 _ (.inr (.inr (.inr rfl))) (by rw [t18]) (by rw [t18]; rfl), fun _ h => v0 h, fun _ h => v0 h⟩
  have hT : pT n0 0 C sg0 := ⟨i0 9 _ (by rw [t0]; rfl), rfl, by decide, fun _ h => v0 h⟩
  have hH : pH n0 (fun _ => 0) 0 (fun _ => []) C sg0 := ⟨rfl, by decide, pl 7 _ (.inr (.inr (.inl rfl))) (by rw [t7]) (by rw [t7]; rfl), fun _ h => v0 h, fun _ _ _ _ h => v0 h⟩
  have hb : rB n0 0 C sg0 := ⟨i0 1 _ (by rw [t0]; rfl), rfl, fun j hj => by rw [Ee, t2, sg0_a (.inl (by decide))]; rfl⟩
  have hP : pR n0 C := by
    refine ⟨r 36 8 _ (by rw [t8]; rfl), r 32 8 _ (by rw [t8]; rfl), k 9 39 (by decide) (by rw [t9]), l 9 4 (by rw [t9]), fun w hw => ?_, fun w hw => ?_, fun w hw => ?_, fun w hw j hj => ?_⟩
    · rw [Qq, t9]
      exact match w, hw with
        | 0, _ => rfl
        | 1, _ => rfl
        | 2, _ => rfl
        | 3, _ => rfl
        | w + 4, h => absurd h (by omega)
    · exact match w, hw with
        | 0, _ => k 10 32 (by decide) (by rw [t10])
        | 1, _ => k 11 32 (by decide) (by rw [t11])
        | 2, _ => k 12 32 (by decide) (by rw [t12])
        | 3, _ => k 13 32 (by decide) (by rw [t13])
        | w + 4, h => absurd h (by omega)
    · exact match w, hw with
        | 0, _ => l 10 _ (by rw [t10]; rfl)
        | 1, _ => l 11 _ (by rw [t11]; rfl)
        | 2, _ => l 12 _ (by rw [t12]; rfl)
        | 3, _ => l 13 _ (by rw [t13]; rfl)
        | w + 4, h => absurd h (by omega)
    · exact match w, hw, hj with
        | 0, _, hj => (Ee 10 j).trans (by
          rw [t10]
          exact match j, hj with
            | 0, _ => rfl
            | 1, _ => rfl
            | 2, _ => rfl
            | 3, _ => rfl
            | j + 4, h => absurd (show j + 4 < 4 from h) (by omega))
        | 1, _, hj => (Ee 11 j).trans (by
          rw [t11]
          exact match j, hj with
            | 0, _ => rfl
            | 1, _ => rfl
            | 2, _ => rfl
            | 3, _ => rfl
            | 4, _ => rfl
            | j + 5, h => absurd (show j + 5 < 5 from h) (by omega))
        | 2, _, hj => (Ee 12 j).trans (by
          rw [t12]
          exact match j, hj with
            | 0, _ => rfl
            | 1, _ => rfl
            | 2, _ => rfl
            | 3, _ => rfl
            | j + 4, h => absurd (show j + 4 < 4 from h) (by omega))
        | 3, _, hj => (Ee 13 j).trans (by
          rw [t13]
          exact match j, hj with
            | 0, _ => rfl
            | 1, _ => rfl
            | 2, _ => rfl
            | 3, _ => rfl
            | j + 4, h => absurd (show j + 4 < 4 from h) (by omega))
        | w + 4, h, _ => absurd h (by omega)
  refine ⟨⟨fun _ => 0, fun _ => 0, fun _ => 0, fun _ => 0, 0, 0, 0, 0, 0, 0, fun _ => [], hR, fun _ h => v0 h, hH, hF, hT, ⟨hb, by decide⟩, .inl ⟨r0 26 _ (by rw [t0]; rfl), rfl⟩, hP, rfl⟩, by decide, by rw [Nn]; omega, by rw [Nn]; omega⟩
end
end
