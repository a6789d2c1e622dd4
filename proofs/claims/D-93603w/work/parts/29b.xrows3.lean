set_option maxRecDepth 100000
/-- clone of an int array -/
def xk_cln (C : xk_C) (x : Option Nat) : Option xk_C := match x with | none => none | some a => if xk_k C a = 30 then some (xk_sE (xk_mk C 30 (xk_l C a) (xk_l C a)) (xk_n C) (xk_e C a)) else none
/-- System.arraycopy -/
def xk_cpr (C : xk_C) (t : Nat) (x : Option Nat) (sp : Int32) (y : Option Nat) (dp n : Int32) : Option (Nat × Nat) := match x, y with
  | some a, some b => if (xk_k C a = 30 + t ∧ xk_k C b = 30 + t ∧ ¬ sp < 0 ∧ ¬ dp < 0) ∧ (¬ n < 0 ∧ sp.toNatClampNeg + n.toNatClampNeg ≤ xk_l C a ∧ dp.toNatClampNeg + n.toNatClampNeg ≤ xk_l C b) then some (a, b) else none
  | _, _ => none
def xk_cpi (C : xk_C) (x : Option Nat) (sp : Int32) (y : Option Nat) (dp n : Int32) : Option xk_C := match xk_cpr C 0 x sp y dp n with | none => none | some (a, b) => if xk_l C b = 0 then none else some (xk_sE C b (va_cpy (xk_e C a) (xk_e C b) sp.toNatClampNeg dp.toNatClampNeg n.toNatClampNeg))
def xk_cpq (C : xk_C) (t : Nat) (x : Option Nat) (sp : Int32) (y : Option Nat) (dp n : Int32) : Option xk_C := match xk_cpr C t x sp y dp n with | none => none | some (a, b) => if (xk_l C a ≠ 0 ∧ xk_l C b ≠ 0) ∧ ((List.range n.toNatClampNeg).all fun i => xk_fitq C t (xk_q C a (sp.toNatClampNeg + i))) = true then some (xk_sQ C b (va_cpy (xk_q C a) (xk_q C b) sp.toNatClampNeg dp.toNatClampNeg n.toNatClampNeg)) else none
theorem xk_cprS {C : xk_C} {t : Nat} {x y : Option Nat} {sp dp n : Int32} {a b : Nat} (h : xk_cpr C t x sp y dp n = some (a, b)) : x = some a ∧ y = some b ∧ (xk_k C a = 30 + t ∧ xk_k C b = 30 + t ∧ ¬ sp < 0 ∧ ¬ dp < 0) ∧ (¬ n < 0 ∧ sp.toNatClampNeg + n.toNatClampNeg ≤ xk_l C a ∧ dp.toNatClampNeg + n.toNatClampNeg ≤ xk_l C b) := by
  unfold xk_cpr at h
  cases x with
  | none => cases h
  | some a' =>
    cases y with
    | none => cases h
    | some b' =>
      dsimp only at h
      split at h
      · rename_i hc
        cases h
        exact ⟨rfl, rfl, hc⟩
      · cases h
theorem xk_P.setE {A : Nat → Prop} {w : gw_W} {C : xk_C} {H H' : Heap} (hP : xk_P A w C H) {a t : Nat} {f : Nat → Int32} (ht : t < 4) (hk : xk_k C a = 30 + t) (e1 : H'[a]? = some (arrV (gw_dA w t) (xk_l C a) (fun j => .int (f j)))) (e2 : H'.size = H.size) (e3 : ∀ q, q ≠ a → H'[q]? = H[q]?) : xk_P A w (xk_sE C a f) H' := by
  obtain ⟨p1, p2, p3, p4, p5, p6, p7⟩ := hP
  refine ⟨e2.trans p1, p2, p3, p4, fun b cj hcj hj3 hkb => ?_, fun b t2 ht2 hkb => ?_, fun b t2 ht2 ht3 hkb => ?_⟩
  · have hb : b ≠ a := by
      intro q
      subst q
      have : xk_k C b = cj + 1 := hkb
      omega
    exact (p5 b cj hcj hj3 hkb).kept (e3 b hb)
  · by_cases hb : b = a
    · subst hb
      have htt : t2 = t := by
        have : xk_k C b = 30 + t2 := hkb
        omega
      subst htt
      rw [e1]
      unfold xk_sE xk_l xk_e
      simp
    · rw [e3 b hb, p6 b t2 ht2 hkb]
      unfold xk_sE xk_l xk_e
      simp [hb]
  · have hb : b ≠ a := by
      intro q
      subst q
      have : xk_k C b = 30 + t2 := hkb
      omega
    exact (p7 b t2 ht2 ht3 hkb).kept (e3 b hb) rfl (fun _ => rfl)
theorem xk_P.setQ {A : Nat → Prop} {w : gw_W} {C : xk_C} {H H' : Heap} (hP : xk_P A w C H) {a t : Nat} {f : Nat → Option Nat} (ht4 : 4 ≤ t) (ht : t < 10) (hk : xk_k C a = 30 + t) (e1 : H'[a]? = some (arrV (gw_dA w t) (xk_l C a) (fun j => va_rf (f j)))) (e2 : H'.size = H.size) (e3 : ∀ q, q ≠ a → H'[q]? = H[q]?) : xk_P A w (xk_sQ C a f) H' := by
  obtain ⟨p1, p2, p3, p4, p5, p6, p7⟩ := hP
  refine ⟨e2.trans p1, p2, p3, p4, fun b cj hcj hj3 hkb => ?_, fun b t2 ht2 hkb => ?_, fun b t2 ht2 ht3 hkb => ?_⟩
  · have hb : b ≠ a := by
      intro q
      subst q
      have : xk_k C b = cj + 1 := hkb
      omega
    exact (p5 b cj hcj hj3 hkb).kept (e3 b hb)
  · have hb : b ≠ a := by
      intro q
      subst q
      have : xk_k C b = 30 + t2 := hkb
      omega
    rw [e3 b hb]
    exact p6 b t2 ht2 hkb
  · by_cases hb : b = a
    · subst hb
      have htt : t2 = t := by
        have : xk_k C b = 30 + t2 := hkb
        omega
      subst htt
      refine Or.inl ?_
      rw [e1]
      unfold xk_sQ xk_l xk_q
      simp
    · exact (p7 b t2 ht2 ht3 hkb).kept (e3 b hb) rfl (fun j => by unfold xk_sQ xk_q; simp [hb])
theorem xk_nfw : nativeFrameWords "java/lang/System" "arraycopy" 5 ≤ 20 := by decide +kernel
theorem xk_nn (z : Int32) (hz : ¬ z < 0) : z.toInt = (z.toNatClampNeg : Int) := by
  have hz0 : (0 : Int) ≤ z.toInt := by
    have := Int32.not_lt.mp hz
    simpa using Int32.le_iff_toInt_le.mp this
  show z.toInt = ((z.toInt.toNat : Nat) : Int)
  omega
section XR
variable {w : gw_W} {X : gx_X} {mi : gx_M} {n dc ds : Nat} {P' : Heap → Prop} {oc : Outcome} {cs ss pc : Nat} {lv : List (Option Value)} {rest : List Value} {C : xk_C}
theorem xk_gsd (hX : gx_O (gw_I w (gx_A X)) X mi n dc ds P' oc) {index : Nat} (hq : Cond.fieldLink mi.1 index "java/util/ArrayList" "DEFAULTCAPACITY_EMPTY_ELEMENTDATA" "[Ljava/lang/Object;" ∈ lw_all) (hd : decode mi.2.2.1 pc = .ok (.getstatic index, 3)) (kk : gx_G X (xk_P (gx_A X) w C) cs ss lv (pc + 3) (va_rf (some (xk_d C)) :: rest)) : gx_G X (xk_P (gx_A X) w C) cs ss lv pc rest := fun H locs ls hP hS hl => by
  have h := kk H locs ls hP hS hl
  rw [hP.2.1.1] at h
  exact va_gets hX.1 hX.2.1 hX.2.2.2.2.2.2.2.1.2.2.1 hS hX.2.2.2.2.1 (hX.2.2.2.2.2.1 _ hq) (fun _ h => h) hd h
theorem xk_gs1 (hX : gx_O (gw_I w (gx_A X)) X mi n dc ds P' oc) {index : Nat} (hq : Cond.fieldLink mi.1 index "java/lang/Throwable" "UNASSIGNED_STACK" "[Ljava/lang/StackTraceElement;" ∈ lw_all) (hd : decode mi.2.2.1 pc = .ok (.getstatic index, 3)) (kk : gx_G X (xk_P (gx_A X) w C) cs ss lv (pc + 3) (va_rf (xk_u1 C) :: rest)) : gx_G X (xk_P (gx_A X) w C) cs ss lv pc rest := fun H locs ls hP hS hl => by
  have h := kk H locs ls hP hS hl
  rw [hP.2.1.2.1] at h
  exact va_gets hX.1 hX.2.1 hX.2.2.2.2.2.2.2.1.2.2.2.1 hS hX.2.2.2.2.1 (hX.2.2.2.2.2.1 _ hq) (fun _ h => h) hd h
theorem xk_gs2 (hX : gx_O (gw_I w (gx_A X)) X mi n dc ds P' oc) {index : Nat} (hq : Cond.fieldLink mi.1 index "java/lang/Throwable" "SUPPRESSED_SENTINEL" "Ljava/util/List;" ∈ lw_all) (hd : decode mi.2.2.1 pc = .ok (.getstatic index, 3)) (kk : gx_G X (xk_P (gx_A X) w C) cs ss lv (pc + 3) (va_rf (xk_u2 C) :: rest)) : gx_G X (xk_P (gx_A X) w C) cs ss lv pc rest := fun H locs ls hP hS hl => by
  have h := kk H locs ls hP hS hl
  rw [hP.2.1.2.2.1] at h
  exact va_gets hX.1 hX.2.1 hX.2.2.2.2.2.2.2.1.2.2.2.2.1 hS hX.2.2.2.2.1 (hX.2.2.2.2.2.1 _ hq) (fun _ h => h) hd h
theorem xk_ldm (hX : gx_O (gw_I w (gx_A X)) X mi n dc ds P' oc) {index : Nat} (hq : Cond.classLink mi.1 index "[Ljava/lang/Object;" ∈ lw_all) (hd : decode mi.2.2.1 pc = .ok (.ldc index, 2)) (kk : gx_G X (xk_P (gx_A X) w C) cs ss lv (pc + 2) (va_rf (some (xk_mi C)) :: rest)) : gx_G X (xk_P (gx_A X) w C) cs ss lv pc rest := fun H locs ls hP hS hl => by
  have h := kk H locs ls hP hS hl
  rw [hP.2.1.2.2.2] at h
  exact va_ldcM hX.1 hX.2.1 hX.2.2.2.2.1 (hX.2.2.2.2.2.1 _ hq) hX.2.2.2.2.2.2.2.1.2.2.2.2.2.1 hd h
theorem xk_obf (hX : gx_O (gw_I w (gx_A X)) X mi n dc ds P' oc) : (gx_s X).vm.findClass "[Ljava/lang/Object;" = some (gw_dA w 4) := by
  have h := (xk_arr hX (t := 4) (by decide)).2
  obtain ⟨_, _, -, -, -, r4⟩ := h
  exact r4
theorem xk_gcl (hX : gx_O (gw_I w (gx_A X)) X mi n dc ds P' oc) {index : Nat} {x : Option Nat} {ρ : Type} {g : Nat → Option ρ} {r : ρ} (hq : Cond.methodLink mi.1 index ⟨"java/lang/Object", "getClass", "()Ljava/lang/Class;"⟩ ∈ lw_all ∧ Cond.instanceMethod ⟨"java/lang/Object", "getClass", "()Ljava/lang/Class;"⟩ ∈ lw_all ∧ Cond.native ⟨"java/lang/Object", "getClass", "()Ljava/lang/Class;"⟩ ∈ lw_all ∧ Cond.selects "[Ljava/lang/Object;" ⟨"java/lang/Object", "getClass", "()Ljava/lang/Class;"⟩ ⟨"java/lang/Object", "getClass", "()Ljava/lang/Class;"⟩ ∈ lw_all) (hdc : Cond.declares ⟨"java/lang/Object", "getClass", "()Ljava/lang/Class;"⟩ ∈ lw_tbl) (hn : 1 ≤ n) (hW : (rest.map fun v => v.category).sum ≤ 8) (hlen : mi.2.2.2.1 = lv.length) (hd : decode mi.2.2.1 pc = .ok (.invokevirtual index, 3)) (h : (xk_is C 34 x).bind g = some r) (kk : ∀ a, g a = some r → gx_G X (xk_P (gx_A X) w C) cs ss lv (pc + 3) (va_rf (some (xk_mi C)) :: rest)) : gx_G X (xk_P (gx_A X) w C) cs ss lv pc (va_rf x :: rest) := fun H locs ls hP hS hl => by
  have hts := hX.2.2.2.2.2.1
  have hR := hX.2.2.2.2.2.2.2.2.2.1
  unfold xk_is at h
  cases x with
  | none => cases h
  | some a =>
    dsimp only at h
    by_cases hk : xk_k C a = 34
    · rw [if_pos hk] at h
      have h2 := kk a h H locs ls hP hS hl
      rw [hP.2.1.2.2.2] at h2
      refine va_getC hX.1 hX.2.1 (hX.2.2.2.1.trans (hlen.trans hl.1.symm)) hX.2.2.2.2.1 (hts _ hq.1) (va_Nw.use rfl (hX.2.2.2.2.2.2.2.1.2.1 _ (gw_xq hdc rfl))) (hts _ hq.2.2.2) (hts _ hq.2.1) (hts _ hq.2.2.1) hX.2.2.2.2.2.2.2.1.2.2.2.2.2.1 (by obtain ⟨cell, c1, c2, c3, c4, c5⟩ := (hP.2.2.2.2.2.2 a 4 (by decide) (by decide) hk).cell; exact ⟨cell, c1, c5, by rw [c2]; exact xk_obf hX⟩) (Nat.le_trans hn hR.1) (by have h40 := hR.2.2.2; show _ ≤ (gx_R X).locals; omega) hd h2
    · rw [if_neg hk] at h
      cases h
theorem xk_castA (hX : gx_O (gw_I w (gx_A X)) X mi n dc ds P' oc) {index : Nat} (t : Nat) {nm : String} {x : Option Nat} {ρ : Type} {g : Unit → Option ρ} {r : ρ} (ht : t < 10) (hnm : (gx_s X).vm.findClass nm = some (gw_dA w t)) (hq : Cond.classLink mi.1 index nm ∈ lw_all) (hd : decode mi.2.2.1 pc = .ok (.checkcast index, 3)) (h : (xk_ck C (30 + t) x).bind g = some r) (kk : g () = some r → gx_G X (xk_P (gx_A X) w C) cs ss lv (pc + 3) (va_rf x :: rest)) : gx_G X (xk_P (gx_A X) w C) cs ss lv pc (va_rf x :: rest) := fun H locs ls hP hS hl => by
  unfold xk_ck at h
  cases x with
  | none => exact lv_castN hX.1 hX.2.1 hd (kk h H locs ls hP hS hl)
  | some a =>
    dsimp only at h
    by_cases hk : xk_k C a = 30 + t
    · rw [if_pos hk] at h
      have hc : ∃ cell : Cell, H[a]? = some cell ∧ cell.vm.isStatics = false ∧ cell.cls = gw_dA w t := by
        by_cases h4 : t < 4
        · exact ⟨_, hP.2.2.2.2.2.1 a t h4 hk, rfl, rfl⟩
        · obtain ⟨cell, c1, c2, c3, c4, c5⟩ := (hP.2.2.2.2.2.2 a t (Nat.not_lt.mp h4) ht hk).cell
          exact ⟨cell, c1, c5, c2⟩
      obtain ⟨cell, c1, c2, c3⟩ := hc
      have k := kk h H locs ls hP hS hl
      intro T hT Y
      obtain ⟨vm', X', st⟩ := Y.checkcastYes hX.1 hX.2.2.2.2.1 (hX.2.2.2.2.2.1 _ hq) (by rw [hT]; exact c1) c2 hnm (by rw [c3]; exact va_asg _ _) (g := F0 (gx_m X) pc ls (.ref a :: rest)) rfl rfl (by rw [hX.2.1]; exact hd)
      obtain ⟨t, a1, b1⟩ := k (T.setVm vm') hT X'
      exact ⟨t, st t a1, b1⟩
    · rw [if_neg hk] at h
      cases h
theorem xk_intf (hX : gx_O (gw_I w (gx_A X)) X mi n dc ds P' oc) : (gx_s X).vm.findClass "[I" = some (gw_dA w 0) := (xk_arr hX (t := 0) (by decide)).2
theorem xk_clone (hX : gx_O (gw_I w (gx_A X)) X mi n dc ds P' oc) {index : Nat} {x : Option Nat} {ρ : Type} {g : xk_C → Option ρ} {r : ρ} (hq : Cond.methodLink mi.1 index ⟨"[I", "clone", "()Ljava/lang/Object;"⟩ ∈ lw_all ∧ Cond.sameMethod "[I" "java/lang/Object" "clone" "()Ljava/lang/Object;" ∈ lw_all ∧ Cond.native ⟨"java/lang/Object", "clone", "()Ljava/lang/Object;"⟩ ∈ lw_all ∧ Cond.instanceMethod ⟨"java/lang/Object", "clone", "()Ljava/lang/Object;"⟩ ∈ lw_all ∧ Cond.selects "[I" ⟨"[I", "clone", "()Ljava/lang/Object;"⟩ ⟨"java/lang/Object", "clone", "()Ljava/lang/Object;"⟩ ∈ lw_all) (hcl : Cond.castable "[I" "java/lang/Cloneable" ∈ lw_tbl) (hn : 1 ≤ n) (hW : (rest.map fun v => v.category).sum ≤ 8) (hlen : mi.2.2.2.1 = lv.length) (hd : decode mi.2.2.1 pc = .ok (.invokevirtual index, 3)) (h : (xk_cln C x).bind g = some r) (kk : ∀ a, x = some a → ∀ τ, (xk_n τ = xk_n C + 1 ∧ xk_s τ = xk_s C + xk_l C a) → g τ = some r → (cs + 1 ≤ dc ∧ ss + xk_l C a ≤ ds) ∧ gx_G X (xk_P (gx_A X) w τ) (cs + 1) (ss + xk_l C a) lv (pc + 3) (va_rf (some (xk_n C)) :: rest)) : gx_G X (xk_P (gx_A X) w C) cs ss lv pc (va_rf x :: rest) := fun H locs ls hP hS hl => by
  have hts := hX.2.2.2.2.2.1
  have hR := hX.2.2.2.2.2.2.2.2.2.1
  unfold xk_cln at h
  cases x with
  | none => cases h
  | some a =>
    dsimp only at h
    by_cases hk : xk_k C a = 30
    case neg =>
      rw [if_neg hk] at h
      cases h
    rw [if_pos hk] at h
    have hf := (kk a rfl _ ⟨rfl, rfl⟩ h).1
    have hcell := hP.2.2.2.2.2.1 a 0 (by decide) hk
    obtain ⟨c0, t0', f1, f2, f3⟩ := Cond.castable_spec (va_Nw.use (A := gx_args X) rfl (hX.2.2.2.2.2.2.2.1.2.1 _ (gw_xq hcl rfl)))
    cases (xk_intf hX).symm.trans f1
    intro T hT Y
    obtain ⟨-, kA, hkA, comp, hkind⟩ := State.isArrayOf_alike Y.warmed.alike ((xk_arr hX (t := 0) (by decide)).1 0 (fun _ => .null))
    obtain ⟨-, kS, hkS, compS, hkindS⟩ := (xk_arr hX (t := 0) (by decide)).1 0 (fun _ => .null)
    obtain ⟨vm', X', st⟩ := Y.cloneArray hX.1 hX.2.2.2.2.1 (hts _ hq.1) (hts _ hq.2.1) (hts _ hq.2.2.1) (hts _ hq.2.2.2.1) (hts _ hq.2.2.2.2) (a := a) (cell := arrV (gw_dA w 0) (xk_l C a) (fun j => .int (xk_e C a j))) (by rw [hT]; exact hcell) (fun k h => by cases h) (fun h => by cases h) (xk_intf hX) f2 f3
      (fun i v hv => by
        have hk' : T.vm.classes[gw_dA w 0]? = some kA := hkA
        have hi : i < xk_l C a := by
          have := (Array.getElem?_eq_some_iff.mp hv).1
          rw [arrV_size] at this
          exact this
        rw [arrV_read _ _ hi] at hv
        cases hv
        show State.fitsSlot T (gw_dA w 0) .none i (.int (xk_e C a i)) = true
        have hfit : fits (xk_at9 0) (.int (xk_e C a i)) = true := rfl
        simpa [State.fitsSlot, State.slotType?, hk', hkind] using hfit)
      (g := F0 (gx_m X) pc ls (.ref a :: rest)) rfl ((hX.2.2.2.1.trans (hlen.trans hl.1.symm)).symm) rfl (by rw [hX.2.1]; exact hd) (Nat.le_trans hn hR.1) (by have h40 := hR.2.2.2; show 2 * 0 + _ + 14 ≤ (gx_R X).locals; omega) (Nat.le_trans hf.1 hR.2.1) (by rw [arrV_size]; exact Nat.le_trans hf.2 hR.2.2.1) (hloader := Vm.clonesLoader_of_array hkS hkindS)
    rw [arrV_size] at X'
    have hcellE : ({ cls := (arrV (gw_dA w 0) (xk_l C a) (fun j => .int (xk_e C a j))).cls, slots := (arrV (gw_dA w 0) (xk_l C a) (fun j => .int (xk_e C a j))).slots } : Cell) = arrV (gw_dA w 0) (xk_l C a) (fun j => .int (xk_e C a j)) := rfl
    rw [hcellE] at X' st
    generalize hH1 : H.push (arrV (gw_dA w 0) (xk_l C a) (fun j => .int (xk_e C a j))) = H1
    have z1 : H1.size = xk_n C + 1 := by rw [← hH1, Array.size_push, hP.1]
    have e1 : H1[xk_n C]? = some (arrV (gw_dA w 0) (xk_l C a) (fun j => .int (xk_e C a j))) := by rw [← hH1, ← hP.1, Array.getElem?_push_size]
    have o1 : ∀ q : Nat, q < xk_n C → H1[q]? = H[q]? := fun q hq => by rw [← hH1, Array.getElem?_push, if_neg (by rw [hP.1]; exact Nat.ne_of_lt hq)]
    -- through a heap with the blank array
    have hB : xk_P (gx_A X) w (xk_mk C 30 (xk_l C a) (xk_l C a)) (H.push (arrV (gw_dA w 0) (xk_l C a) (fun _ => .int 0))) := by
      refine hP.grow (by rw [Array.size_push, hP.1]) (fun q hq => by rw [Array.getElem?_push, if_neg (by rw [hP.1]; exact Nat.ne_of_lt hq)]) (fun cj hcj hj3 e => by omega) (fun t2 ht2 e => ?_) (fun t2 h4 ht2 e => by omega)
      have : t2 = 0 := by omega
      subst this
      rw [← hP.1, Array.getElem?_push_size]
    have hP1 : xk_P (gx_A X) w (xk_sE (xk_mk C 30 (xk_l C a) (xk_l C a)) (xk_n C) (xk_e C a)) H1 := by
      refine hB.setE (t := 0) (by decide) (by unfold xk_mk xk_k; simp) ?_ (by rw [z1, Array.size_push, hP.1]) (fun q hq => ?_)
      · rw [e1]
        unfold xk_mk xk_l
        simp
      · rw [← hH1, Array.getElem?_push, Array.getElem?_push, hP.1]
        by_cases h2 : q = xk_n C
        · exact absurd h2 hq
        · rw [if_neg h2, if_neg h2]
    obtain ⟨t, b1, b2⟩ := (kk a rfl _ ⟨rfl, rfl⟩ h).2 H1 locs ls hP1 ⟨Nat.le_trans hS.1 (by rw [z1, hP.1]; exact Nat.le_succ _), fun q g1 g2 => (o1 q (by rw [← hP.1]; exact Nat.lt_of_lt_of_le g1 hS.1)).trans (hS.2.1 q g1 g2), hS.2.2⟩ hl ((T.setVm vm').pushCell (arrV (gw_dA w 0) (xk_l C a) (fun j => .int (xk_e C a j)))) (by rw [← hH1, ← hT]; rfl) X'
    refine ⟨t, st t ?_, b2⟩
    rw [hT, hP.1]
    exact b1
theorem xk_copyi (hX : gx_O (gw_I w (gx_A X)) X mi n dc ds P' oc) {index : Nat} {x y : Option Nat} {sp dp k : Int32} {ρ : Type} {g : xk_C → Option ρ} {r : ρ} (hq : Cond.methodLink mi.1 index arraycopyName ∈ lw_all ∧ Cond.native arraycopyName ∈ lw_all ∧ Cond.static arraycopyName ∈ lw_all ∧ Cond.initialized "java/lang/System" ∈ lw_all) (hn : 1 ≤ n) (hW : (rest.map fun v => v.category).sum ≤ 8) (hlen : mi.2.2.2.1 = lv.length) (hd : decode mi.2.2.1 pc = .ok (.invokestatic index, 3)) (h : (xk_cpi C x sp y dp k).bind g = some r) (kk : ∀ τ, (xk_n τ = xk_n C ∧ xk_s τ = xk_s C) → g τ = some r → gx_G X (xk_P (gx_A X) w τ) cs ss lv (pc + 3) rest) : gx_G X (xk_P (gx_A X) w C) cs ss lv pc (.int k :: .int dp :: va_rf y :: .int sp :: va_rf x :: rest) := fun H locs ls hP hS hl => by
  have hts := hX.2.2.2.2.2.1
  have hR := hX.2.2.2.2.2.2.2.2.2.1
  unfold xk_cpi at h
  cases ho : xk_cpr C 0 x sp y dp k with
  | none => rw [ho] at h; cases h
  | some ab =>
    obtain ⟨a, b⟩ := ab
    rw [ho] at h
    dsimp only at h
    obtain ⟨rfl, rfl, ⟨ka, kb, h1, h2⟩, h3, h4, h5⟩ := xk_cprS ho
    by_cases hc2 : xk_l C b = 0
    · rw [if_pos hc2] at h
      cases h
    rw [if_neg hc2] at h
    have hb0 := hc2
    have hAb : gx_A X b := by
      rcases hP.2.2.2.1 b (by rw [kb]; omega) with q | q
      · exact q
      · exact absurd q.2 hb0
    have hc0 := hP.2.2.2.2.2.1 a 0 (by decide) ka
    have hc1 := hP.2.2.2.2.2.1 b 0 (by decide) kb
    intro T hT Y
    obtain ⟨-, k0, hk0, cm0, hkk0⟩ := (xk_arr hX (t := 0) (by decide)).1 (xk_l C a) (fun j => .int (xk_e C a j))
    obtain ⟨-, k1, hk1, cm1, hkk1⟩ := (xk_arr hX (t := 0) (by decide)).1 (xk_l C b) (fun j => .int (xk_e C b j))
    obtain ⟨vm', X', step⟩ := Y.arraycopy hX.1 hX.2.2.2.2.1 (hts _ hq.1) (hts _ hq.2.1) (hts _ hq.2.2.1) (hts _ hq.2.2.2) (src := a) (dst := b) (cs := (arrV (gw_dA w 0) (xk_l C a) (fun j => .int (xk_e C a j)))) (cd := (arrV (gw_dA w 0) (xk_l C b) (fun j => .int (xk_e C b j)))) (srcPos := sp) (destPos := dp) (n := k) (by rw [hT]; exact hc0) (by rw [hT]; exact hc1)
      (fun _ h => by cases h) (fun _ h => by cases h) (fun h => by cases h) (fun h => by cases h) hk0 hk1 hkk0 hkk1 (by rfl) h1 h2 h3
      (by rw [xk_nn sp h1, xk_nn k h3, arrV_size]; omega)
      (by rw [xk_nn dp h2, xk_nn k h3, arrV_size]; omega)
      (fun vm₁ hal i hi => by
        have e : (arrV (gw_dA w 0) (xk_l C a) (fun j => .int (xk_e C a j))).slots.getD (sp.toNatClampNeg + i) .null = .int (xk_e C a (sp.toNatClampNeg + i)) := by
          rw [Array.getD_eq_getD_getElem?, arrV_read _ _ (by omega)]
          rfl
        rw [e]
        refine ⟨rfl, trivial⟩)
      (g := F0 (gx_m X) pc ls (.int k :: .int dp :: .ref b :: .int sp :: .ref a :: rest)) rfl ((hX.2.2.2.1.trans (hlen.trans hl.1.symm)).symm) (rest := rest) rfl (by rw [hX.2.1]; exact hd) (Nat.le_trans hn hR.1) (by have h40 := hR.2.2.2; show 2 * 0 + _ + (nativeFrameWords "java/lang/System" "arraycopy" 5 + 11) ≤ (gx_R X).locals; have h20 := xk_nfw; omega)
    have e1 : copied (arrV (gw_dA w 0) (xk_l C a) (fun j => .int (xk_e C a j))) (arrV (gw_dA w 0) (xk_l C b) (fun j => .int (xk_e C b j))) sp dp k = (arrV (gw_dA w 0) (xk_l C b) (fun j => .int (va_cpy (xk_e C a) (xk_e C b) sp.toNatClampNeg dp.toNatClampNeg k.toNatClampNeg j))) := va_copied (fun z => .int z) (gw_dA w 0) (gw_dA w 0) (xk_e C a) (xk_e C b) h4
    rw [e1] at X' step
    have hl0 : b < H.size := (Array.getElem?_eq_some_iff.mp hc1).1
    have oq : ∀ q : Nat, q ≠ b → (H.setIfInBounds b (arrV (gw_dA w 0) (xk_l C b) (fun j => .int (va_cpy (xk_e C a) (xk_e C b) sp.toNatClampNeg dp.toNatClampNeg k.toNatClampNeg j))))[q]? = H[q]? := fun q hq => by simp [Array.getElem?_setIfInBounds, Ne.symm hq]
    have eb : (H.setIfInBounds b (arrV (gw_dA w 0) (xk_l C b) (fun j => .int (va_cpy (xk_e C a) (xk_e C b) sp.toNatClampNeg dp.toNatClampNeg k.toNatClampNeg j))))[b]? = some (arrV (gw_dA w 0) (xk_l C b) (fun j => .int (va_cpy (xk_e C a) (xk_e C b) sp.toNatClampNeg dp.toNatClampNeg k.toNatClampNeg j))) := by simp [Array.getElem?_setIfInBounds, hl0]
    obtain ⟨t1, a1, b1⟩ := kk (xk_sE C b (va_cpy (xk_e C a) (xk_e C b) sp.toNatClampNeg dp.toNatClampNeg k.toNatClampNeg)) ⟨rfl, rfl⟩ h (H.setIfInBounds b (arrV (gw_dA w 0) (xk_l C b) (fun j => .int (va_cpy (xk_e C a) (xk_e C b) sp.toNatClampNeg dp.toNatClampNeg k.toNatClampNeg j)))) _ ls (hP.setE (t := 0) (by decide) kb eb (by simp) oq) ⟨by simp; exact hS.1, fun q g1 g2 => by
        rw [oq q (fun e => g2 (by rw [e]; exact hAb))]
        exact hS.2.1 q g1 g2, fun q hq => by
        rcases List.mem_append.mp hq with h | h
        · exact hS.2.2 q h
        · obtain ⟨z, -, hz⟩ := List.mem_map.mp h
          rw [← hz]
          exact hAb⟩ hl _ (by rw [← hT]; rfl) X'
    exact ⟨t1, step t1 a1, b1⟩
theorem xk_copyq (hX : gx_O (gw_I w (gx_A X)) X mi n dc ds P' oc) {index : Nat} (t : Nat) (ht : 4 ≤ t ∧ t < 9) {x y : Option Nat} {sp dp k : Int32} {ρ : Type} {g : xk_C → Option ρ} {r : ρ} (hq : Cond.methodLink mi.1 index arraycopyName ∈ lw_all ∧ Cond.native arraycopyName ∈ lw_all ∧ Cond.static arraycopyName ∈ lw_all ∧ Cond.initialized "java/lang/System" ∈ lw_all) (hn : 1 ≤ n) (hW : (rest.map fun v => v.category).sum ≤ 8) (hlen : mi.2.2.2.1 = lv.length) (hd : decode mi.2.2.1 pc = .ok (.invokestatic index, 3)) (h : (xk_cpq C t x sp y dp k).bind g = some r) (kk : ∀ τ, (xk_n τ = xk_n C ∧ xk_s τ = xk_s C) → g τ = some r → gx_G X (xk_P (gx_A X) w τ) cs ss lv (pc + 3) rest) : gx_G X (xk_P (gx_A X) w C) cs ss lv pc (.int k :: .int dp :: va_rf y :: .int sp :: va_rf x :: rest) := fun H locs ls hP hS hl => by
  have hts := hX.2.2.2.2.2.1
  have hR := hX.2.2.2.2.2.2.2.2.2.1
  unfold xk_cpq at h
  cases ho : xk_cpr C t x sp y dp k with
  | none => rw [ho] at h; cases h
  | some ab =>
    obtain ⟨a, b⟩ := ab
    rw [ho] at h
    dsimp only at h
    obtain ⟨rfl, rfl, ⟨ka, kb, h1, h2⟩, h3, h4, h5⟩ := xk_cprS ho
    by_cases hc2 : (xk_l C a ≠ 0 ∧ xk_l C b ≠ 0) ∧ ((List.range k.toNatClampNeg).all fun i => xk_fitq C t (xk_q C a (sp.toNatClampNeg + i))) = true
    case neg =>
      rw [if_neg hc2] at h
      cases h
    rw [if_pos hc2] at h
    have hb0 := hc2.1.2
    have ha0 := hc2.1.1
    have h9 := (xk_ao hX ht.1 ht.2).2
    have hAb : gx_A X b := by
      rcases hP.2.2.2.1 b (by rw [kb]; omega) with q | q
      · exact q
      · exact absurd q.2 hb0
    have hc0 := (hP.2.2.2.2.2.2 a t ht.1 (by omega) ka).len (by omega)
    have hc1 := (hP.2.2.2.2.2.2 b t ht.1 (by omega) kb).len (by omega)
    intro T hT Y
    obtain ⟨-, k0, hk0, cm0, hkk0⟩ := (xk_arr hX (t := t) (by omega)).1 (xk_l C a) (fun j => va_rf (xk_q C a j))
    obtain ⟨-, k1, hk1, cm1, hkk1⟩ := (xk_arr hX (t := t) (by omega)).1 (xk_l C b) (fun j => va_rf (xk_q C b j))
    obtain ⟨vm', X', step⟩ := Y.arraycopy hX.1 hX.2.2.2.2.1 (hts _ hq.1) (hts _ hq.2.1) (hts _ hq.2.2.1) (hts _ hq.2.2.2) (src := a) (dst := b) (cs := (arrV (gw_dA w t) (xk_l C a) (fun j => va_rf (xk_q C a j)))) (cd := (arrV (gw_dA w t) (xk_l C b) (fun j => va_rf (xk_q C b j)))) (srcPos := sp) (destPos := dp) (n := k) (by rw [hT]; exact hc0) (by rw [hT]; exact hc1)
      (fun _ h => by cases h) (fun _ h => by cases h) (fun h => by cases h) (fun h => by cases h) hk0 hk1 hkk0 hkk1 (by rw [h9]; rfl) h1 h2 h3
      (by rw [xk_nn sp h1, xk_nn k h3, arrV_size]; omega)
      (by rw [xk_nn dp h2, xk_nn k h3, arrV_size]; omega)
      (fun vm₁ hal i hi => by
        have e : (arrV (gw_dA w t) (xk_l C a) (fun j => va_rf (xk_q C a j))).slots.getD (sp.toNatClampNeg + i) .null = va_rf (xk_q C a (sp.toNatClampNeg + i)) := by
          rw [Array.getD_eq_getD_getElem?, arrV_read _ _ (by omega)]
          rfl
        rw [e]
        have hfi : xk_fitq C t (xk_q C a (sp.toNatClampNeg + i)) = true := by
          have := hc2.2
          rw [List.all_eq_true] at this
          exact this i (List.mem_range.mpr hi)
        cases hy : xk_q C a (sp.toNatClampNeg + i) with
        | none =>
          rw [h9]
          exact ⟨rfl, trivial⟩
        | some y =>
          rw [hy] at hfi
          have hb0 : xk_k C y ≠ 0 := by
            intro q
            have : xk_hold t (xk_k C y) = true := hfi
            rw [q] at this
            have ht5 : t = 4 ∨ t = 5 ∨ t = 6 ∨ t = 7 ∨ t = 8 := by omega
            rcases ht5 with rfl | rfl | rfl | rfl | rfl <;> exact absurd this (by decide)
          obtain ⟨ci, hci⟩ : ∃ ci, xk_k C y = ci + 1 := ⟨xk_k C y - 1, by omega⟩
          have hh2 : xk_hold t (ci + 1) = true := by rw [← hci]; exact hfi
          obtain ⟨c1, c3, hasg⟩ := xk_asg hX ht.1 ht.2 hh2
          obtain ⟨cellV, g1, g2, g3, -⟩ := hP.2.2.2.2.1 y ci c1 c3 hci
          obtain ⟨-, hfc, kC, hkC, -⟩ := hX.2.2.2.2.2.2.2.1.1.1 ci _ (xk_at ci c1)
          have hRA := (xk_arr hX (t := t) (by omega)).2
          rw [h9] at hRA
          obtain ⟨kA, comp, r1, r2, r3, -⟩ := hRA
          cases hk1.symm.trans r1
          have hkk2 := hkk1
          rw [h9] at hkk2
          cases hkk2.symm.trans r2
          obtain ⟨kE, hkE, -⟩ := Vm.findClass_spec r3
          obtain ⟨kC', hkC', -⟩ := hal.2.2 _ _ hkC
          obtain ⟨kE', hkE', -⟩ := hal.2.2 _ _ hkE
          rw [h9]
          refine ⟨rfl, cellV, (show T.heap[y]? = some cellV by rw [hT]; exact g1), (fun q h => by rw [g3] at h; cases h), ⟨kC', by rw [g2]; exact hkC'⟩, ?_, ?_⟩
          · exact ⟨kE', hkE'⟩
          · show vm₁.assignable _ _ = true
            rw [hal.assignable, g2]
            exact hasg _ r3)
      (g := F0 (gx_m X) pc ls (.int k :: .int dp :: .ref b :: .int sp :: .ref a :: rest)) rfl ((hX.2.2.2.1.trans (hlen.trans hl.1.symm)).symm) (rest := rest) rfl (by rw [hX.2.1]; exact hd) (Nat.le_trans hn hR.1) (by have h40 := hR.2.2.2; show 2 * 0 + _ + (nativeFrameWords "java/lang/System" "arraycopy" 5 + 11) ≤ (gx_R X).locals; have h20 := xk_nfw; omega)
    have e1 : copied (arrV (gw_dA w t) (xk_l C a) (fun j => va_rf (xk_q C a j))) (arrV (gw_dA w t) (xk_l C b) (fun j => va_rf (xk_q C b j))) sp dp k = (arrV (gw_dA w t) (xk_l C b) (fun j => va_rf (va_cpy (xk_q C a) (xk_q C b) sp.toNatClampNeg dp.toNatClampNeg k.toNatClampNeg j))) := va_copied (fun z => va_rf z) (gw_dA w t) (gw_dA w t) (xk_q C a) (xk_q C b) h4
    rw [e1] at X' step
    have hl0 : b < H.size := (Array.getElem?_eq_some_iff.mp hc1).1
    have oq : ∀ q : Nat, q ≠ b → (H.setIfInBounds b (arrV (gw_dA w t) (xk_l C b) (fun j => va_rf (va_cpy (xk_q C a) (xk_q C b) sp.toNatClampNeg dp.toNatClampNeg k.toNatClampNeg j))))[q]? = H[q]? := fun q hq => by simp [Array.getElem?_setIfInBounds, Ne.symm hq]
    have eb : (H.setIfInBounds b (arrV (gw_dA w t) (xk_l C b) (fun j => va_rf (va_cpy (xk_q C a) (xk_q C b) sp.toNatClampNeg dp.toNatClampNeg k.toNatClampNeg j))))[b]? = some (arrV (gw_dA w t) (xk_l C b) (fun j => va_rf (va_cpy (xk_q C a) (xk_q C b) sp.toNatClampNeg dp.toNatClampNeg k.toNatClampNeg j))) := by simp [Array.getElem?_setIfInBounds, hl0]
    obtain ⟨t1, a1, b1⟩ := kk (xk_sQ C b (va_cpy (xk_q C a) (xk_q C b) sp.toNatClampNeg dp.toNatClampNeg k.toNatClampNeg)) ⟨rfl, rfl⟩ h (H.setIfInBounds b (arrV (gw_dA w t) (xk_l C b) (fun j => va_rf (va_cpy (xk_q C a) (xk_q C b) sp.toNatClampNeg dp.toNatClampNeg k.toNatClampNeg j)))) _ ls (hP.setQ (t := t) ht.1 (by omega) kb eb (by simp) oq) ⟨by simp; exact hS.1, fun q g1 g2 => by
        rw [oq q (fun e => g2 (by rw [e]; exact hAb))]
        exact hS.2.1 q g1 g2, fun q hq => by
        rcases List.mem_append.mp hq with h | h
        · exact hS.2.2 q h
        · obtain ⟨z, -, hz⟩ := List.mem_map.mp h
          rw [← hz]
          exact hAb⟩ hl _ (by rw [← hT]; rfl) X'
    exact ⟨t1, step t1 a1, b1⟩
end XR
section XR
variable {w : gw_W} {X : gx_X} {mi : gx_M} {n dc ds : Nat} {P' : Heap → Prop} {oc : Outcome} {cs ss pc : Nat} {lv : List (Option Value)} {rest : List Value} {C : xk_C}
theorem xk_anewC (hX : gx_O (gw_I w (gx_A X)) X mi n dc ds P' oc) {index : Nat} {i : Int32} {ρ : Type} {g : xk_C → Option ρ} {r : ρ} (hq : Cond.classLink mi.1 index "[C" ∈ lw_all) (hd : decode mi.2.2.1 pc = .ok (.anewarray index, 3)) (h : (xk_na C 9 i).bind g = some r) (kk : ∀ τ, (xk_n τ = xk_n C + 1 ∧ xk_s τ = xk_s C + i.toNatClampNeg) → g τ = some r → (cs + 1 ≤ dc ∧ ss + i.toNatClampNeg ≤ ds) ∧ gx_G X (xk_P (gx_A X) w τ) (cs + 1) (ss + i.toNatClampNeg) lv (pc + 3) (va_rf (some (xk_n C)) :: rest)) : gx_G X (xk_P (gx_A X) w C) cs ss lv pc (.int i :: rest) := fun H locs ls hP hS hl => by
  unfold xk_na at h
  by_cases hc : i < 0 ∨ 1000000 < i.toNatClampNeg
  case pos =>
    rw [if_pos hc] at h
    cases h
  rw [if_neg hc] at h
  have hR := hX.2.2.2.2.2.2.2.2.2.1
  have hf := (kk (xk_mk C (30 + 9) i.toNatClampNeg i.toNatClampNeg) ⟨rfl, rfl⟩ h).1
  obtain ⟨-, -, -, -, -, -, -, -, -, -, -, a1, a2, a3, a4, a5, hao⟩ := hX.2.2.2.2.2.2.2.1
  refine W.anewA (t := .char) hX.1 hX.2.1 hX.2.2.2.2.1 (hX.2.2.2.2.2.1 _ hq) hao rfl hd rfl (fun q => hc (Or.inl q)) (by
    have h1 : i.toNatClampNeg ≤ 1000000 := Nat.not_lt.mp fun q => hc (Or.inr q)
    omega) (Nat.le_trans hf.1 hR.2.1) (Nat.le_trans hf.2 hR.2.2.1) fun cA kA comp f1 f2 f3 f4 => ?_
  have hcA : cA = gw_dA w 9 := by
    have h1 : (gx_s X).vm.findClass ("[" ++ (FieldType.array .char).toString) = some (gw_dA w 9) := (xk_arr hX (t := 9) (by decide)).2
    exact Option.some.inj (f1.symm.trans h1)
  generalize hH1 : H.push ({ cls := cA, slots := Array.replicate i.toNatClampNeg .null, vm := .none } : Cell) = H1
  have z1 : H1.size = xk_n C + 1 := by rw [← hH1, Array.size_push, hP.1]
  have e1 : H1[xk_n C]? = some (arrV cA i.toNatClampNeg (fun _ => .null)) := by rw [← hH1, ← hP.1, Array.getElem?_push_size, ← arrV_new]
  have o1 : ∀ q : Nat, q < xk_n C → H1[q]? = H[q]? := fun q hq => by rw [← hH1, Array.getElem?_push, if_neg (by rw [hP.1]; exact Nat.ne_of_lt hq)]
  have h2 := (kk (xk_mk C (30 + 9) i.toNatClampNeg i.toNatClampNeg) ⟨rfl, rfl⟩ h).2 H1 locs ls (hP.grow z1 o1 (fun cj hcj hj3 e => by omega) (fun t2 ht2 e => by omega) (fun t2 h4 ht2 e => by
    have : t2 = 9 := by omega
    subst this
    rw [← hcA]
    exact e1)) ⟨Nat.le_trans hS.1 (by rw [z1, hP.1]; exact Nat.le_succ _), fun q g1 g2 => (o1 q (by rw [← hP.1]; exact Nat.lt_of_lt_of_le g1 hS.1)).trans (hS.2.1 q g1 g2), hS.2.2⟩ hl
  rw [← hP.1] at h2
  exact h2
theorem xk_aastC (hX : gx_O (gw_I w (gx_A X)) X mi n dc ds P' oc) {x : Option Nat} {b : Nat} {i : Int32} {ρ : Type} {g : xk_C → Option ρ} {r : ρ} (hd : decode mi.2.2.1 pc = .ok (.aastore, 1)) (h : (xk_sa C 9 x i (some b)).bind g = some r) (kk : ∀ τ, (xk_n τ = xk_n C ∧ xk_s τ = xk_s C) → g τ = some r → gx_G X (xk_P (gx_A X) w τ) cs ss lv (pc + 1) rest) : gx_G X (xk_P (gx_A X) w C) cs ss lv pc (va_rf (some b) :: .int i :: va_rf x :: rest) := fun H locs ls hP hS hl => by
  unfold xk_sa at h
  cases ho : xk_ok C 9 x i with
  | none => rw [ho] at h; cases h
  | some a =>
    rw [ho] at h
    dsimp only at h
    obtain ⟨rfl, hk, hin⟩ := xk_okS ho
    by_cases hh : xk_fitq C 9 (some b) = true
    case neg =>
      rw [if_neg hh] at h
      cases h
    rw [if_pos hh] at h
    have hlt : i.toNatClampNeg < xk_l C a := Nat.not_le.mp fun q => hin (Or.inr q)
    have h0 : ¬ i < 0 := fun q => hin (Or.inl q)
    have hAa : gx_A X a := by
      rcases hP.2.2.2.1 a (by rw [hk]; omega) with q | q
      · exact q
      · omega
    have hcell := (hP.2.2.2.2.2.2 a 9 (by decide) (by decide) hk).len (by omega)
    have hkb : xk_k C b = 30 + 2 := by
      have : xk_hold 9 (xk_k C b) = true := hh
      simpa [xk_hold] using this
    have hcb := hP.2.2.2.2.2.1 b 2 (by decide) hkb
    obtain ⟨-, -, -, -, -, -, -, -, -, -, -, a1, a2, a3, a4, a5, hao⟩ := hX.2.2.2.2.2.2.2.1
    obtain ⟨comp, c9, k9, s1, -, s3, s4, s5⟩ := gw_AOC.spec hao
    have e9 : c9 = gw_dA w 9 := Option.some.inj (s5.symm.trans (xk_arr hX (t := 9) (by decide)).2)
    have e2 : comp = gw_dA w 2 := Option.some.inj (s1.symm.trans (xk_arr hX (t := 2) (by decide)).2)
    subst e9
    subst e2
    obtain ⟨kE, hkE, -⟩ := Vm.findClass_spec s1
    refine W.aast hX.1 hX.2.1 hcell (fun q h => by cases h) (fun h => by cases h) s3 s4 rfl hkE ⟨h0, by rw [arrV_size]; exact hlt⟩ hcb (fun q h => by cases h) hkE (va_asg _ _) rfl rfl hd fun H1 e z oq => ?_
    refine kk (xk_sq C a i.toNatClampNeg (some b)) ⟨rfl, rfl⟩ h H1 _ ls (hP.setq (by decide) (by decide) hk ?_ z oq) (hS.put z oq hAa) hl
    rw [e, arrV_store]
    rfl
end XR
