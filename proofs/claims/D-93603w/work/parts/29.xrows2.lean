set_option maxRecDepth 100000
theorem xk_nrc (v : Int32) : narrow .char (.int v) = .int ((v.toUInt32 % 65536).toInt32) := by
  have := vp_nar_char v
  unfold vp_nar at this
  exact rfl
section XR
variable {w : gw_W} {X : gx_X} {mi : gx_M} {n dc ds : Nat} {P' : Heap → Prop} {oc : Outcome} {cs ss pc : Nat} {lv : List (Option Value)} {rest : List Value} {C : xk_C}
theorem xk_okS {t : Nat} {x : Option Nat} {i : Int32} {a : Nat} (h : xk_ok C t x i = some a) : x = some a ∧ xk_k C a = 30 + t ∧ ¬ (i < 0 ∨ xk_l C a ≤ i.toNatClampNeg) := by
  unfold xk_ok at h
  cases x with
  | none => cases h
  | some b =>
    dsimp only at h
    by_cases hc : xk_k C b = 30 + t ∧ ¬ (i < 0 ∨ xk_l C b ≤ i.toNatClampNeg)
    · rw [if_pos hc] at h
      cases h
      exact ⟨rfl, hc⟩
    · rw [if_neg hc] at h
      cases h
theorem xk_ldS {t : Nat} {x : Option Nat} {i : Int32} {ρ : Type} {g : Int32 → Option ρ} {r : ρ} (h : (xk_ld C t x i).bind g = some r) : ∃ a, xk_ok C t x i = some a ∧ g (xk_e C a i.toNatClampNeg) = some r := by
  unfold xk_ld at h
  cases ho : xk_ok C t x i with
  | none => rw [ho] at h; cases h
  | some a => rw [ho] at h; exact ⟨a, rfl, h⟩
theorem xk_lqS {t : Nat} {x : Option Nat} {i : Int32} {ρ : Type} {g : Option Nat → Option ρ} {r : ρ} (h : (xk_lq C t x i).bind g = some r) : ∃ a, xk_ok C t x i = some a ∧ g (xk_q C a i.toNatClampNeg) = some r := by
  unfold xk_lq at h
  cases ho : xk_ok C t x i with
  | none => rw [ho] at h; cases h
  | some a => rw [ho] at h; exact ⟨a, rfl, h⟩
theorem xk_iaload (hX : gx_O (gw_I w (gx_A X)) X mi n dc ds P' oc) {x : Option Nat} {i : Int32} {ρ : Type} {g : Int32 → Option ρ} {r : ρ} (hd : decode mi.2.2.1 pc = .ok (.iaload, 1)) (h : (xk_ld C 0 x i).bind g = some r) (kk : ∀ v, g v = some r → gx_G X (xk_P (gx_A X) w C) cs ss lv (pc + 1) (.int v :: rest)) : gx_G X (xk_P (gx_A X) w C) cs ss lv pc (.int i :: va_rf x :: rest) := fun H locs ls hP hS hl => by
  obtain ⟨a, ho, h2⟩ := xk_ldS h
  obtain ⟨rfl, hk, hin⟩ := xk_okS ho
  have hlt : i.toNatClampNeg < xk_l C a := Nat.not_le.mp fun q => hin (Or.inr q)
  have hcell := hP.2.2.2.2.2.1 a 0 (by decide) hk
  exact W.iald (a := a) hX.1 hX.2.1 hcell ((xk_arr hX (t := 0) (by decide)).1 (xk_l C a) (fun j => .int (xk_e C a j))) (fun q => by cases q) (by rw [arrV_size]; exact hin) (by rw [arrV_read _ _ hlt]) rfl rfl hd (kk _ h2 H locs ls hP hS hl)
theorem xk_baload (hX : gx_O (gw_I w (gx_A X)) X mi n dc ds P' oc) {x : Option Nat} {i : Int32} {ρ : Type} {g : Int32 → Option ρ} {r : ρ} (hd : decode mi.2.2.1 pc = .ok (.baload, 1)) (h : (xk_ld C 1 x i).bind g = some r) (kk : ∀ v, g v = some r → gx_G X (xk_P (gx_A X) w C) cs ss lv (pc + 1) (.int v :: rest)) : gx_G X (xk_P (gx_A X) w C) cs ss lv pc (.int i :: va_rf x :: rest) := fun H locs ls hP hS hl => by
  obtain ⟨a, ho, h2⟩ := xk_ldS h
  obtain ⟨rfl, hk, hin⟩ := xk_okS ho
  have hlt : i.toNatClampNeg < xk_l C a := Nat.not_le.mp fun q => hin (Or.inr q)
  have hcell := hP.2.2.2.2.2.1 a 1 (by decide) hk
  exact W.bald (a := a) hX.1 hX.2.1 hcell ((xk_arr hX (t := 1) (by decide)).1 (xk_l C a) (fun j => .int (xk_e C a j))) (fun q => by cases q) (by rw [arrV_size]; exact hin) (by rw [arrV_read _ _ hlt]) rfl rfl hd (kk _ h2 H locs ls hP hS hl)
theorem xk_caload (hX : gx_O (gw_I w (gx_A X)) X mi n dc ds P' oc) {x : Option Nat} {i : Int32} {ρ : Type} {g : Int32 → Option ρ} {r : ρ} (hd : decode mi.2.2.1 pc = .ok (.caload, 1)) (h : (xk_ld C 2 x i).bind g = some r) (kk : ∀ v, g v = some r → gx_G X (xk_P (gx_A X) w C) cs ss lv (pc + 1) (.int v :: rest)) : gx_G X (xk_P (gx_A X) w C) cs ss lv pc (.int i :: va_rf x :: rest) := fun H locs ls hP hS hl => by
  obtain ⟨a, ho, h2⟩ := xk_ldS h
  obtain ⟨rfl, hk, hin⟩ := xk_okS ho
  have hlt : i.toNatClampNeg < xk_l C a := Nat.not_le.mp fun q => hin (Or.inr q)
  have hcell := hP.2.2.2.2.2.1 a 2 (by decide) hk
  exact W.cald (a := a) hX.1 hX.2.1 hcell ((xk_arr hX (t := 2) (by decide)).1 (xk_l C a) (fun j => .int (xk_e C a j))) (fun q => by cases q) (by rw [arrV_size]; exact hin) (by rw [arrV_read _ _ hlt]) rfl rfl hd (kk _ h2 H locs ls hP hS hl)
theorem xk_iastore (hX : gx_O (gw_I w (gx_A X)) X mi n dc ds P' oc) {x : Option Nat} {i v : Int32} {ρ : Type} {g : xk_C → Option ρ} {r : ρ} (hd : decode mi.2.2.1 pc = .ok (.iastore, 1)) (h : (xk_st C 0 x i v).bind g = some r) (kk : ∀ τ, (xk_n τ = xk_n C ∧ xk_s τ = xk_s C) → g τ = some r → gx_G X (xk_P (gx_A X) w τ) cs ss lv (pc + 1) rest) : gx_G X (xk_P (gx_A X) w C) cs ss lv pc (.int v :: .int i :: va_rf x :: rest) := fun H locs ls hP hS hl => by
  unfold xk_st at h
  cases ho : xk_ok C 0 x i with
  | none => rw [ho] at h; cases h
  | some a =>
    rw [ho] at h
    obtain ⟨rfl, hk, hin⟩ := xk_okS ho
    have hlt : i.toNatClampNeg < xk_l C a := Nat.not_le.mp fun q => hin (Or.inr q)
    have hAa : gx_A X a := by
      rcases hP.2.2.2.1 a (by rw [hk]; omega) with q | q
      · exact q
      · omega
    have hcell := hP.2.2.2.2.2.1 a 0 (by decide) hk
    refine W.iast (a := a) hX.1 hX.2.1 hcell ((xk_arr hX (t := 0) (by decide)).1 (xk_l C a) (fun j => .int (xk_e C a j))) (fun q => by cases q) (by rw [arrV_size]; exact hin) rfl rfl hd fun H1 e z oq => ?_
    refine kk (xk_se C a i.toNatClampNeg (xk_nr 0 v)) ⟨rfl, rfl⟩ h H1 _ ls (hP.sete (by decide) hk ?_ z oq) (hS.put z oq hAa) hl
    rw [e, arrV_store]
    rfl
theorem xk_bastore (hX : gx_O (gw_I w (gx_A X)) X mi n dc ds P' oc) {x : Option Nat} {i v : Int32} {ρ : Type} {g : xk_C → Option ρ} {r : ρ} (hd : decode mi.2.2.1 pc = .ok (.bastore, 1)) (h : (xk_st C 1 x i v).bind g = some r) (kk : ∀ τ, (xk_n τ = xk_n C ∧ xk_s τ = xk_s C) → g τ = some r → gx_G X (xk_P (gx_A X) w τ) cs ss lv (pc + 1) rest) : gx_G X (xk_P (gx_A X) w C) cs ss lv pc (.int v :: .int i :: va_rf x :: rest) := fun H locs ls hP hS hl => by
  unfold xk_st at h
  cases ho : xk_ok C 1 x i with
  | none => rw [ho] at h; cases h
  | some a =>
    rw [ho] at h
    obtain ⟨rfl, hk, hin⟩ := xk_okS ho
    have hlt : i.toNatClampNeg < xk_l C a := Nat.not_le.mp fun q => hin (Or.inr q)
    have hAa : gx_A X a := by
      rcases hP.2.2.2.1 a (by rw [hk]; omega) with q | q
      · exact q
      · omega
    have hcell := hP.2.2.2.2.2.1 a 1 (by decide) hk
    refine W.bast (a := a) hX.1 hX.2.1 hcell ((xk_arr hX (t := 1) (by decide)).1 (xk_l C a) (fun j => .int (xk_e C a j))) (fun q => by cases q) (by rw [arrV_size]; exact hin) rfl rfl hd fun H1 e z oq => ?_
    refine kk (xk_se C a i.toNatClampNeg (xk_nr 1 v)) ⟨rfl, rfl⟩ h H1 _ ls (hP.sete (by decide) hk ?_ z oq) (hS.put z oq hAa) hl
    rw [e, arrV_store]
    rfl
theorem xk_castore (hX : gx_O (gw_I w (gx_A X)) X mi n dc ds P' oc) {x : Option Nat} {i v : Int32} {ρ : Type} {g : xk_C → Option ρ} {r : ρ} (hd : decode mi.2.2.1 pc = .ok (.castore, 1)) (h : (xk_st C 2 x i v).bind g = some r) (kk : ∀ τ, (xk_n τ = xk_n C ∧ xk_s τ = xk_s C) → g τ = some r → gx_G X (xk_P (gx_A X) w τ) cs ss lv (pc + 1) rest) : gx_G X (xk_P (gx_A X) w C) cs ss lv pc (.int v :: .int i :: va_rf x :: rest) := fun H locs ls hP hS hl => by
  unfold xk_st at h
  cases ho : xk_ok C 2 x i with
  | none => rw [ho] at h; cases h
  | some a =>
    rw [ho] at h
    obtain ⟨rfl, hk, hin⟩ := xk_okS ho
    have hlt : i.toNatClampNeg < xk_l C a := Nat.not_le.mp fun q => hin (Or.inr q)
    have hAa : gx_A X a := by
      rcases hP.2.2.2.1 a (by rw [hk]; omega) with q | q
      · exact q
      · omega
    have hcell := hP.2.2.2.2.2.1 a 2 (by decide) hk
    refine W.cast (a := a) hX.1 hX.2.1 hcell ((xk_arr hX (t := 2) (by decide)).1 (xk_l C a) (fun j => .int (xk_e C a j))) (fun q => by cases q) (by rw [arrV_size]; exact hin) rfl rfl hd fun H1 e z oq => ?_
    refine kk (xk_se C a i.toNatClampNeg (xk_nr 2 v)) ⟨rfl, rfl⟩ h H1 _ ls (hP.sete (by decide) hk ?_ z oq) (hS.put z oq hAa) hl
    rw [e, arrV_store]
    rw [xk_nrc v]; rfl
theorem xk_aaload (hX : gx_O (gw_I w (gx_A X)) X mi n dc ds P' oc) (t : Nat) {x : Option Nat} {i : Int32} {ρ : Type} {g : Option Nat → Option ρ} {r : ρ} (ht : 4 ≤ t ∧ t < 10 ∧ (xk_at9 t).isReference = true) (hd : decode mi.2.2.1 pc = .ok (.aaload, 1)) (h : (xk_lq C t x i).bind g = some r) (kk : ∀ v, g v = some r → gx_G X (xk_P (gx_A X) w C) cs ss lv (pc + 1) (va_rf v :: rest)) : gx_G X (xk_P (gx_A X) w C) cs ss lv pc (.int i :: va_rf x :: rest) := fun H locs ls hP hS hl => by
  obtain ⟨a, ho, h2⟩ := xk_lqS h
  obtain ⟨rfl, hk, hin⟩ := xk_okS ho
  have hlt : i.toNatClampNeg < xk_l C a := Nat.not_le.mp fun q => hin (Or.inr q)
  have hcell := (hP.2.2.2.2.2.2 a t ht.1 ht.2.1 hk).len (by omega)
  exact W.aald (a := a) hX.1 hX.2.1 hcell ((xk_arr hX ht.2.1).1 (xk_l C a) (fun j => va_rf (xk_q C a j))) ht.2.2 (fun q => by cases q) (by rw [arrV_size]; exact hin) (by rw [arrV_read _ _ hlt]) rfl rfl hd (kk _ h2 H locs ls hP hS hl)
theorem xk_alen (hX : gx_O (gw_I w (gx_A X)) X mi n dc ds P' oc) (t : Nat) {x : Option Nat} {ρ : Type} {g : Int32 → Option ρ} {r : ρ} (ht : t < 10) (hd : decode mi.2.2.1 pc = .ok (.arraylength, 1)) (h : (xk_al C t x).bind g = some r) (kk : ∀ v, g v = some r → gx_G X (xk_P (gx_A X) w C) cs ss lv (pc + 1) (.int v :: rest)) : gx_G X (xk_P (gx_A X) w C) cs ss lv pc (va_rf x :: rest) := fun H locs ls hP hS hl => by
  unfold xk_al at h
  cases x with
  | none => cases h
  | some a =>
    dsimp only at h
    by_cases hk : xk_k C a = 30 + t
    · rw [if_pos hk] at h
      by_cases h4 : t < 4
      · exact W.alen (a := a) hX.1 hX.2.1 (hP.2.2.2.2.2.1 a t h4 hk) ((xk_arr hX ht).1 (xk_l C a) (fun j => .int (xk_e C a j))) (by rw [arrV_size]; rfl) rfl rfl hd (kk _ h H locs ls hP hS hl)
      · obtain ⟨cell, c1, c2, c3, c4, c5⟩ := (hP.2.2.2.2.2.2 a t (Nat.not_lt.mp h4) ht hk).cell
        obtain ⟨-, kA, g1, comp, g2⟩ := (xk_arr hX ht).1 (xk_l C a) (fun j => va_rf (xk_q C a j))
        exact W.alen (a := a) (ty := xk_at9 t) hX.1 hX.2.1 c1 ⟨(fun k q => by rw [q] at c5; cases c5), kA, by rw [c2]; exact g1, comp, g2⟩ (by rw [c3]; rfl) rfl rfl hd (kk _ h H locs ls hP hS hl)
    · rw [if_neg hk] at h
      cases h
/-- a new array of references -/
def xk_en (t : Nat) : String := match t with | 4 => "java/lang/Object" | 5 => "ShellBeach$Way" | 6 => "ShellBeach$Crab" | 7 => "ShellBeach$Shell" | _ => "ShellBeach$Habit"
theorem xk_ao (hX : gx_O (gw_I w (gx_A X)) X mi n dc ds P' oc) {t : Nat} (h4 : 4 ≤ t) (h9 : t < 9) : va_AO (xk_en t) (gx_s X) ∧ xk_at9 t = .object (xk_en t) := by
  obtain ⟨-, -, -, -, -, -, -, -, -, -, -, a1, a2, a3, a4, a5⟩ := hX.2.2.2.2.2.2.2.1
  have : t = 4 ∨ t = 5 ∨ t = 6 ∨ t = 7 ∨ t = 8 := by omega
  rcases this with rfl | rfl | rfl | rfl | rfl
  · exact ⟨a1, rfl⟩
  · exact ⟨a2, rfl⟩
  · exact ⟨a3, rfl⟩
  · exact ⟨a4, rfl⟩
  · exact ⟨a5.1, rfl⟩
theorem xk_anew (hX : gx_O (gw_I w (gx_A X)) X mi n dc ds P' oc) {index : Nat} (t : Nat) {i : Int32} {ρ : Type} {g : xk_C → Option ρ} {r : ρ} (ht : 4 ≤ t ∧ t < 9) (hq : Cond.classLink mi.1 index (xk_en t) ∈ lw_all) (hd : decode mi.2.2.1 pc = .ok (.anewarray index, 3)) (h : (xk_na C t i).bind g = some r) (kk : ∀ τ, (xk_n τ = xk_n C + 1 ∧ xk_s τ = xk_s C + i.toNatClampNeg) → g τ = some r → (cs + 1 ≤ dc ∧ ss + i.toNatClampNeg ≤ ds) ∧ gx_G X (xk_P (gx_A X) w τ) (cs + 1) (ss + i.toNatClampNeg) lv (pc + 3) (va_rf (some (xk_n C)) :: rest)) : gx_G X (xk_P (gx_A X) w C) cs ss lv pc (.int i :: rest) := fun H locs ls hP hS hl => by
  unfold xk_na at h
  by_cases hc : i < 0 ∨ 1000000 < i.toNatClampNeg
  case pos =>
    rw [if_pos hc] at h
    cases h
  rw [if_neg hc] at h
  have hR := hX.2.2.2.2.2.2.2.2.2.1
  have hf := (kk (xk_mk C (30 + t) i.toNatClampNeg i.toNatClampNeg) ⟨rfl, rfl⟩ h).1
  obtain ⟨hao, h9⟩ := xk_ao hX ht.1 ht.2
  refine W.anew hX.1 hX.2.1 hX.2.2.2.2.1 (hX.2.2.2.2.2.1 _ hq) (va_AO.use hao) rfl hd rfl (fun q => hc (Or.inl q)) (by
    have h1 : i.toNatClampNeg ≤ 1000000 := Nat.not_lt.mp fun q => hc (Or.inr q)
    omega) (Nat.le_trans hf.1 hR.2.1) (Nat.le_trans hf.2 hR.2.2.1) fun cA kA comp f1 f2 f3 f4 => ?_
  have hcA : cA = gw_dA w t := by
    have h1 := (xk_arr hX (Nat.lt_of_lt_of_le ht.2 (by decide))).2
    rw [h9] at h1
    obtain ⟨_, _, -, -, -, r4⟩ := h1
    exact Option.some.inj (f1.symm.trans r4)
  generalize hH1 : H.push ({ cls := cA, slots := Array.replicate i.toNatClampNeg .null, vm := .none } : Cell) = H1
  have z1 : H1.size = xk_n C + 1 := by rw [← hH1, Array.size_push, hP.1]
  have e1 : H1[xk_n C]? = some (arrV cA i.toNatClampNeg (fun _ => .null)) := by rw [← hH1, ← hP.1, Array.getElem?_push_size, ← arrV_new]
  have o1 : ∀ q : Nat, q < xk_n C → H1[q]? = H[q]? := fun q hq => by rw [← hH1, Array.getElem?_push, if_neg (by rw [hP.1]; exact Nat.ne_of_lt hq)]
  have h2 := (kk (xk_mk C (30 + t) i.toNatClampNeg i.toNatClampNeg) ⟨rfl, rfl⟩ h).2 H1 locs ls (hP.grow z1 o1 (fun cj hcj hj3 e => by omega) (fun t2 ht2 e => by have := ht.1; omega) (fun t2 h4 ht2 e => by
    have : t2 = t := by omega
    subst this
    rw [← hcA]
    exact e1)) ⟨Nat.le_trans hS.1 (by rw [z1, hP.1]; exact Nat.le_succ _), fun q g1 g2 => (o1 q (by rw [← hP.1]; exact Nat.lt_of_lt_of_le g1 hS.1)).trans (hS.2.1 q g1 g2), hS.2.2⟩ hl
  rw [← hP.1] at h2
  exact h2
/-- casts -/
theorem xk_castC (hX : gx_O (gw_I w (gx_A X)) X mi n dc ds P' oc) {index : Nat} (ci : Nat) {x : Option Nat} {ρ : Type} {g : Unit → Option ρ} {r : ρ} (hci : ci < 21 ∧ ci ≠ 99) (hq : Cond.classLink mi.1 index (xk_cl ci).1 ∈ lw_all) (hd : decode mi.2.2.1 pc = .ok (.checkcast index, 3)) (h : (xk_ck C (ci + 1) x).bind g = some r) (kk : g () = some r → gx_G X (xk_P (gx_A X) w C) cs ss lv (pc + 3) (va_rf x :: rest)) : gx_G X (xk_P (gx_A X) w C) cs ss lv pc (va_rf x :: rest) := fun H locs ls hP hS hl => by
  unfold xk_ck at h
  cases x with
  | none => exact lv_castN hX.1 hX.2.1 hd (kk h H locs ls hP hS hl)
  | some a =>
    dsimp only at h
    by_cases hk : xk_k C a = ci + 1
    · rw [if_pos hk] at h
      exact va_castS hX.1 hX.2.1 hX.2.2.2.2.1 (hX.2.2.2.2.2.1 _ hq) (hX.2.2.2.2.2.2.2.1.1.1 ci _ (xk_at ci hci.1)).2 (xk_rc hX hci.1 hci.2 hk H hP) hd (kk h H locs ls hP hS hl)
    · rw [if_neg hk] at h
      cases h
theorem xk_castT (hX : gx_O (gw_I w (gx_A X)) X mi n dc ds P' oc) {index : Nat} {x : Option Nat} {ρ : Type} {g : Unit → Option ρ} {r : ρ} (hq : Cond.classLink mi.1 index "ShellBeach$Test" ∈ lw_all) (hd : decode mi.2.2.1 pc = .ok (.checkcast index, 3)) (h : (xk_ct C x).bind g = some r) (kk : g () = some r → gx_G X (xk_P (gx_A X) w C) cs ss lv (pc + 3) (va_rf x :: rest)) : gx_G X (xk_P (gx_A X) w C) cs ss lv pc (va_rf x :: rest) := fun H locs ls hP hS hl => by
  unfold xk_ct at h
  cases x with
  | none => exact lv_castN hX.1 hX.2.1 hd (kk h H locs ls hP hS hl)
  | some a =>
    dsimp only at h
    have hN := hX.2.2.2.2.2.2.2.1.2.1
    by_cases hk : xk_k C a = 16 ∨ xk_k C a = 17 ∨ xk_k C a = 18
    · rw [if_pos hk] at h
      rcases hk with hk | hk | hk
      · exact va_castY hX.1 hX.2.1 hX.2.2.2.2.1 (hX.2.2.2.2.2.1 _ hq) (hN _ (gw_xq q937 rfl)) (xk_rc hX (ci := 15) (by decide) (by decide) hk H hP) hd (kk h H locs ls hP hS hl)
      · exact va_castY hX.1 hX.2.1 hX.2.2.2.2.1 (hX.2.2.2.2.2.1 _ hq) (hN _ (gw_xq q927 rfl)) (xk_rc hX (ci := 16) (by decide) (by decide) hk H hP) hd (kk h H locs ls hP hS hl)
      · exact va_castY hX.1 hX.2.1 hX.2.2.2.2.1 (hX.2.2.2.2.2.1 _ hq) (hN _ (gw_xq q945 rfl)) (xk_rc hX (ci := 17) (by decide) (by decide) hk H hP) hd (kk h H locs ls hP hS hl)
    · rw [if_neg hk] at h
      cases h
/-- what may be stored -/
theorem xk_asg (hX : gx_O (gw_I w (gx_A X)) X mi n dc ds P' oc) {t ci : Nat} (h4 : 4 ≤ t) (h9 : t < 9) (h : xk_hold t (ci + 1) = true) : ci < 21 ∧ ci ≠ 99 ∧ ∀ comp : ClassId, (gx_s X).vm.findClass (xk_en t) = some comp → (gx_s X).vm.assignable ((gw_D w).1 ci) comp = true := by
  have hN := hX.2.2.2.2.2.2.2.1.2.1
  have hK := hX.2.2.2.2.2.2.2.1.1.1
  have hY : ∀ ci, ci < 21 → ∀ E comp, va_Nw (.castable (xk_cl ci).1 E) (gx_s X) → (gx_s X).vm.findClass E = some comp → (gx_s X).vm.assignable ((gw_D w).1 ci) comp = true := fun ci hci E comp hc hE => by
    obtain ⟨c0, t0, f1, f2, f3⟩ := Cond.castable_spec (va_Nw.use (A := gx_args X) rfl hc)
    cases f1.symm.trans (hK ci _ (xk_at ci hci)).2.1
    cases f2.symm.trans hE
    exact f3
  have hZ : ∀ ci, ci < 21 → ∀ comp, (gx_s X).vm.findClass (xk_cl ci).1 = some comp → (gx_s X).vm.assignable ((gw_D w).1 ci) comp = true := fun ci hci comp hE => by
    cases (hK ci _ (xk_at ci hci)).2.1.symm.trans hE
    exact va_assign (hK ci _ (xk_at ci hci)).2
  have ht : t = 4 ∨ t = 5 ∨ t = 6 ∨ t = 7 ∨ t = 8 := by omega
  rcases ht with rfl | rfl | rfl | rfl | rfl
  · have hc : ci < 21 ∧ ci ≠ 3 := by
      simp [xk_hold] at h
      omega
    refine ⟨hc.1, by omega, fun comp hE => ?_⟩
    obtain ⟨c1, c3⟩ := hc
    match ci, c1, c3 with
    | 0, _, _ => exact hY 0 (by decide) _ comp (hN _ (gw_xq q1876 rfl)) hE
    | 1, _, _ => exact hY 1 (by decide) _ comp (hN _ (gw_xq q1878 rfl)) hE
    | 2, _, _ => exact hY 2 (by decide) _ comp (hN _ (gw_xq q1879 rfl)) hE
    | 4, _, _ => exact hY 4 (by decide) _ comp (hN _ (gw_xq q1873 rfl)) hE
    | 5, _, _ => exact hY 5 (by decide) _ comp (hN _ (gw_xq q1872 rfl)) hE
    | 6, _, _ => exact hY 6 (by decide) _ comp (hN _ (gw_xq q1874 rfl)) hE
    | 7, _, _ => exact hY 7 (by decide) _ comp (hN _ (gw_xq q1881 rfl)) hE
    | 8, _, _ => exact hY 8 (by decide) _ comp (hN _ (gw_xq q1882 rfl)) hE
    | 9, _, _ => exact hY 9 (by decide) _ comp (hN _ (gw_xq q1883 rfl)) hE
    | 10, _, _ => exact hY 10 (by decide) _ comp (hN _ (gw_xq q1884 rfl)) hE
    | 11, _, _ => exact hY 11 (by decide) _ comp (hN _ (gw_xq q1885 rfl)) hE
    | 12, _, _ => exact hY 12 (by decide) _ comp (hN _ (gw_xq q1886 rfl)) hE
    | 13, _, _ => exact hY 13 (by decide) _ comp (hN _ (gw_xq q1875 rfl)) hE
    | 14, _, _ => exact hY 14 (by decide) _ comp (hN _ (gw_xq q1887 rfl)) hE
    | 15, _, _ => exact hY 15 (by decide) _ comp (hN _ (gw_xq q1888 rfl)) hE
    | 16, _, _ => exact hY 16 (by decide) _ comp (hN _ (gw_xq q1889 rfl)) hE
    | 17, _, _ => exact hY 17 (by decide) _ comp (hN _ (gw_xq q1890 rfl)) hE
    | 18, _, _ => exact hY 18 (by decide) _ comp (hN _ (gw_xq q1891 rfl)) hE
    | 19, _, _ => exact hY 19 (by decide) _ comp (hN _ (gw_xq q1892 rfl)) hE
    | 20, _, _ => exact hY 20 (by decide) _ comp (hN _ (gw_xq q1877 rfl)) hE
    | 3, _, h3 => exact absurd rfl h3
  · have hc : 6 ≤ ci ∧ ci ≤ 12 := by
      simp [xk_hold] at h
      omega
    refine ⟨by omega, by omega, fun comp hE => ?_⟩
    have hcc : ci = 6 ∨ ci = 7 ∨ ci = 8 ∨ ci = 9 ∨ ci = 10 ∨ ci = 11 ∨ ci = 12 := by omega
    rcases hcc with rfl | rfl | rfl | rfl | rfl | rfl | rfl
    · exact hZ 6 (by decide) comp hE
    · exact hY 7 (by decide) _ comp (hN _ (gw_xq q1895 rfl)) hE
    · exact hY 8 (by decide) _ comp (hN _ (gw_xq q1896 rfl)) hE
    · exact hY 9 (by decide) _ comp (hN _ (gw_xq q1897 rfl)) hE
    · exact hY 10 (by decide) _ comp (hN _ (gw_xq q1898 rfl)) hE
    · exact hY 11 (by decide) _ comp (hN _ (gw_xq q1899 rfl)) hE
    · exact hY 12 (by decide) _ comp (hN _ (gw_xq q1900 rfl)) hE
  · have hc : ci = 5 := by
      simp [xk_hold] at h
      omega
    subst hc
    exact ⟨by decide, by decide, fun comp hE => hZ 5 (by decide) comp hE⟩
  · have hc : ci = 4 := by
      simp [xk_hold] at h
      omega
    subst hc
    exact ⟨by decide, by decide, fun comp hE => hZ 4 (by decide) comp hE⟩
  · have hc : ci = 13 := by
      simp [xk_hold] at h
      omega
    subst hc
    exact ⟨by decide, by decide, fun comp hE => hZ 13 (by decide) comp hE⟩
theorem xk_aastore (hX : gx_O (gw_I w (gx_A X)) X mi n dc ds P' oc) (t : Nat) {x v : Option Nat} {i : Int32} {ρ : Type} {g : xk_C → Option ρ} {r : ρ} (ht : 4 ≤ t ∧ t < 9) (hd : decode mi.2.2.1 pc = .ok (.aastore, 1)) (h : (xk_sa C t x i v).bind g = some r) (kk : ∀ τ, (xk_n τ = xk_n C ∧ xk_s τ = xk_s C) → g τ = some r → gx_G X (xk_P (gx_A X) w τ) cs ss lv (pc + 1) rest) : gx_G X (xk_P (gx_A X) w C) cs ss lv pc (va_rf v :: .int i :: va_rf x :: rest) := fun H locs ls hP hS hl => by
  unfold xk_sa at h
  cases ho : xk_ok C t x i with
  | none => rw [ho] at h; cases h
  | some a =>
    rw [ho] at h
    dsimp only at h
    obtain ⟨rfl, hk, hin⟩ := xk_okS ho
    by_cases hh : xk_fitq C t v = true
    case neg =>
      rw [if_neg hh] at h
      cases h
    rw [if_pos hh] at h
    have hlt : i.toNatClampNeg < xk_l C a := Nat.not_le.mp fun q => hin (Or.inr q)
    have h0 : ¬ i < 0 := fun q => hin (Or.inl q)
    have hAa : gx_A X a := by
      rcases hP.2.2.2.1 a (by rw [hk]; omega) with q | q
      · exact q
      · omega
    have hcell := (hP.2.2.2.2.2.2 a t ht.1 (by omega) hk).len (by omega)
    obtain ⟨hAr, hRA⟩ := xk_arr hX (t := t) (by omega)
    have h9 := (xk_ao hX ht.1 ht.2).2
    cases v with
    | none =>
      refine va_WaastN (C := xk_en t) hX.1 hX.2.1 hcell (by have := hAr (xk_l C a) (fun j => va_rf (xk_q C a j)); rw [h9] at this; exact this) (fun q => by cases q) (by rw [arrV_size]; exact hin) rfl rfl hd fun H1 e z oq => ?_
      refine kk (xk_sq C a i.toNatClampNeg none) ⟨rfl, rfl⟩ h H1 _ ls (hP.setq ht.1 (by omega) hk ?_ z oq) (hS.put z oq hAa) hl
      rw [e, arrV_store]
      rfl
    | some b =>
      have hb0 : xk_k C b ≠ 0 := by
        intro q
        have : xk_hold t (xk_k C b) = true := hh
        rw [q] at this
        have ht5 : t = 4 ∨ t = 5 ∨ t = 6 ∨ t = 7 ∨ t = 8 := by omega
        rcases ht5 with rfl | rfl | rfl | rfl | rfl <;> exact absurd this (by decide)
      obtain ⟨ci, hci⟩ : ∃ ci, xk_k C b = ci + 1 := ⟨xk_k C b - 1, by omega⟩
      have hh2 : xk_hold t (ci + 1) = true := by rw [← hci]; exact hh
      obtain ⟨c1, c3, hasg⟩ := xk_asg hX ht.1 ht.2 hh2
      obtain ⟨cellV, g1, g2, g3, -⟩ := hP.2.2.2.2.1 b ci c1 c3 hci
      obtain ⟨-, hfc, kC, hkC, -⟩ := hX.2.2.2.2.2.2.2.1.1.1 ci _ (xk_at ci c1)
      rw [h9] at hRA
      obtain ⟨kA, comp, k1, k2, k3, -⟩ := hRA
      obtain ⟨kE, hkE, -⟩ := Vm.findClass_spec k3
      refine W.aast hX.1 hX.2.1 hcell (fun q h => by cases h) (fun h => by cases h) k1 k2 rfl hkE ⟨h0, by rw [arrV_size]; exact hlt⟩ g1 (fun q h => by rw [g3] at h; cases h) (by rw [g2]; exact hkC) (by rw [g2]; exact hasg comp k3) rfl rfl hd fun H1 e z oq => ?_
      refine kk (xk_sq C a i.toNatClampNeg (some b)) ⟨rfl, rfl⟩ h H1 _ ls (hP.setq ht.1 (by omega) hk ?_ z oq) (hS.put z oq hAa) hl
      rw [e, arrV_store]
      rfl
end XR
