set_option maxRecDepth 100000
/-! THE PURE OPERATIONS -/
def xk_gi (C : xk_C) (f : Nat) (x : Option Nat) : Option Int32 := match x with | none => none | some a => if xk_has (xk_k C a) f = true then some (xk_i C f a) else none
def xk_gr (C : xk_C) (f : Nat) (x : Option Nat) : Option (Option Nat) := match x with | none => none | some a => if xk_has (xk_k C a) f = true then some (xk_r C f a) else none
def xk_pi (C : xk_C) (f : Nat) (x : Option Nat) (v : Int32) : Option xk_C := match x with | none => none | some a => if xk_has (xk_k C a) f = true then some (xk_si C f a v) else none
def xk_pz (C : xk_C) (f : Nat) (x : Option Nat) (v : Int32) : Option xk_C := if v = 0 ∨ v = 1 then xk_pi C f x v else none
def xk_pr (C : xk_C) (f : Nat) (x v : Option Nat) : Option xk_C := match x with | none => none | some a => if xk_has (xk_k C a) f = true then some (xk_sr C f a v) else none
def xk_nw (C : xk_C) (ci : Nat) : Option xk_C := some (xk_mk C (ci + 1) 0 (xk_N ci))
def xk_na (C : xk_C) (t : Nat) (n : Int32) : Option xk_C := if n < 0 ∨ 1000000 < n.toNatClampNeg then none else some (xk_mk C (30 + t) n.toNatClampNeg n.toNatClampNeg)
def xk_ok (C : xk_C) (t : Nat) (x : Option Nat) (i : Int32) : Option Nat := match x with | none => none | some a => if xk_k C a = 30 + t ∧ ¬ (i < 0 ∨ xk_l C a ≤ i.toNatClampNeg) then some a else none
def xk_ld (C : xk_C) (t : Nat) (x : Option Nat) (i : Int32) : Option Int32 := match xk_ok C t x i with | none => none | some a => some (xk_e C a i.toNatClampNeg)
def xk_lq (C : xk_C) (t : Nat) (x : Option Nat) (i : Int32) : Option (Option Nat) := match xk_ok C t x i with | none => none | some a => some (xk_q C a i.toNatClampNeg)
def xk_nr (t : Nat) (v : Int32) : Int32 := if t = 1 then v.toInt8.toInt32 else if t = 2 then (v.toUInt32 % 65536).toInt32 else v
def xk_st (C : xk_C) (t : Nat) (x : Option Nat) (i v : Int32) : Option xk_C := match xk_ok C t x i with | none => none | some a => some (xk_se C a i.toNatClampNeg (xk_nr t v))
/-- what an array of references may hold -/
def xk_hold (t kd : Nat) : Bool := match t with
  | 4 => decide (kd ≠ 0) && decide (kd < 22) && decide (kd ≠ 4)
  | 5 => decide (7 ≤ kd) && decide (kd ≤ 13)
  | 6 => decide (kd = 6)
  | 7 => decide (kd = 5)
  | 8 => decide (kd = 14)
  | _ => decide (kd = 32)
def xk_fitq (C : xk_C) (t : Nat) (v : Option Nat) : Bool := match v with | none => true | some b => xk_hold t (xk_k C b)
def xk_sa (C : xk_C) (t : Nat) (x : Option Nat) (i : Int32) (v : Option Nat) : Option xk_C := match xk_ok C t x i with | none => none | some a => if xk_fitq C t v = true then some (xk_sq C a i.toNatClampNeg v) else none
def xk_al (C : xk_C) (t : Nat) (x : Option Nat) : Option Int32 := match x with | none => none | some a => if xk_k C a = 30 + t then some (nI (xk_l C a)) else none
/-- an object of this kind -/
def xk_is (C : xk_C) (kd : Nat) (x : Option Nat) : Option Nat := match x with | none => none | some a => if xk_k C a = kd then some a else none
def xk_ck (C : xk_C) (kd : Nat) (x : Option Nat) : Option Unit := match x with | none => some () | some a => if xk_k C a = kd then some () else none
def xk_ct (C : xk_C) (x : Option Nat) : Option Unit := match x with | none => some () | some a => if xk_k C a = 16 ∨ xk_k C a = 17 ∨ xk_k C a = 18 then some () else none
section XR
variable {w : gw_W} {X : gx_X} {mi : gx_M} {n dc ds : Nat} {P' : Heap → Prop} {oc : Outcome} {cs ss pc : Nat} {lv : List (Option Value)} {rest : List Value} {C : xk_C}
theorem xk_apart (hX : gx_O (gw_I w (gx_A X)) X mi n dc ds P' oc) {ci : Nat} (hci : ci < 21) (h3 : ci ≠ 99) : ∀ x y, x < (xk_cl ci).2.2 → y < (xk_cl ci).2.2 → x ≠ y → ((gw_D w).2 ci) x ≠ ((gw_D w).2 ci) y := by
  intro x y hx hy hne
  have hts := hX.2.2.2.2.2.1
  obtain ⟨hS, -⟩ := hX.2.2.2.2.2.2.2.1.1.1 ci _ (xk_at ci hci)
  obtain ⟨_, _, _, fa, hia, ea⟩ := hS x hx
  obtain ⟨_, _, _, fb, hib, eb⟩ := hS y hy
  rw [← ea, ← eb]
  rcases xk_apd ci hci h3 x hx y hy hne with h | ⟨h1, h2, h⟩
  · refine u_apart (u_lays hts (xk_in ci hci) hx) (u_lays hts (xk_in ci hci) hy) hia hib ?_
    rw [(State.fieldFound?_type hia (xk_tok ci hci x hx)).1, (State.fieldFound?_type hib (xk_tok ci hci y hy)).1]
    exact h
  · have l1 := hts _ (xk_in ci hci _ (u_in_lay hx))
    have l2 := hts _ (xk_in ci hci _ (u_in_lay hy))
    unfold u_lay at l1 l2
    rw [if_pos h1] at l1
    rw [if_pos h2] at l2
    exact xk_own l1 l2 hia hib h
theorem xk_core (hX : gx_O (gw_I w (gx_A X)) X mi n dc ds P' oc) {H : Heap} (hP : xk_P (gx_A X) w C H) {a f : Nat} (hh : xk_has (xk_k C a) f = true) :
    ∃ ci k cell cf kf fi fd, ci < 21 ∧ ci ≠ 99 ∧ xk_k C a = ci + 1 ∧ k < (xk_cl ci).2.2 ∧ xk_f ci k = f ∧ H[a]? = some cell ∧ cell.cls = (gw_D w).1 ci ∧ cell.vm = .none ∧ (∀ j, j < (xk_cl ci).2.2 → cell.slots[(gw_D w).2 ci j]? = some (xk_V C (xk_f ci j) a)) ∧ (gx_s X).fieldFound? (xk_fdt f).1 (xk_fdt f).2.1 (xk_fdt f).2.2.1 = some (cf, kf, fi, fd) ∧ fd.slot = (gw_D w).2 ci k ∧ fd.isStatic = false ∧ ((xk_cl ci).2.1 k) = xk_fdt f := by
  obtain ⟨ci, k, e0, hci, h3, hk, hf⟩ := xk_hasS hh
  obtain ⟨cell, q1, q2, q3, q4⟩ := hP.2.2.2.2.1 a ci hci h3 e0
  obtain ⟨hSl, hfc, kC, hkC, hkind⟩ := hX.2.2.2.2.2.2.2.1.1.1 ci _ (xk_at ci hci)
  obtain ⟨cf, kf, fi, fd, hi, hsl⟩ := hSl k hk
  have hst := (u_facts hfc hkC (u_lays hX.2.2.2.2.2.1 (xk_in ci hci) hk) hi).1
  have hT := xk_fdc ci hci h3 k hk
  rw [hf] at hT
  rw [hT] at hi
  exact ⟨ci, k, cell, cf, kf, fi, fd, hci, h3, e0, hk, hf, q1, q2, q3, q4, hi, hsl, hst, hT⟩
theorem xk_rc (hX : gx_O (gw_I w (gx_A X)) X mi n dc ds P' oc) {b ci : Nat} (hci : ci < 21) (h3 : ci ≠ 99) (hk : xk_k C b = ci + 1) : gx_rc X (xk_P (gx_A X) w C) (xk_cl ci).1 b := fun H hP => by
  obtain ⟨cell, q1, q2, q3, -⟩ := hP.2.2.2.2.1 b ci hci h3 hk
  exact ⟨cell, q1, by rw [q3]; rfl, by rw [q2]; exact (hX.2.2.2.2.2.2.2.1.1.1 ci _ (xk_at ci hci)).2.1⟩
theorem xk_geti (hX : gx_O (gw_I w (gx_A X)) X mi n dc ds P' oc) {index : Nat} (f : Nat) {ref : String} {x : Option Nat} {ρ : Type} {g : Int32 → Option ρ} {r : ρ} (hq : Cond.fieldLink mi.1 index ref (xk_fdt f).2.1 (xk_fdt f).2.2.1 ∈ lw_all) (hsame : ∀ x, (gx_s X).fieldFound? (xk_fdt f).1 (xk_fdt f).2.1 (xk_fdt f).2.2.1 = some x → (gx_s X).fieldFound? ref (xk_fdt f).2.1 (xk_fdt f).2.2.1 = some x) (hr : xk_isr f = false) (hd : decode mi.2.2.1 pc = .ok (.getfield index, 3)) (h : (xk_gi C f x).bind g = some r) (kk : ∀ v, g v = some r → gx_G X (xk_P (gx_A X) w C) cs ss lv (pc + 3) (.int v :: rest)) : gx_G X (xk_P (gx_A X) w C) cs ss lv pc (va_rf x :: rest) := fun H locs ls hP hS hl => by
  unfold xk_gi at h
  cases x with
  | none => cases h
  | some a =>
    dsimp only at h
    by_cases hh : xk_has (xk_k C a) f = true
    · rw [if_pos hh] at h
      obtain ⟨ci, k, cell, cf, kf, fi, fd, hci, h3, e0, hk, hf, q1, q2, q3, q4, hi, hsl, hst, hT⟩ := xk_core hX hP hh
      have hv := q4 k hk
      rw [← hsl, hf] at hv
      unfold xk_V at hv
      rw [if_neg (by rw [hr]; decide)] at hv
      exact W.getf (a := a) hX.1 hX.2.1 hX.2.2.2.2.1 (hX.2.2.2.2.2.1 _ hq) (hsame _ hi) hst q1 (by rw [q3]; exact fun h => by cases h) hv rfl rfl hd (kk _ h H locs ls hP hS hl)
    · rw [if_neg hh] at h
      cases h
theorem xk_getiN (hX : gx_O (gw_I w (gx_A X)) X mi n dc ds P' oc) {index : Nat} (f : Nat) {host : String} {x : Option Nat} {ρ : Type} {g : Int32 → Option ρ} {r : ρ} (hq : Cond.fieldLinkNest mi.1 index (xk_fdt f).1 (xk_fdt f).2.1 (xk_fdt f).2.2.1 host ∈ lw_tbl) (hr : xk_isr f = false) (hd : decode mi.2.2.1 pc = .ok (.getfield index, 3)) (h : (xk_gi C f x).bind g = some r) (kk : ∀ v, g v = some r → gx_G X (xk_P (gx_A X) w C) cs ss lv (pc + 3) (.int v :: rest)) : gx_G X (xk_P (gx_A X) w C) cs ss lv pc (va_rf x :: rest) := fun H locs ls hP hS hl => by
  unfold xk_gi at h
  cases x with
  | none => cases h
  | some a =>
    dsimp only at h
    by_cases hh : xk_has (xk_k C a) f = true
    · rw [if_pos hh] at h
      obtain ⟨ci, k, cell, cf, kf, fi, fd, hci, h3, e0, hk, hf, q1, q2, q3, q4, hi, hsl, hst, hT⟩ := xk_core hX hP hh
      have hv := q4 k hk
      rw [← hsl, hf] at hv
      unfold xk_V at hv
      rw [if_neg (by rw [hr]; decide)] at hv
      exact va_Wgetf (a := a) hX.1 hX.2.1 hX.2.2.2.2.1 (va_Nw.use rfl (hX.2.2.2.2.2.2.2.1.2.1 _ (gw_xq hq rfl))) hi hst q1 (by rw [q3]; exact fun h => by cases h) hv rfl rfl hd (kk _ h H locs ls hP hS hl)
    · rw [if_neg hh] at h
      cases h
theorem xk_getr (hX : gx_O (gw_I w (gx_A X)) X mi n dc ds P' oc) {index : Nat} (f : Nat) {ref : String} {x : Option Nat} {ρ : Type} {g : Option Nat → Option ρ} {r : ρ} (hq : Cond.fieldLink mi.1 index ref (xk_fdt f).2.1 (xk_fdt f).2.2.1 ∈ lw_all) (hsame : ∀ x, (gx_s X).fieldFound? (xk_fdt f).1 (xk_fdt f).2.1 (xk_fdt f).2.2.1 = some x → (gx_s X).fieldFound? ref (xk_fdt f).2.1 (xk_fdt f).2.2.1 = some x) (hr : xk_isr f = true) (hd : decode mi.2.2.1 pc = .ok (.getfield index, 3)) (h : (xk_gr C f x).bind g = some r) (kk : ∀ v, g v = some r → gx_G X (xk_P (gx_A X) w C) cs ss lv (pc + 3) (va_rf v :: rest)) : gx_G X (xk_P (gx_A X) w C) cs ss lv pc (va_rf x :: rest) := fun H locs ls hP hS hl => by
  unfold xk_gr at h
  cases x with
  | none => cases h
  | some a =>
    dsimp only at h
    by_cases hh : xk_has (xk_k C a) f = true
    · rw [if_pos hh] at h
      obtain ⟨ci, k, cell, cf, kf, fi, fd, hci, h3, e0, hk, hf, q1, q2, q3, q4, hi, hsl, hst, hT⟩ := xk_core hX hP hh
      have hv := q4 k hk
      rw [← hsl, hf] at hv
      unfold xk_V at hv
      rw [if_pos hr] at hv
      exact W.getf (a := a) hX.1 hX.2.1 hX.2.2.2.2.1 (hX.2.2.2.2.2.1 _ hq) (hsame _ hi) hst q1 (by rw [q3]; exact fun h => by cases h) hv rfl rfl hd (kk _ h H locs ls hP hS hl)
    · rw [if_neg hh] at h
      cases h
theorem xk_getrN (hX : gx_O (gw_I w (gx_A X)) X mi n dc ds P' oc) {index : Nat} (f : Nat) {host : String} {x : Option Nat} {ρ : Type} {g : Option Nat → Option ρ} {r : ρ} (hq : Cond.fieldLinkNest mi.1 index (xk_fdt f).1 (xk_fdt f).2.1 (xk_fdt f).2.2.1 host ∈ lw_tbl) (hr : xk_isr f = true) (hd : decode mi.2.2.1 pc = .ok (.getfield index, 3)) (h : (xk_gr C f x).bind g = some r) (kk : ∀ v, g v = some r → gx_G X (xk_P (gx_A X) w C) cs ss lv (pc + 3) (va_rf v :: rest)) : gx_G X (xk_P (gx_A X) w C) cs ss lv pc (va_rf x :: rest) := fun H locs ls hP hS hl => by
  unfold xk_gr at h
  cases x with
  | none => cases h
  | some a =>
    dsimp only at h
    by_cases hh : xk_has (xk_k C a) f = true
    · rw [if_pos hh] at h
      obtain ⟨ci, k, cell, cf, kf, fi, fd, hci, h3, e0, hk, hf, q1, q2, q3, q4, hi, hsl, hst, hT⟩ := xk_core hX hP hh
      have hv := q4 k hk
      rw [← hsl, hf] at hv
      unfold xk_V at hv
      rw [if_pos hr] at hv
      exact va_Wgetf (a := a) hX.1 hX.2.1 hX.2.2.2.2.1 (va_Nw.use rfl (hX.2.2.2.2.2.2.2.1.2.1 _ (gw_xq hq rfl))) hi hst q1 (by rw [q3]; exact fun h => by cases h) hv rfl rfl hd (kk _ h H locs ls hP hS hl)
    · rw [if_neg hh] at h
      cases h
theorem xk_puti (hX : gx_O (gw_I w (gx_A X)) X mi n dc ds P' oc) {index : Nat} (f : Nat) {ref : String} {v : Int32} {x : Option Nat} {ρ : Type} {g : xk_C → Option ρ} {r : ρ} {ty : FieldType} (hty : parseFieldDescriptor (xk_fdt f).2.2.1 = some ty) (ht : ty = .int) (hq : Cond.fieldLink mi.1 index ref (xk_fdt f).2.1 (xk_fdt f).2.2.1 ∈ lw_all) (hsame : ∀ x, (gx_s X).fieldFound? (xk_fdt f).1 (xk_fdt f).2.1 (xk_fdt f).2.2.1 = some x → (gx_s X).fieldFound? ref (xk_fdt f).2.1 (xk_fdt f).2.2.1 = some x) (hr : xk_isr f = false) (hfin : (xk_fdt f).2.2.2 = false) (hd : decode mi.2.2.1 pc = .ok (.putfield index, 3)) (h : (xk_pi C f x v).bind g = some r) (kk : ∀ τ, (xk_n τ = xk_n C ∧ xk_s τ = xk_s C) → g τ = some r → gx_G X (xk_P (gx_A X) w τ) cs ss lv (pc + 3) rest) : gx_G X (xk_P (gx_A X) w C) cs ss lv pc (.int v :: va_rf x :: rest) := fun H locs ls hP hS hl => by
  have hnf : narrow ty (.int v) = .int v ∧ fits ty (.int v) = true := by subst ht; exact ⟨rfl, rfl⟩
  unfold xk_pi at h
  cases x with
  | none => cases h
  | some a =>
    dsimp only at h
    by_cases hh : xk_has (xk_k C a) f = true
    case neg =>
      rw [if_neg hh] at h
      cases h
    rw [if_pos hh] at h
    obtain ⟨ci, k, cell, cf, kf, fi, fd, hci, h3, e0, hk, hf, q1, q2, q3, q4, hi, hsl, hst, hT⟩ := xk_core hX hP hh
    obtain ⟨-, hfc, kC, hkC, hkind⟩ := hX.2.2.2.2.2.2.2.1.1.1 ci _ (xk_at ci hci)
    have hlay := hX.2.2.2.2.2.1 _ (xk_in ci hci _ (u_in_lay hk))
    unfold u_lay at hlay
    rw [hT] at hlay
    have hAa : gx_A X a := by
      rcases hP.2.2.2.1 a (by rw [e0]; omega) with q | q
      · exact q
      · omega
    rw [if_neg (by rw [hfin]; decide)] at hlay
    have h6 := u_store hfc hkC hkind hlay hi hty hnf.1 hnf.2
    refine W.putK (a := a) hX.1 hX.2.1 (f := fd) ⟨hX.2.2.2.2.1, hX.2.2.2.2.2.1 _ hq, ⟨_, _, _, hsame _ hi⟩, hst⟩ (by rw [q2]; exact h6) q1 q3 (by rw [hsl]; exact k2_hasslot (q4 k hk)) rfl rfl hd fun H' e1 e2 e3 => ?_
    rw [hsl] at e1 ⊢
    exact kk (xk_si C f a v) ⟨rfl, rfl⟩ h H' _ ls (hP.seti hci h3 e0 hk hf hr ⟨_, e1, q2, q3, t_set q4 (xk_apart hX hci h3) hk _⟩ e2 e3) (hS.put e2 e3 hAa) hl

theorem xk_putiF (hX : gx_O (gw_I w (gx_A X)) X mi n dc ds P' oc) {index : Nat} (f : Nat) {v : Int32} {x : Option Nat} {ρ : Type} {g : xk_C → Option ρ} {r : ρ} {ty : FieldType} (hty : parseFieldDescriptor (xk_fdt f).2.2.1 = some ty) (ht : ty = .int) (hq : Cond.fieldLink mi.1 index (xk_fdt f).1 (xk_fdt f).2.1 (xk_fdt f).2.2.1 ∈ lw_all) (hr : xk_isr f = false) (hfin : (xk_fdt f).2.2.2 = true ∧ (xk_fdt f).1 = mi.1 ∧ mi.2.1 = "<init>") (hd : decode mi.2.2.1 pc = .ok (.putfield index, 3)) (h : (xk_pi C f x v).bind g = some r) (kk : ∀ τ, (xk_n τ = xk_n C ∧ xk_s τ = xk_s C) → g τ = some r → gx_G X (xk_P (gx_A X) w τ) cs ss lv (pc + 3) rest) : gx_G X (xk_P (gx_A X) w C) cs ss lv pc (.int v :: va_rf x :: rest) := fun H locs ls hP hS hl => by
  have hnf : narrow ty (.int v) = .int v ∧ fits ty (.int v) = true := by subst ht; exact ⟨rfl, rfl⟩
  unfold xk_pi at h
  cases x with
  | none => cases h
  | some a =>
    dsimp only at h
    by_cases hh : xk_has (xk_k C a) f = true
    case neg =>
      rw [if_neg hh] at h
      cases h
    rw [if_pos hh] at h
    obtain ⟨ci, k, cell, cf, kf, fi, fd, hci, h3, e0, hk, hf, q1, q2, q3, q4, hi, hsl, hst, hT⟩ := xk_core hX hP hh
    obtain ⟨-, hfc, kC, hkC, hkind⟩ := hX.2.2.2.2.2.2.2.1.1.1 ci _ (xk_at ci hci)
    have hlay := hX.2.2.2.2.2.1 _ (xk_in ci hci _ (u_in_lay hk))
    unfold u_lay at hlay
    rw [hT] at hlay
    have hAa : gx_A X a := by
      rcases hP.2.2.2.1 a (by rw [e0]; omega) with q | q
      · exact q
      · omega
    rw [if_pos hfin.1] at hlay
    have hcf : (gx_m X).cls = cf := by
      obtain ⟨_, _, c', _, _, _, -, -, hf', -, -, -, hown2, -⟩ := Cond.laysFinal_spec hlay
      have e1 : c' = cf := by have := hi.symm.trans hf'; simp at this; exact this.1.symm
      rw [hfin.2.1] at hown2
      rw [← e1]; exact Option.some.inj (hX.2.2.2.2.1.symm.trans hown2)
    have h6 := u_fits hfc hkC hkind (Or.inr hlay) hi hty hnf.1 hnf.2
    refine W.putFinK (a := a) hX.1 hX.2.1 hX.2.2.2.2.1 (hX.2.2.2.2.2.1 _ hq) hi hst hcf (hX.2.2.2.2.2.2.2.2.2.2.1.trans hfin.2.2) (by rw [q2]; exact h6) q1 q3 (by rw [hsl]; exact k2_hasslot (q4 k hk)) rfl rfl hd fun H' e1 e2 e3 => ?_
    rw [hsl] at e1 ⊢
    exact kk (xk_si C f a v) ⟨rfl, rfl⟩ h H' _ ls (hP.seti hci h3 e0 hk hf hr ⟨_, e1, q2, q3, t_set q4 (xk_apart hX hci h3) hk _⟩ e2 e3) (hS.put e2 e3 hAa) hl

theorem xk_putiN (hX : gx_O (gw_I w (gx_A X)) X mi n dc ds P' oc) {index : Nat} (f : Nat) {host : String} {v : Int32} {x : Option Nat} {ρ : Type} {g : xk_C → Option ρ} {r : ρ} {ty : FieldType} (hty : parseFieldDescriptor (xk_fdt f).2.2.1 = some ty) (ht : ty = .int) (hq : Cond.fieldLinkNest mi.1 index (xk_fdt f).1 (xk_fdt f).2.1 (xk_fdt f).2.2.1 host ∈ lw_tbl) (hr : xk_isr f = false) (hfin : (xk_fdt f).2.2.2 = false) (hd : decode mi.2.2.1 pc = .ok (.putfield index, 3)) (h : (xk_pi C f x v).bind g = some r) (kk : ∀ τ, (xk_n τ = xk_n C ∧ xk_s τ = xk_s C) → g τ = some r → gx_G X (xk_P (gx_A X) w τ) cs ss lv (pc + 3) rest) : gx_G X (xk_P (gx_A X) w C) cs ss lv pc (.int v :: va_rf x :: rest) := fun H locs ls hP hS hl => by
  have hnf : narrow ty (.int v) = .int v ∧ fits ty (.int v) = true := by subst ht; exact ⟨rfl, rfl⟩
  unfold xk_pi at h
  cases x with
  | none => cases h
  | some a =>
    dsimp only at h
    by_cases hh : xk_has (xk_k C a) f = true
    case neg =>
      rw [if_neg hh] at h
      cases h
    rw [if_pos hh] at h
    obtain ⟨ci, k, cell, cf, kf, fi, fd, hci, h3, e0, hk, hf, q1, q2, q3, q4, hi, hsl, hst, hT⟩ := xk_core hX hP hh
    obtain ⟨-, hfc, kC, hkC, hkind⟩ := hX.2.2.2.2.2.2.2.1.1.1 ci _ (xk_at ci hci)
    have hlay := hX.2.2.2.2.2.1 _ (xk_in ci hci _ (u_in_lay hk))
    unfold u_lay at hlay
    rw [hT] at hlay
    have hAa : gx_A X a := by
      rcases hP.2.2.2.1 a (by rw [e0]; omega) with q | q
      · exact q
      · omega
    rw [if_neg (by rw [hfin]; decide)] at hlay
    have h6 := u_store hfc hkC hkind hlay hi hty hnf.1 hnf.2
    refine va_WputK (a := a) hX.1 hX.2.1 (f := fd) hX.2.2.2.2.1 (va_Nw.use rfl (hX.2.2.2.2.2.2.2.1.2.1 _ (gw_xq hq rfl))) hi hst (by rw [q2]; exact h6) q1 q3 (by rw [hsl]; exact k2_hasslot (q4 k hk)) rfl rfl hd fun H' e1 e2 e3 => ?_
    rw [hsl] at e1 ⊢
    exact kk (xk_si C f a v) ⟨rfl, rfl⟩ h H' _ ls (hP.seti hci h3 e0 hk hf hr ⟨_, e1, q2, q3, t_set q4 (xk_apart hX hci h3) hk _⟩ e2 e3) (hS.put e2 e3 hAa) hl

theorem xk_putz (hX : gx_O (gw_I w (gx_A X)) X mi n dc ds P' oc) {index : Nat} (f : Nat) {ref : String} {v : Int32} {x : Option Nat} {ρ : Type} {g : xk_C → Option ρ} {r : ρ} {ty : FieldType} (hty : parseFieldDescriptor (xk_fdt f).2.2.1 = some ty) (ht : ty = .boolean) (hq : Cond.fieldLink mi.1 index ref (xk_fdt f).2.1 (xk_fdt f).2.2.1 ∈ lw_all) (hsame : ∀ x, (gx_s X).fieldFound? (xk_fdt f).1 (xk_fdt f).2.1 (xk_fdt f).2.2.1 = some x → (gx_s X).fieldFound? ref (xk_fdt f).2.1 (xk_fdt f).2.2.1 = some x) (hr : xk_isr f = false) (hfin : (xk_fdt f).2.2.2 = false) (hd : decode mi.2.2.1 pc = .ok (.putfield index, 3)) (h : (xk_pz C f x v).bind g = some r) (kk : ∀ τ, (xk_n τ = xk_n C ∧ xk_s τ = xk_s C) → g τ = some r → gx_G X (xk_P (gx_A X) w τ) cs ss lv (pc + 3) rest) : gx_G X (xk_P (gx_A X) w C) cs ss lv pc (.int v :: va_rf x :: rest) := fun H locs ls hP hS hl => by
  unfold xk_pz at h
  by_cases hz : v = 0 ∨ v = 1
  case neg =>
    rw [if_neg hz] at h
    cases h
  rw [if_pos hz] at h
  have hnf : narrow ty (.int v) = .int v ∧ fits ty (.int v) = true := by subst ht; exact ⟨gz_nar hz, gz_fit hz⟩
  unfold xk_pi at h
  cases x with
  | none => cases h
  | some a =>
    dsimp only at h
    by_cases hh : xk_has (xk_k C a) f = true
    case neg =>
      rw [if_neg hh] at h
      cases h
    rw [if_pos hh] at h
    obtain ⟨ci, k, cell, cf, kf, fi, fd, hci, h3, e0, hk, hf, q1, q2, q3, q4, hi, hsl, hst, hT⟩ := xk_core hX hP hh
    obtain ⟨-, hfc, kC, hkC, hkind⟩ := hX.2.2.2.2.2.2.2.1.1.1 ci _ (xk_at ci hci)
    have hlay := hX.2.2.2.2.2.1 _ (xk_in ci hci _ (u_in_lay hk))
    unfold u_lay at hlay
    rw [hT] at hlay
    have hAa : gx_A X a := by
      rcases hP.2.2.2.1 a (by rw [e0]; omega) with q | q
      · exact q
      · omega
    rw [if_neg (by rw [hfin]; decide)] at hlay
    have h6 := u_store hfc hkC hkind hlay hi hty hnf.1 hnf.2
    refine W.putK (a := a) hX.1 hX.2.1 (f := fd) ⟨hX.2.2.2.2.1, hX.2.2.2.2.2.1 _ hq, ⟨_, _, _, hsame _ hi⟩, hst⟩ (by rw [q2]; exact h6) q1 q3 (by rw [hsl]; exact k2_hasslot (q4 k hk)) rfl rfl hd fun H' e1 e2 e3 => ?_
    rw [hsl] at e1 ⊢
    exact kk (xk_si C f a v) ⟨rfl, rfl⟩ h H' _ ls (hP.seti hci h3 e0 hk hf hr ⟨_, e1, q2, q3, t_set q4 (xk_apart hX hci h3) hk _⟩ e2 e3) (hS.put e2 e3 hAa) hl

theorem xk_putzF (hX : gx_O (gw_I w (gx_A X)) X mi n dc ds P' oc) {index : Nat} (f : Nat) {v : Int32} {x : Option Nat} {ρ : Type} {g : xk_C → Option ρ} {r : ρ} {ty : FieldType} (hty : parseFieldDescriptor (xk_fdt f).2.2.1 = some ty) (ht : ty = .boolean) (hq : Cond.fieldLink mi.1 index (xk_fdt f).1 (xk_fdt f).2.1 (xk_fdt f).2.2.1 ∈ lw_all) (hr : xk_isr f = false) (hfin : (xk_fdt f).2.2.2 = true ∧ (xk_fdt f).1 = mi.1 ∧ mi.2.1 = "<init>") (hd : decode mi.2.2.1 pc = .ok (.putfield index, 3)) (h : (xk_pz C f x v).bind g = some r) (kk : ∀ τ, (xk_n τ = xk_n C ∧ xk_s τ = xk_s C) → g τ = some r → gx_G X (xk_P (gx_A X) w τ) cs ss lv (pc + 3) rest) : gx_G X (xk_P (gx_A X) w C) cs ss lv pc (.int v :: va_rf x :: rest) := fun H locs ls hP hS hl => by
  unfold xk_pz at h
  by_cases hz : v = 0 ∨ v = 1
  case neg =>
    rw [if_neg hz] at h
    cases h
  rw [if_pos hz] at h
  have hnf : narrow ty (.int v) = .int v ∧ fits ty (.int v) = true := by subst ht; exact ⟨gz_nar hz, gz_fit hz⟩
  unfold xk_pi at h
  cases x with
  | none => cases h
  | some a =>
    dsimp only at h
    by_cases hh : xk_has (xk_k C a) f = true
    case neg =>
      rw [if_neg hh] at h
      cases h
    rw [if_pos hh] at h
    obtain ⟨ci, k, cell, cf, kf, fi, fd, hci, h3, e0, hk, hf, q1, q2, q3, q4, hi, hsl, hst, hT⟩ := xk_core hX hP hh
    obtain ⟨-, hfc, kC, hkC, hkind⟩ := hX.2.2.2.2.2.2.2.1.1.1 ci _ (xk_at ci hci)
    have hlay := hX.2.2.2.2.2.1 _ (xk_in ci hci _ (u_in_lay hk))
    unfold u_lay at hlay
    rw [hT] at hlay
    have hAa : gx_A X a := by
      rcases hP.2.2.2.1 a (by rw [e0]; omega) with q | q
      · exact q
      · omega
    rw [if_pos hfin.1] at hlay
    have hcf : (gx_m X).cls = cf := by
      obtain ⟨_, _, c', _, _, _, -, -, hf', -, -, -, hown2, -⟩ := Cond.laysFinal_spec hlay
      have e1 : c' = cf := by have := hi.symm.trans hf'; simp at this; exact this.1.symm
      rw [hfin.2.1] at hown2
      rw [← e1]; exact Option.some.inj (hX.2.2.2.2.1.symm.trans hown2)
    have h6 := u_fits hfc hkC hkind (Or.inr hlay) hi hty hnf.1 hnf.2
    refine W.putFinK (a := a) hX.1 hX.2.1 hX.2.2.2.2.1 (hX.2.2.2.2.2.1 _ hq) hi hst hcf (hX.2.2.2.2.2.2.2.2.2.2.1.trans hfin.2.2) (by rw [q2]; exact h6) q1 q3 (by rw [hsl]; exact k2_hasslot (q4 k hk)) rfl rfl hd fun H' e1 e2 e3 => ?_
    rw [hsl] at e1 ⊢
    exact kk (xk_si C f a v) ⟨rfl, rfl⟩ h H' _ ls (hP.seti hci h3 e0 hk hf hr ⟨_, e1, q2, q3, t_set q4 (xk_apart hX hci h3) hk _⟩ e2 e3) (hS.put e2 e3 hAa) hl

theorem xk_putzN (hX : gx_O (gw_I w (gx_A X)) X mi n dc ds P' oc) {index : Nat} (f : Nat) {host : String} {v : Int32} {x : Option Nat} {ρ : Type} {g : xk_C → Option ρ} {r : ρ} {ty : FieldType} (hty : parseFieldDescriptor (xk_fdt f).2.2.1 = some ty) (ht : ty = .boolean) (hq : Cond.fieldLinkNest mi.1 index (xk_fdt f).1 (xk_fdt f).2.1 (xk_fdt f).2.2.1 host ∈ lw_tbl) (hr : xk_isr f = false) (hfin : (xk_fdt f).2.2.2 = false) (hd : decode mi.2.2.1 pc = .ok (.putfield index, 3)) (h : (xk_pz C f x v).bind g = some r) (kk : ∀ τ, (xk_n τ = xk_n C ∧ xk_s τ = xk_s C) → g τ = some r → gx_G X (xk_P (gx_A X) w τ) cs ss lv (pc + 3) rest) : gx_G X (xk_P (gx_A X) w C) cs ss lv pc (.int v :: va_rf x :: rest) := fun H locs ls hP hS hl => by
  unfold xk_pz at h
  by_cases hz : v = 0 ∨ v = 1
  case neg =>
    rw [if_neg hz] at h
    cases h
  rw [if_pos hz] at h
  have hnf : narrow ty (.int v) = .int v ∧ fits ty (.int v) = true := by subst ht; exact ⟨gz_nar hz, gz_fit hz⟩
  unfold xk_pi at h
  cases x with
  | none => cases h
  | some a =>
    dsimp only at h
    by_cases hh : xk_has (xk_k C a) f = true
    case neg =>
      rw [if_neg hh] at h
      cases h
    rw [if_pos hh] at h
    obtain ⟨ci, k, cell, cf, kf, fi, fd, hci, h3, e0, hk, hf, q1, q2, q3, q4, hi, hsl, hst, hT⟩ := xk_core hX hP hh
    obtain ⟨-, hfc, kC, hkC, hkind⟩ := hX.2.2.2.2.2.2.2.1.1.1 ci _ (xk_at ci hci)
    have hlay := hX.2.2.2.2.2.1 _ (xk_in ci hci _ (u_in_lay hk))
    unfold u_lay at hlay
    rw [hT] at hlay
    have hAa : gx_A X a := by
      rcases hP.2.2.2.1 a (by rw [e0]; omega) with q | q
      · exact q
      · omega
    rw [if_neg (by rw [hfin]; decide)] at hlay
    have h6 := u_store hfc hkC hkind hlay hi hty hnf.1 hnf.2
    refine va_WputK (a := a) hX.1 hX.2.1 (f := fd) hX.2.2.2.2.1 (va_Nw.use rfl (hX.2.2.2.2.2.2.2.1.2.1 _ (gw_xq hq rfl))) hi hst (by rw [q2]; exact h6) q1 q3 (by rw [hsl]; exact k2_hasslot (q4 k hk)) rfl rfl hd fun H' e1 e2 e3 => ?_
    rw [hsl] at e1 ⊢
    exact kk (xk_si C f a v) ⟨rfl, rfl⟩ h H' _ ls (hP.seti hci h3 e0 hk hf hr ⟨_, e1, q2, q3, t_set q4 (xk_apart hX hci h3) hk _⟩ e2 e3) (hS.put e2 e3 hAa) hl

theorem xk_putr (hX : gx_O (gw_I w (gx_A X)) X mi n dc ds P' oc) {index : Nat} (f : Nat) {ref : String} {v : Option Nat} {x : Option Nat} {ρ : Type} {g : xk_C → Option ρ} {r : ρ} {ty : FieldType} (hty : parseFieldDescriptor (xk_fdt f).2.2.1 = some ty) (ht : (∃ q, ty = .object q) ∨ ∃ q, ty = .array q) (hq : Cond.fieldLink mi.1 index ref (xk_fdt f).2.1 (xk_fdt f).2.2.1 ∈ lw_all) (hsame : ∀ x, (gx_s X).fieldFound? (xk_fdt f).1 (xk_fdt f).2.1 (xk_fdt f).2.2.1 = some x → (gx_s X).fieldFound? ref (xk_fdt f).2.1 (xk_fdt f).2.2.1 = some x) (hr : xk_isr f = true) (hfin : (xk_fdt f).2.2.2 = false) (hd : decode mi.2.2.1 pc = .ok (.putfield index, 3)) (h : (xk_pr C f x v).bind g = some r) (kk : ∀ τ, (xk_n τ = xk_n C ∧ xk_s τ = xk_s C) → g τ = some r → gx_G X (xk_P (gx_A X) w τ) cs ss lv (pc + 3) rest) : gx_G X (xk_P (gx_A X) w C) cs ss lv pc (va_rf v :: va_rf x :: rest) := fun H locs ls hP hS hl => by
  have hnf : narrow ty (va_rf v) = va_rf v ∧ fits ty (va_rf v) = true := by
    rcases ht with ⟨q, rfl⟩ | ⟨q, rfl⟩ <;> cases v <;> exact ⟨rfl, rfl⟩
  unfold xk_pr at h
  cases x with
  | none => cases h
  | some a =>
    dsimp only at h
    by_cases hh : xk_has (xk_k C a) f = true
    case neg =>
      rw [if_neg hh] at h
      cases h
    rw [if_pos hh] at h
    obtain ⟨ci, k, cell, cf, kf, fi, fd, hci, h3, e0, hk, hf, q1, q2, q3, q4, hi, hsl, hst, hT⟩ := xk_core hX hP hh
    obtain ⟨-, hfc, kC, hkC, hkind⟩ := hX.2.2.2.2.2.2.2.1.1.1 ci _ (xk_at ci hci)
    have hlay := hX.2.2.2.2.2.1 _ (xk_in ci hci _ (u_in_lay hk))
    unfold u_lay at hlay
    rw [hT] at hlay
    have hAa : gx_A X a := by
      rcases hP.2.2.2.1 a (by rw [e0]; omega) with q | q
      · exact q
      · omega
    rw [if_neg (by rw [hfin]; decide)] at hlay
    have h6 := u_store hfc hkC hkind hlay hi hty hnf.1 hnf.2
    refine W.putK (a := a) hX.1 hX.2.1 (f := fd) ⟨hX.2.2.2.2.1, hX.2.2.2.2.2.1 _ hq, ⟨_, _, _, hsame _ hi⟩, hst⟩ (by rw [q2]; exact h6) q1 q3 (by rw [hsl]; exact k2_hasslot (q4 k hk)) rfl rfl hd fun H' e1 e2 e3 => ?_
    rw [hsl] at e1 ⊢
    exact kk (xk_sr C f a v) ⟨rfl, rfl⟩ h H' _ ls (hP.setr hci h3 e0 hk hf hr ⟨_, e1, q2, q3, t_set q4 (xk_apart hX hci h3) hk _⟩ e2 e3) (hS.put e2 e3 hAa) hl

theorem xk_putrF (hX : gx_O (gw_I w (gx_A X)) X mi n dc ds P' oc) {index : Nat} (f : Nat) {v : Option Nat} {x : Option Nat} {ρ : Type} {g : xk_C → Option ρ} {r : ρ} {ty : FieldType} (hty : parseFieldDescriptor (xk_fdt f).2.2.1 = some ty) (ht : (∃ q, ty = .object q) ∨ ∃ q, ty = .array q) (hq : Cond.fieldLink mi.1 index (xk_fdt f).1 (xk_fdt f).2.1 (xk_fdt f).2.2.1 ∈ lw_all) (hr : xk_isr f = true) (hfin : (xk_fdt f).2.2.2 = true ∧ (xk_fdt f).1 = mi.1 ∧ mi.2.1 = "<init>") (hd : decode mi.2.2.1 pc = .ok (.putfield index, 3)) (h : (xk_pr C f x v).bind g = some r) (kk : ∀ τ, (xk_n τ = xk_n C ∧ xk_s τ = xk_s C) → g τ = some r → gx_G X (xk_P (gx_A X) w τ) cs ss lv (pc + 3) rest) : gx_G X (xk_P (gx_A X) w C) cs ss lv pc (va_rf v :: va_rf x :: rest) := fun H locs ls hP hS hl => by
  have hnf : narrow ty (va_rf v) = va_rf v ∧ fits ty (va_rf v) = true := by
    rcases ht with ⟨q, rfl⟩ | ⟨q, rfl⟩ <;> cases v <;> exact ⟨rfl, rfl⟩
  unfold xk_pr at h
  cases x with
  | none => cases h
  | some a =>
    dsimp only at h
    by_cases hh : xk_has (xk_k C a) f = true
    case neg =>
      rw [if_neg hh] at h
      cases h
    rw [if_pos hh] at h
    obtain ⟨ci, k, cell, cf, kf, fi, fd, hci, h3, e0, hk, hf, q1, q2, q3, q4, hi, hsl, hst, hT⟩ := xk_core hX hP hh
    obtain ⟨-, hfc, kC, hkC, hkind⟩ := hX.2.2.2.2.2.2.2.1.1.1 ci _ (xk_at ci hci)
    have hlay := hX.2.2.2.2.2.1 _ (xk_in ci hci _ (u_in_lay hk))
    unfold u_lay at hlay
    rw [hT] at hlay
    have hAa : gx_A X a := by
      rcases hP.2.2.2.1 a (by rw [e0]; omega) with q | q
      · exact q
      · omega
    rw [if_pos hfin.1] at hlay
    have hcf : (gx_m X).cls = cf := by
      obtain ⟨_, _, c', _, _, _, -, -, hf', -, -, -, hown2, -⟩ := Cond.laysFinal_spec hlay
      have e1 : c' = cf := by have := hi.symm.trans hf'; simp at this; exact this.1.symm
      rw [hfin.2.1] at hown2
      rw [← e1]; exact Option.some.inj (hX.2.2.2.2.1.symm.trans hown2)
    have h6 := u_fits hfc hkC hkind (Or.inr hlay) hi hty hnf.1 hnf.2
    refine W.putFinK (a := a) hX.1 hX.2.1 hX.2.2.2.2.1 (hX.2.2.2.2.2.1 _ hq) hi hst hcf (hX.2.2.2.2.2.2.2.2.2.2.1.trans hfin.2.2) (by rw [q2]; exact h6) q1 q3 (by rw [hsl]; exact k2_hasslot (q4 k hk)) rfl rfl hd fun H' e1 e2 e3 => ?_
    rw [hsl] at e1 ⊢
    exact kk (xk_sr C f a v) ⟨rfl, rfl⟩ h H' _ ls (hP.setr hci h3 e0 hk hf hr ⟨_, e1, q2, q3, t_set q4 (xk_apart hX hci h3) hk _⟩ e2 e3) (hS.put e2 e3 hAa) hl

theorem xk_putrN (hX : gx_O (gw_I w (gx_A X)) X mi n dc ds P' oc) {index : Nat} (f : Nat) {host : String} {v : Option Nat} {x : Option Nat} {ρ : Type} {g : xk_C → Option ρ} {r : ρ} {ty : FieldType} (hty : parseFieldDescriptor (xk_fdt f).2.2.1 = some ty) (ht : (∃ q, ty = .object q) ∨ ∃ q, ty = .array q) (hq : Cond.fieldLinkNest mi.1 index (xk_fdt f).1 (xk_fdt f).2.1 (xk_fdt f).2.2.1 host ∈ lw_tbl) (hr : xk_isr f = true) (hfin : (xk_fdt f).2.2.2 = false) (hd : decode mi.2.2.1 pc = .ok (.putfield index, 3)) (h : (xk_pr C f x v).bind g = some r) (kk : ∀ τ, (xk_n τ = xk_n C ∧ xk_s τ = xk_s C) → g τ = some r → gx_G X (xk_P (gx_A X) w τ) cs ss lv (pc + 3) rest) : gx_G X (xk_P (gx_A X) w C) cs ss lv pc (va_rf v :: va_rf x :: rest) := fun H locs ls hP hS hl => by
  have hnf : narrow ty (va_rf v) = va_rf v ∧ fits ty (va_rf v) = true := by
    rcases ht with ⟨q, rfl⟩ | ⟨q, rfl⟩ <;> cases v <;> exact ⟨rfl, rfl⟩
  unfold xk_pr at h
  cases x with
  | none => cases h
  | some a =>
    dsimp only at h
    by_cases hh : xk_has (xk_k C a) f = true
    case neg =>
      rw [if_neg hh] at h
      cases h
    rw [if_pos hh] at h
    obtain ⟨ci, k, cell, cf, kf, fi, fd, hci, h3, e0, hk, hf, q1, q2, q3, q4, hi, hsl, hst, hT⟩ := xk_core hX hP hh
    obtain ⟨-, hfc, kC, hkC, hkind⟩ := hX.2.2.2.2.2.2.2.1.1.1 ci _ (xk_at ci hci)
    have hlay := hX.2.2.2.2.2.1 _ (xk_in ci hci _ (u_in_lay hk))
    unfold u_lay at hlay
    rw [hT] at hlay
    have hAa : gx_A X a := by
      rcases hP.2.2.2.1 a (by rw [e0]; omega) with q | q
      · exact q
      · omega
    rw [if_neg (by rw [hfin]; decide)] at hlay
    have h6 := u_store hfc hkC hkind hlay hi hty hnf.1 hnf.2
    refine va_WputK (a := a) hX.1 hX.2.1 (f := fd) hX.2.2.2.2.1 (va_Nw.use rfl (hX.2.2.2.2.2.2.2.1.2.1 _ (gw_xq hq rfl))) hi hst (by rw [q2]; exact h6) q1 q3 (by rw [hsl]; exact k2_hasslot (q4 k hk)) rfl rfl hd fun H' e1 e2 e3 => ?_
    rw [hsl] at e1 ⊢
    exact kk (xk_sr C f a v) ⟨rfl, rfl⟩ h H' _ ls (hP.setr hci h3 e0 hk hf hr ⟨_, e1, q2, q3, t_set q4 (xk_apart hX hci h3) hk _⟩ e2 e3) (hS.put e2 e3 hAa) hl

theorem xk_bornV : ∀ ci, ci < 21 → ci ≠ 99 → ∀ j, j < (xk_cl ci).2.2 → defaultValue (xk_ty ci j) = (if xk_isr (xk_f ci j) = true then .null else .int 0) := fun ci hci h3 j hj => by
  have h := xk_allS xk_tyr0 hci h3 hj
  cases hty : xk_ty ci j <;> rw [hty] at h <;> simp [xk_tyB] at h <;> simp [h, defaultValue]
theorem xk_new (hX : gx_O (gw_I w (gx_A X)) X mi n dc ds P' oc) {index : Nat} (ci : Nat) {ρ : Type} {g : xk_C → Option ρ} {r : ρ} (hci : ci < 21 ∧ ci ≠ 99) (hq : Cond.classLink mi.1 index (xk_cl ci).1 ∈ lw_all ∧ Cond.instantiable (xk_cl ci).1 (xk_cl ci).2.2 ∈ lw_all ∧ Cond.initialized (xk_cl ci).1 ∈ lw_all) (hd : decode mi.2.2.1 pc = .ok (.new index, 3)) (h : (xk_nw C ci).bind g = some r) (kk : ∀ τ, (xk_n τ = xk_n C + 1 ∧ xk_s τ = xk_s C + xk_N ci) → g τ = some r → (cs + 1 ≤ dc ∧ ss + xk_N ci ≤ ds) ∧ gx_G X (xk_P (gx_A X) w τ) (cs + 1) (ss + xk_N ci) lv (pc + 3) (va_rf (some (xk_n C)) :: rest)) : gx_G X (xk_P (gx_A X) w C) cs ss lv pc rest := fun H locs ls hP hS hl => by
  have hts := hX.2.2.2.2.2.1
  have hKn := hX.2.2.2.2.2.2.2.1.1.1 ci _ (xk_at ci hci.1)
  have hN := xk_Neq ci hci.1 hci.2
  have hf := (kk (xk_mk C (ci + 1) 0 (xk_N ci)) ⟨rfl, rfl⟩ h).1
  have hR := hX.2.2.2.2.2.2.2.2.2.1
  refine W.newcK hX.1 hX.2.1 hX.2.2.2.2.1 (hts _ hq.1) (hts _ hq.2.1) (hts _ hq.2.2) rfl hd (Nat.le_trans hf.1 hR.2.1) (by rw [hN]; exact Nat.le_trans hf.2 hR.2.2.1) hKn.2.1 hP.1 fun H1 kC hkC e1 z1 o1 => ?_
  have hB := u_born (xk_ty ci) hts (xk_in ci hci.1) hKn hkC e1 (xk_tok ci hci.1)
  have h2 := (kk (xk_mk C (ci + 1) 0 (xk_N ci)) ⟨rfl, rfl⟩ h).2 H1 locs ls (hP.grow z1 o1 (fun cj hcj hj3 e => by
    have : cj = ci := by omega
    subst this
    exact hB.to (fun j hj => (xk_bornV _ hcj hj3 j hj))) (fun t ht e => by have := hci.1; omega) (fun t _ ht e => by have := hci.1; omega)) ⟨Nat.le_trans hS.1 (by rw [z1, hP.1]; exact Nat.le_succ _), fun q g1 g2 => (o1 q (by rw [← hP.1]; exact Nat.lt_of_lt_of_le g1 hS.1)).trans (hS.2.1 q g1 g2), hS.2.2⟩ hl
  rw [hN]
  exact h2
/-- the array classes -/
abbrev xk_at9 (t : Nat) : FieldType := gw_at.getD t .int
theorem xk_arr (hX : gx_O (gw_I w (gx_A X)) X mi n dc ds P' oc) {t : Nat} (ht : t < 10) : ArrOfT (gx_s X) (gw_dA w t) (xk_at9 t) ∧ va_RA (gx_s X) (gw_dA w t) (xk_at9 t) := by
  refine hX.2.2.2.2.2.2.2.1.1.2 t (gw_dA w t, xk_at9 t) ?_
  unfold gw_ty
  rw [List.getElem?_mapIdx, List.getElem?_eq_getElem (by exact ht)]
  show some (gw_dA w t, gw_at[t]) = _
  unfold xk_at9
  rw [List.getD_eq_getElem?_getD, List.getElem?_eq_getElem (by exact ht)]
  rfl
theorem xk_newa (hX : gx_O (gw_I w (gx_A X)) X mi n dc ds P' oc) {atype : ArrayType} (t : Nat) {i : Int32} {ρ : Type} {g : xk_C → Option ρ} {r : ρ} (ht : t < 4 ∧ newarray.typeOf atype = xk_at9 t ∧ componentBytes (newarray.typeOf atype) ≤ 4 ∧ defaultValue (newarray.typeOf atype) = .int 0 ∧ ∀ cA, va_RA (gx_s X) cA (xk_at9 t) = ((gx_s X).vm.findClass ("[" ++ (xk_at9 t).toString) = some cA)) (hq : Cond.arrayClass (newarray.typeOf atype) ∈ lw_all) (hd : decode mi.2.2.1 pc = .ok (.newarray atype, 2)) (h : (xk_na C t i).bind g = some r) (kk : ∀ τ, (xk_n τ = xk_n C + 1 ∧ xk_s τ = xk_s C + i.toNatClampNeg) → g τ = some r → (cs + 1 ≤ dc ∧ ss + i.toNatClampNeg ≤ ds) ∧ gx_G X (xk_P (gx_A X) w τ) (cs + 1) (ss + i.toNatClampNeg) lv (pc + 2) (va_rf (some (xk_n C)) :: rest)) : gx_G X (xk_P (gx_A X) w C) cs ss lv pc (.int i :: rest) := fun H locs ls hP hS hl => by
  unfold xk_na at h
  by_cases hc : i < 0 ∨ 1000000 < i.toNatClampNeg
  case pos =>
    rw [if_pos hc] at h
    cases h
  rw [if_neg hc] at h
  have hR := hX.2.2.2.2.2.2.2.2.2.1
  have hf := (kk (xk_mk C (30 + t) i.toNatClampNeg i.toNatClampNeg) ⟨rfl, rfl⟩ h).1
  refine W.newa hX.1 hX.2.1 (hX.2.2.2.2.2.1 _ hq) rfl hd rfl (fun q => hc (Or.inl q)) (by
    have h1 : i.toNatClampNeg ≤ 1000000 := Nat.not_lt.mp fun q => hc (Or.inr q)
    have h2 := Nat.mul_le_mul h1 ht.2.2.1
    omega) (Nat.le_trans hf.1 hR.2.1) (Nat.le_trans hf.2 hR.2.2.1) fun cA kA comp f1 f2 f3 => ?_
  have hcA : cA = gw_dA w t := by
    have h1 := (xk_arr hX (Nat.lt_of_lt_of_le ht.1 (by decide))).2
    rw [ht.2.2.2.2] at h1
    rw [ht.2.1] at f1
    exact Option.some.inj (f1.symm.trans h1)
  generalize hH1 : H.push ({ cls := cA, slots := Array.replicate i.toNatClampNeg (defaultValue (newarray.typeOf atype)), vm := .none } : Cell) = H1
  have z1 : H1.size = xk_n C + 1 := by rw [← hH1, Array.size_push, hP.1]
  have e1 : H1[xk_n C]? = some (arrV cA i.toNatClampNeg (fun _ => .int 0)) := by rw [← hH1, ← hP.1, Array.getElem?_push_size, ← arrV_new, ht.2.2.2.1]
  have o1 : ∀ q : Nat, q < xk_n C → H1[q]? = H[q]? := fun q hq => by rw [← hH1, Array.getElem?_push, if_neg (by rw [hP.1]; exact Nat.ne_of_lt hq)]
  have h2 := (kk (xk_mk C (30 + t) i.toNatClampNeg i.toNatClampNeg) ⟨rfl, rfl⟩ h).2 H1 locs ls (hP.grow z1 o1 (fun cj hcj hj3 e => by omega) (fun t2 ht2 e => by
    have : t2 = t := by omega
    subst this
    rw [← hcA]
    exact e1) (fun t2 h4 ht2 e => by have := ht.1; omega)) ⟨Nat.le_trans hS.1 (by rw [z1, hP.1]; exact Nat.le_succ _), fun q g1 g2 => (o1 q (by rw [← hP.1]; exact Nat.lt_of_lt_of_le g1 hS.1)).trans (hS.2.1 q g1 g2), hS.2.2⟩ hl
  rw [← hP.1] at h2
  exact h2
end XR
