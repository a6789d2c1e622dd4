set_option maxRecDepth 100000
/-- the run that ends in r leaves no less than C has -/
def xk_lr {α : Type} (r : xk_C × α) (C : xk_C) (o : Option (xk_C × α)) : Prop := o = some r → xk_n C ≤ xk_n r.1 ∧ xk_s C ≤ xk_s r.1
def xk_er {α : Type} (r : xk_C × α) (C : xk_C) (o : Option (xk_C × α)) : Prop := o = some r → xk_n r.1 = xk_n C ∧ xk_s r.1 = xk_s C
section XL
variable {α β : Type} {r : xk_C × α} {C : xk_C}
theorem xk_use {o : Option (xk_C × α)} (h : o = some r) (hz : xk_lr r C o) : xk_n C ≤ xk_n r.1 ∧ xk_s C ≤ xk_s r.1 := hz h
theorem xk_lr_none : xk_lr r C none := fun h => by cases h
theorem xk_er_none : xk_er r C none := fun h => by cases h
theorem xk_lr_ret {v : α} : xk_lr r C (some (C, v)) := fun h => by cases h; exact ⟨Nat.le_refl _, Nat.le_refl _⟩
theorem xk_er_ret {v : α} : xk_er r C (some (C, v)) := fun h => by cases h; exact ⟨rfl, rfl⟩
theorem xk_lr_ite {c : Prop} [Decidable c] {a b : Option (xk_C × α)} (h1 : xk_lr r C a) (h2 : xk_lr r C b) : xk_lr r C (if c then a else b) := fun h => by
  by_cases q : c
  · rw [if_pos q] at h; exact h1 h
  · rw [if_neg q] at h; exact h2 h
theorem xk_er_ite {c : Prop} [Decidable c] {a b : Option (xk_C × α)} (h1 : xk_er r C a) (h2 : xk_er r C b) : xk_er r C (if c then a else b) := fun h => by
  by_cases q : c
  · rw [if_pos q] at h; exact h1 h
  · rw [if_neg q] at h; exact h2 h
theorem xk_lr_op {o : Option xk_C} {k : xk_C → Option (xk_C × α)} (h1 : ∀ τ, o = some τ → xk_n C ≤ xk_n τ ∧ xk_s C ≤ xk_s τ) (h2 : ∀ τ, xk_lr r τ (k τ)) : xk_lr r C (o.bind k) := fun h => by
  obtain ⟨τ, e, h⟩ := gx_bs h
  have a := h1 τ e
  have b := h2 τ h
  omega
theorem xk_er_op {o : Option xk_C} {k : xk_C → Option (xk_C × α)} (h1 : ∀ τ, o = some τ → xk_n τ = xk_n C ∧ xk_s τ = xk_s C) (h2 : ∀ τ, xk_er r τ (k τ)) : xk_er r C (o.bind k) := fun h => by
  obtain ⟨τ, e, h⟩ := gx_bs h
  have a := h1 τ e
  have b := h2 τ h
  omega
theorem xk_lr_ca {o : Option (xk_C × β)} {k : xk_C × β → Option (xk_C × α)} (h1 : ∀ p, o = some p → xk_n C ≤ xk_n p.1 ∧ xk_s C ≤ xk_s p.1) (h2 : ∀ p, xk_lr r p.1 (k p)) : xk_lr r C (o.bind k) := fun h => by
  obtain ⟨τ, e, h⟩ := gx_bs h
  have a := h1 τ e
  have b := h2 τ h
  omega
theorem xk_er_ca {o : Option (xk_C × β)} {k : xk_C × β → Option (xk_C × α)} (h1 : ∀ p, o = some p → xk_n p.1 = xk_n C ∧ xk_s p.1 = xk_s C) (h2 : ∀ p, xk_er r p.1 (k p)) : xk_er r C (o.bind k) := fun h => by
  obtain ⟨τ, e, h⟩ := gx_bs h
  have a := h1 τ e
  have b := h2 τ h
  omega
theorem xk_lr_rd {o : Option β} {k : β → Option (xk_C × α)} (h2 : ∀ v, xk_lr r C (k v)) : xk_lr r C (o.bind k) := fun h => by
  obtain ⟨v, e, h⟩ := gx_bs h
  exact h2 v h
theorem xk_er_rd {o : Option β} {k : β → Option (xk_C × α)} (h2 : ∀ v, xk_er r C (k v)) : xk_er r C (o.bind k) := fun h => by
  obtain ⟨v, e, h⟩ := gx_bs h
  exact h2 v h
theorem xk_le_of {n s n' s' : Nat} (h : n' = n ∧ s' = s) : n ≤ n' ∧ s ≤ s' := by omega
theorem xk_e_pi {f : Nat} {x : Option Nat} {v : Int32} : ∀ τ, xk_pi C f x v = some τ → xk_n τ = xk_n C ∧ xk_s τ = xk_s C := fun τ h => by
  unfold xk_pi at h
  cases x with
  | none => cases h
  | some a =>
    dsimp only at h
    split at h
    · cases h; exact ⟨rfl, rfl⟩
    · cases h
theorem xk_e_pz {f : Nat} {x : Option Nat} {v : Int32} : ∀ τ, xk_pz C f x v = some τ → xk_n τ = xk_n C ∧ xk_s τ = xk_s C := fun τ h => by
  unfold xk_pz at h
  split at h
  · exact xk_e_pi τ h
  · cases h
theorem xk_e_pr {f : Nat} {x v : Option Nat} : ∀ τ, xk_pr C f x v = some τ → xk_n τ = xk_n C ∧ xk_s τ = xk_s C := fun τ h => by
  unfold xk_pr at h
  cases x with
  | none => cases h
  | some a =>
    dsimp only at h
    split at h
    · cases h; exact ⟨rfl, rfl⟩
    · cases h
theorem xk_e_st {t : Nat} {x : Option Nat} {i v : Int32} : ∀ τ, xk_st C t x i v = some τ → xk_n τ = xk_n C ∧ xk_s τ = xk_s C := fun τ h => by
  unfold xk_st at h
  split at h
  · cases h
  · cases h; exact ⟨rfl, rfl⟩
theorem xk_e_sa {t : Nat} {x v : Option Nat} {i : Int32} : ∀ τ, xk_sa C t x i v = some τ → xk_n τ = xk_n C ∧ xk_s τ = xk_s C := fun τ h => by
  unfold xk_sa at h
  split at h
  · cases h
  · split at h
    · cases h; exact ⟨rfl, rfl⟩
    · cases h
theorem xk_e_cpi {x y : Option Nat} {sp dp k : Int32} : ∀ τ, xk_cpi C x sp y dp k = some τ → xk_n τ = xk_n C ∧ xk_s τ = xk_s C := fun τ h => by
  unfold xk_cpi at h
  split at h
  · cases h
  · split at h
    · cases h
    · cases h; exact ⟨rfl, rfl⟩
theorem xk_e_cpq {t : Nat} {x y : Option Nat} {sp dp k : Int32} : ∀ τ, xk_cpq C t x sp y dp k = some τ → xk_n τ = xk_n C ∧ xk_s τ = xk_s C := fun τ h => by
  unfold xk_cpq at h
  split at h
  · cases h
  · split at h
    · cases h; exact ⟨rfl, rfl⟩
    · cases h
theorem xk_m_nw {ci : Nat} : ∀ τ, xk_nw C ci = some τ → xk_n C ≤ xk_n τ ∧ xk_s C ≤ xk_s τ := fun τ h => by
  unfold xk_nw at h
  cases h
  exact ⟨Nat.le_succ _, Nat.le_add_right _ _⟩
theorem xk_m_na {t : Nat} {i : Int32} : ∀ τ, xk_na C t i = some τ → xk_n C ≤ xk_n τ ∧ xk_s C ≤ xk_s τ := fun τ h => by
  unfold xk_na at h
  split at h
  · cases h
  · cases h
    exact ⟨Nat.le_succ _, Nat.le_add_right _ _⟩
theorem xk_m_cln {x : Option Nat} : ∀ τ, xk_cln C x = some τ → xk_n C ≤ xk_n τ ∧ xk_s C ≤ xk_s τ := fun τ h => by
  unfold xk_cln at h
  cases x with
  | none => cases h
  | some a =>
    dsimp only at h
    split at h
    · cases h; exact ⟨Nat.le_succ _, Nat.le_add_right _ _⟩
    · cases h
theorem xk_m_pi {f : Nat} {x : Option Nat} {v : Int32} : ∀ τ, xk_pi C f x v = some τ → xk_n C ≤ xk_n τ ∧ xk_s C ≤ xk_s τ := fun τ h => xk_le_of (xk_e_pi τ h)
theorem xk_m_pz {f : Nat} {x : Option Nat} {v : Int32} : ∀ τ, xk_pz C f x v = some τ → xk_n C ≤ xk_n τ ∧ xk_s C ≤ xk_s τ := fun τ h => xk_le_of (xk_e_pz τ h)
theorem xk_m_pr {f : Nat} {x v : Option Nat} : ∀ τ, xk_pr C f x v = some τ → xk_n C ≤ xk_n τ ∧ xk_s C ≤ xk_s τ := fun τ h => xk_le_of (xk_e_pr τ h)
theorem xk_m_st {t : Nat} {x : Option Nat} {i v : Int32} : ∀ τ, xk_st C t x i v = some τ → xk_n C ≤ xk_n τ ∧ xk_s C ≤ xk_s τ := fun τ h => xk_le_of (xk_e_st τ h)
theorem xk_m_sa {t : Nat} {x v : Option Nat} {i : Int32} : ∀ τ, xk_sa C t x i v = some τ → xk_n C ≤ xk_n τ ∧ xk_s C ≤ xk_s τ := fun τ h => xk_le_of (xk_e_sa τ h)
theorem xk_m_cpi {x y : Option Nat} {sp dp k : Int32} : ∀ τ, xk_cpi C x sp y dp k = some τ → xk_n C ≤ xk_n τ ∧ xk_s C ≤ xk_s τ := fun τ h => xk_le_of (xk_e_cpi τ h)
theorem xk_m_cpq {t : Nat} {x y : Option Nat} {sp dp k : Int32} : ∀ τ, xk_cpq C t x sp y dp k = some τ → xk_n C ≤ xk_n τ ∧ xk_s C ≤ xk_s τ := fun τ h => xk_le_of (xk_e_cpq τ h)
theorem xk_isS {kd : Nat} {x : Option Nat} {b : Nat} (h : xk_is C kd x = some b) : x = some b ∧ xk_k C b = kd := by
  unfold xk_is at h
  cases x with
  | none => cases h
  | some a =>
    dsimp only at h
    split at h
    · rename_i hc
      cases h
      exact ⟨rfl, hc⟩
    · cases h
/-- an object of any class -/
def xk_io (C : xk_C) (x : Option Nat) : Option Nat := match x with | none => none | some a => if xk_k C a ≠ 0 ∧ xk_k C a < 22 ∧ xk_k C a ≠ 4 then some a else none
theorem xk_ioS {x : Option Nat} {b : Nat} (h : xk_io C x = some b) : x = some b ∧ ∃ ci, ci < 21 ∧ ci ≠ 99 ∧ xk_k C b = ci + 1 := by
  unfold xk_io at h
  cases x with
  | none => cases h
  | some a =>
    dsimp only at h
    split at h
    · rename_i hc
      cases h
      exact ⟨rfl, xk_k C b - 1, by omega, by omega, by omega⟩
    · cases h
end XL
section XM
variable {X : gx_X} {P : Heap → Prop} {lv : List (Option Value)} {pc : Nat} {st : List Value}
theorem xk_G0 {a b : Nat} (h : gx_G X P (a - a) (b - b) lv pc st) : gx_G X P 0 0 lv pc st := by
  rw [Nat.sub_self, Nat.sub_self] at h
  exact h
/-- behind a call that allocates -/
theorem xk_Gc {a b n0 a' b' s0 : Nat} (hm : n0 ≤ a ∧ s0 ≤ a') (hl : a ≤ b ∧ a' ≤ b') (h : gx_G X P (b - n0) (b' - s0) lv pc st) : gx_G X P (a - n0 + (b - a)) (a' - s0 + (b' - a')) lv pc st := by
  rw [show a - n0 + (b - a) = b - n0 by omega, show a' - s0 + (b' - a') = b' - s0 by omega]
  exact h
theorem xk_Gz {cs ss : Nat} (h : gx_G X P cs ss lv pc st) : gx_G X P (cs + 0) (ss + 0) lv pc st := h
theorem xk_Gt {a b n0 a' b' s0 : Nat} (hl : b = a ∧ b' = a') (h : gx_G X P (b - n0) (b' - s0) lv pc st) : gx_G X P (a - n0) (a' - s0) lv pc st := by
  obtain ⟨rfl, rfl⟩ := hl
  exact h
/-- behind a call that doesn't -/
theorem xk_Ge {a b n0 a' b' s0 : Nat} (hl : b = a ∧ b' = a') (h : gx_G X P (b - n0) (b' - s0) lv pc st) : gx_G X P (a - n0 + 0) (a' - s0 + 0) lv pc st := by
  obtain ⟨rfl, rfl⟩ := hl
  exact h
theorem xk_Gm {a b n0 a' b' s0 z : Nat} (hm : n0 ≤ a ∧ s0 ≤ a') (hl : b = a + 1 ∧ b' = a' + z) (h : gx_G X P (b - n0) (b' - s0) lv pc st) : gx_G X P (a - n0 + 1) (a' - s0 + z) lv pc st := by
  rw [show a - n0 + 1 = b - n0 by omega, show a' - s0 + z = b' - s0 by omega]
  exact h
end XM
theorem xk_hfc {a b c n0 a' b' c' s0 : Nat} (hm : n0 ≤ a ∧ s0 ≤ a') (hl : a ≤ b ∧ a' ≤ b') (hz : b ≤ c ∧ b' ≤ c') : a - n0 + (b - a) ≤ c - n0 ∧ a' - s0 + (b' - a') ≤ c' - s0 := by omega
theorem xk_hfe {a c n0 a' c' s0 : Nat} (hz : a ≤ c ∧ a' ≤ c') : a - n0 + 0 ≤ c - n0 ∧ a' - s0 + 0 ≤ c' - s0 := by omega
theorem xk_hfm {a b c n0 a' b' c' s0 z : Nat} (hm : n0 ≤ a ∧ s0 ≤ a') (hl : b = a + 1 ∧ b' = a' + z) (hz : b ≤ c ∧ b' ≤ c') : a - n0 + 1 ≤ c - n0 ∧ a' - s0 + z ≤ c' - s0 := by omega
theorem xk_hfx {a b n0 a' b' s0 : Nat} (hm : n0 ≤ a ∧ s0 ≤ a') (hl : a ≤ b ∧ a' ≤ b') : a - n0 + (b - a) = b - n0 ∧ a' - s0 + (b' - a') = b' - s0 := by omega
theorem xk_hue {a b c a' b' c' : Nat} (hu : a ≤ c ∧ a' ≤ c') (hl : b = a ∧ b' = a') : b ≤ c ∧ b' ≤ c' := by omega
theorem xk_hmc {a b n0 a' b' s0 : Nat} (hm : n0 ≤ a ∧ s0 ≤ a') (hl : a ≤ b ∧ a' ≤ b') : n0 ≤ b ∧ s0 ≤ b' := by omega
theorem xk_hmm {a b n0 a' b' s0 z : Nat} (hm : n0 ≤ a ∧ s0 ≤ a') (hl : b = a + 1 ∧ b' = a' + z) : n0 ≤ b ∧ s0 ≤ b' := by omega
theorem xk_hme {a b n0 a' b' s0 : Nat} (hm : n0 ≤ a ∧ s0 ≤ a') (hl : b = a ∧ b' = a') : n0 ≤ b ∧ s0 ≤ b' := by omega
theorem xk_ty0 : parseFieldDescriptor (xk_fdt 0).2.2.1 = some (.object "java/util/ArrayList") := by decide +kernel
theorem xk_ty1 : parseFieldDescriptor (xk_fdt 1).2.2.1 = some (.int) := by decide +kernel
theorem xk_ty2 : parseFieldDescriptor (xk_fdt 2).2.2.1 = some (.array (.int)) := by decide +kernel
theorem xk_ty3 : parseFieldDescriptor (xk_fdt 3).2.2.1 = some (.object "java/util/ArrayList") := by decide +kernel
theorem xk_ty4 : parseFieldDescriptor (xk_fdt 4).2.2.1 = some (.int) := by decide +kernel
theorem xk_ty5 : parseFieldDescriptor (xk_fdt 5).2.2.1 = some (.int) := by decide +kernel
theorem xk_ty6 : parseFieldDescriptor (xk_fdt 6).2.2.1 = some (.int) := by decide +kernel
theorem xk_ty7 : parseFieldDescriptor (xk_fdt 7).2.2.1 = some (.array (.int)) := by decide +kernel
theorem xk_ty8 : parseFieldDescriptor (xk_fdt 8).2.2.1 = some (.array (.byte)) := by decide +kernel
theorem xk_ty9 : parseFieldDescriptor (xk_fdt 9).2.2.1 = some (.int) := by decide +kernel
theorem xk_ty10 : parseFieldDescriptor (xk_fdt 10).2.2.1 = some (.object "ShellBeach$Case") := by decide +kernel
theorem xk_ty11 : parseFieldDescriptor (xk_fdt 11).2.2.1 = some (.object "java/util/ArrayList") := by decide +kernel
theorem xk_ty12 : parseFieldDescriptor (xk_fdt 12).2.2.1 = some (.object "ShellBeach$Reader") := by decide +kernel
theorem xk_ty13 : parseFieldDescriptor (xk_fdt 13).2.2.1 = some (.array (.int)) := by decide +kernel
theorem xk_ty14 : parseFieldDescriptor (xk_fdt 14).2.2.1 = some (.int) := by decide +kernel
theorem xk_ty15 : parseFieldDescriptor (xk_fdt 15).2.2.1 = some (.int) := by decide +kernel
theorem xk_ty16 : parseFieldDescriptor (xk_fdt 16).2.2.1 = some (.object "ShellBeach$Shell") := by decide +kernel
theorem xk_ty17 : parseFieldDescriptor (xk_fdt 17).2.2.1 = some (.array (.object "ShellBeach$Crab")) := by decide +kernel
theorem xk_ty18 : parseFieldDescriptor (xk_fdt 18).2.2.1 = some (.array (.object "ShellBeach$Shell")) := by decide +kernel
theorem xk_ty19 : parseFieldDescriptor (xk_fdt 19).2.2.1 = some (.array (.object "ShellBeach$Shell")) := by decide +kernel
theorem xk_ty20 : parseFieldDescriptor (xk_fdt 20).2.2.1 = some (.int) := by decide +kernel
theorem xk_ty21 : parseFieldDescriptor (xk_fdt 21).2.2.1 = some (.int) := by decide +kernel
theorem xk_ty22 : parseFieldDescriptor (xk_fdt 22).2.2.1 = some (.int) := by decide +kernel
theorem xk_ty23 : parseFieldDescriptor (xk_fdt 23).2.2.1 = some (.object "java/util/ArrayList") := by decide +kernel
theorem xk_ty24 : parseFieldDescriptor (xk_fdt 24).2.2.1 = some (.int) := by decide +kernel
theorem xk_ty25 : parseFieldDescriptor (xk_fdt 25).2.2.1 = some (.int) := by decide +kernel
theorem xk_ty26 : parseFieldDescriptor (xk_fdt 26).2.2.1 = some (.object "ShellBeach$Image") := by decide +kernel
theorem xk_ty27 : parseFieldDescriptor (xk_fdt 27).2.2.1 = some (.int) := by decide +kernel
theorem xk_ty28 : parseFieldDescriptor (xk_fdt 28).2.2.1 = some (.int) := by decide +kernel
theorem xk_ty29 : parseFieldDescriptor (xk_fdt 29).2.2.1 = some (.int) := by decide +kernel
theorem xk_ty30 : parseFieldDescriptor (xk_fdt 30).2.2.1 = some (.int) := by decide +kernel
theorem xk_ty31 : parseFieldDescriptor (xk_fdt 31).2.2.1 = some (.int) := by decide +kernel
theorem xk_ty32 : parseFieldDescriptor (xk_fdt 32).2.2.1 = some (.array (.array (.char))) := by decide +kernel
theorem xk_ty33 : parseFieldDescriptor (xk_fdt 33).2.2.1 = some (.int) := by decide +kernel
theorem xk_ty34 : parseFieldDescriptor (xk_fdt 34).2.2.1 = some (.int) := by decide +kernel
theorem xk_ty35 : parseFieldDescriptor (xk_fdt 35).2.2.1 = some (.object "ShellBeach$Habit") := by decide +kernel
theorem xk_ty36 : parseFieldDescriptor (xk_fdt 36).2.2.1 = some (.object "ShellBeach") := by decide +kernel
theorem xk_ty37 : parseFieldDescriptor (xk_fdt 37).2.2.1 = some (.int) := by decide +kernel
theorem xk_ty38 : parseFieldDescriptor (xk_fdt 38).2.2.1 = some (.int) := by decide +kernel
theorem xk_ty39 : parseFieldDescriptor (xk_fdt 39).2.2.1 = some (.int) := by decide +kernel
theorem xk_ty40 : parseFieldDescriptor (xk_fdt 40).2.2.1 = some (.int) := by decide +kernel
theorem xk_ty41 : parseFieldDescriptor (xk_fdt 41).2.2.1 = some (.int) := by decide +kernel
theorem xk_ty42 : parseFieldDescriptor (xk_fdt 42).2.2.1 = some (.int) := by decide +kernel
theorem xk_ty43 : parseFieldDescriptor (xk_fdt 43).2.2.1 = some (.object "ShellBeach$Crab") := by decide +kernel
theorem xk_ty44 : parseFieldDescriptor (xk_fdt 44).2.2.1 = some (.int) := by decide +kernel
theorem xk_ty45 : parseFieldDescriptor (xk_fdt 45).2.2.1 = some (.array (.object "ShellBeach$Way")) := by decide +kernel
theorem xk_ty46 : parseFieldDescriptor (xk_fdt 46).2.2.1 = some (.int) := by decide +kernel
theorem xk_ty47 : parseFieldDescriptor (xk_fdt 47).2.2.1 = some (.int) := by decide +kernel
theorem xk_ty48 : parseFieldDescriptor (xk_fdt 48).2.2.1 = some (.int) := by decide +kernel
theorem xk_ty49 : parseFieldDescriptor (xk_fdt 49).2.2.1 = some (.int) := by decide +kernel
theorem xk_ty50 : parseFieldDescriptor (xk_fdt 50).2.2.1 = some (.boolean) := by decide +kernel
theorem xk_ty51 : parseFieldDescriptor (xk_fdt 51).2.2.1 = some (.boolean) := by decide +kernel
theorem xk_ty52 : parseFieldDescriptor (xk_fdt 52).2.2.1 = some (.boolean) := by decide +kernel
theorem xk_ty53 : parseFieldDescriptor (xk_fdt 53).2.2.1 = some (.object "ShellBeach$Shell") := by decide +kernel
theorem xk_ty54 : parseFieldDescriptor (xk_fdt 54).2.2.1 = some (.object "ShellBeach$Crab") := by decide +kernel
theorem xk_ty55 : parseFieldDescriptor (xk_fdt 55).2.2.1 = some (.object "ShellBeach$Habit") := by decide +kernel
theorem xk_ty56 : parseFieldDescriptor (xk_fdt 56).2.2.1 = some (.object "ShellBeach") := by decide +kernel
theorem xk_ty57 : parseFieldDescriptor (xk_fdt 57).2.2.1 = some (.object "ShellBeach$Crab") := by decide +kernel
theorem xk_ty58 : parseFieldDescriptor (xk_fdt 58).2.2.1 = some (.object "ShellBeach") := by decide +kernel
theorem xk_ty59 : parseFieldDescriptor (xk_fdt 59).2.2.1 = some (.object "ShellBeach") := by decide +kernel
theorem xk_ty60 : parseFieldDescriptor (xk_fdt 60).2.2.1 = some (.object "ShellBeach") := by decide +kernel
theorem xk_ty61 : parseFieldDescriptor (xk_fdt 61).2.2.1 = some (.object "ShellBeach") := by decide +kernel
theorem xk_ty62 : parseFieldDescriptor (xk_fdt 62).2.2.1 = some (.object "ShellBeach") := by decide +kernel
theorem xk_ty63 : parseFieldDescriptor (xk_fdt 63).2.2.1 = some (.object "ShellBeach") := by decide +kernel
theorem xk_ty64 : parseFieldDescriptor (xk_fdt 64).2.2.1 = some (.object "ShellBeach") := by decide +kernel
theorem xk_ty65 : parseFieldDescriptor (xk_fdt 65).2.2.1 = some (.int) := by decide +kernel
theorem xk_ty66 : parseFieldDescriptor (xk_fdt 66).2.2.1 = some (.object "java/util/ArrayList") := by decide +kernel
theorem xk_ty67 : parseFieldDescriptor (xk_fdt 67).2.2.1 = some (.array (.int)) := by decide +kernel
theorem xk_ty68 : parseFieldDescriptor (xk_fdt 68).2.2.1 = some (.object "java/util/ArrayList") := by decide +kernel
theorem xk_ty69 : parseFieldDescriptor (xk_fdt 69).2.2.1 = some (.object "ShellBeach") := by decide +kernel
theorem xk_ty70 : parseFieldDescriptor (xk_fdt 70).2.2.1 = some (.object "java/lang/Throwable") := by decide +kernel
theorem xk_ty71 : parseFieldDescriptor (xk_fdt 71).2.2.1 = some (.array (.object "java/lang/StackTraceElement")) := by decide +kernel
theorem xk_ty72 : parseFieldDescriptor (xk_fdt 72).2.2.1 = some (.object "java/util/List") := by decide +kernel
theorem xk_ty73 : parseFieldDescriptor (xk_fdt 73).2.2.1 = some (.object "java/lang/String") := by decide +kernel
theorem xk_ty74 : parseFieldDescriptor (xk_fdt 74).2.2.1 = some (.object "java/lang/Object") := by decide +kernel
theorem xk_ty75 : parseFieldDescriptor (xk_fdt 75).2.2.1 = some (.int) := by decide +kernel
theorem xk_ty76 : parseFieldDescriptor (xk_fdt 76).2.2.1 = some (.int) := by decide +kernel
theorem xk_ty77 : parseFieldDescriptor (xk_fdt 77).2.2.1 = some (.object "ShellBeach$Test") := by decide +kernel
theorem xk_ty78 : parseFieldDescriptor (xk_fdt 78).2.2.1 = some (.int) := by decide +kernel
theorem xk_ty79 : parseFieldDescriptor (xk_fdt 79).2.2.1 = some (.int) := by decide +kernel
theorem xk_ty80 : parseFieldDescriptor (xk_fdt 80).2.2.1 = some (.int) := by decide +kernel
theorem xk_ty81 : parseFieldDescriptor (xk_fdt 81).2.2.1 = some (.object "ShellBeach$Test") := by decide +kernel
theorem xk_ty82 : parseFieldDescriptor (xk_fdt 82).2.2.1 = some (.object "ShellBeach$Test") := by decide +kernel
theorem xk_ty83 : parseFieldDescriptor (xk_fdt 83).2.2.1 = some (.boolean) := by decide +kernel
theorem xk_ty84 : parseFieldDescriptor (xk_fdt 84).2.2.1 = some (.int) := by decide +kernel
theorem xk_ty85 : parseFieldDescriptor (xk_fdt 85).2.2.1 = some (.int) := by decide +kernel
theorem xk_ty86 : parseFieldDescriptor (xk_fdt 86).2.2.1 = some (.int) := by decide +kernel
theorem xk_ty87 : parseFieldDescriptor (xk_fdt 87).2.2.1 = some (.int) := by decide +kernel
theorem xk_ty88 : parseFieldDescriptor (xk_fdt 88).2.2.1 = some (.int) := by decide +kernel
theorem xk_ty89 : parseFieldDescriptor (xk_fdt 89).2.2.1 = some (.int) := by decide +kernel
theorem xk_ty90 : parseFieldDescriptor (xk_fdt 90).2.2.1 = some (.int) := by decide +kernel
theorem xk_ty91 : parseFieldDescriptor (xk_fdt 91).2.2.1 = some (.int) := by decide +kernel
theorem xk_ty92 : parseFieldDescriptor (xk_fdt 92).2.2.1 = some (.int) := by decide +kernel
theorem xk_ty93 : parseFieldDescriptor (xk_fdt 93).2.2.1 = some (.int) := by decide +kernel
theorem xk_ty94 : parseFieldDescriptor (xk_fdt 94).2.2.1 = some (.int) := by decide +kernel
theorem xk_ty95 : parseFieldDescriptor (xk_fdt 95).2.2.1 = some (.int) := by decide +kernel
theorem xk_ty96 : parseFieldDescriptor (xk_fdt 96).2.2.1 = some (.array (.int)) := by decide +kernel
theorem xk_ty97 : parseFieldDescriptor (xk_fdt 97).2.2.1 = some (.array (.int)) := by decide +kernel
theorem xk_ty98 : parseFieldDescriptor (xk_fdt 98).2.2.1 = some (.array (.int)) := by decide +kernel
theorem xk_ty99 : parseFieldDescriptor (xk_fdt 99).2.2.1 = some (.array (.object "ShellBeach$Habit")) := by decide +kernel
theorem xk_ty100 : parseFieldDescriptor (xk_fdt 100).2.2.1 = some (.object "ShellBeach") := by decide +kernel
theorem xk_ty101 : parseFieldDescriptor (xk_fdt 101).2.2.1 = some (.int) := by decide +kernel
theorem xk_ty102 : parseFieldDescriptor (xk_fdt 102).2.2.1 = some (.array (.object "java/lang/Object")) := by decide +kernel
theorem xk_ty103 : parseFieldDescriptor (xk_fdt 103).2.2.1 = some (.int) := by decide +kernel
theorem xk_ty104 : parseFieldDescriptor (xk_fdt 104).2.2.1 = some (.int) := by decide +kernel
theorem xk_ty105 : parseFieldDescriptor (xk_fdt 105).2.2.1 = some (.array (.int)) := by decide +kernel
theorem xk_ty106 : parseFieldDescriptor (xk_fdt 106).2.2.1 = some (.array (.int)) := by decide +kernel
theorem xk_ty107 : parseFieldDescriptor (xk_fdt 107).2.2.1 = some (.array (.int)) := by decide +kernel
theorem xk_ty108 : parseFieldDescriptor (xk_fdt 108).2.2.1 = some (.boolean) := by decide +kernel
theorem xk_ty109 : parseFieldDescriptor (xk_fdt 109).2.2.1 = some (.int) := by decide +kernel
theorem xk_ty110 : parseFieldDescriptor (xk_fdt 110).2.2.1 = some (.int) := by decide +kernel
theorem xk_ty111 : parseFieldDescriptor (xk_fdt 111).2.2.1 = some (.int) := by decide +kernel
theorem xk_ty112 : parseFieldDescriptor (xk_fdt 112).2.2.1 = some (.array (.int)) := by decide +kernel
theorem xk_ty113 : parseFieldDescriptor (xk_fdt 113).2.2.1 = some (.array (.int)) := by decide +kernel
theorem xk_ty114 : parseFieldDescriptor (xk_fdt 114).2.2.1 = some (.array (.int)) := by decide +kernel
theorem xk_ty115 : parseFieldDescriptor (xk_fdt 115).2.2.1 = some (.array (.int)) := by decide +kernel
theorem xk_ty116 : parseFieldDescriptor (xk_fdt 116).2.2.1 = some (.int) := by decide +kernel
theorem xk_ty117 : parseFieldDescriptor (xk_fdt 117).2.2.1 = some (.int) := by decide +kernel
theorem xk_ty118 : parseFieldDescriptor (xk_fdt 118).2.2.1 = some (.boolean) := by decide +kernel
theorem xk_ty119 : parseFieldDescriptor (xk_fdt 119).2.2.1 = some (.int) := by decide +kernel
theorem xk_ty120 : parseFieldDescriptor (xk_fdt 120).2.2.1 = some (.array (.int)) := by decide +kernel
theorem xk_ty121 : parseFieldDescriptor (xk_fdt 121).2.2.1 = some (.array (.int)) := by decide +kernel
theorem xk_ty122 : parseFieldDescriptor (xk_fdt 122).2.2.1 = some (.array (.int)) := by decide +kernel
theorem xk_ty123 : parseFieldDescriptor (xk_fdt 123).2.2.1 = some (.array (.boolean)) := by decide +kernel
theorem xk_ty124 : parseFieldDescriptor (xk_fdt 124).2.2.1 = some (.int) := by decide +kernel
theorem xk_ty125 : parseFieldDescriptor (xk_fdt 125).2.2.1 = some (.int) := by decide +kernel
theorem xk_ty126 : parseFieldDescriptor (xk_fdt 126).2.2.1 = some (.int) := by decide +kernel
theorem xk_ty127 : parseFieldDescriptor (xk_fdt 127).2.2.1 = some (.array (.int)) := by decide +kernel
theorem xk_ty128 : parseFieldDescriptor (xk_fdt 128).2.2.1 = some (.int) := by decide +kernel
theorem xk_ty129 : parseFieldDescriptor (xk_fdt 129).2.2.1 = some (.int) := by decide +kernel
theorem xk_ty130 : parseFieldDescriptor (xk_fdt 130).2.2.1 = some (.int) := by decide +kernel
theorem xk_ty131 : parseFieldDescriptor (xk_fdt 131).2.2.1 = some (.array (.int)) := by decide +kernel
theorem xk_ty132 : parseFieldDescriptor (xk_fdt 132).2.2.1 = some (.array (.int)) := by decide +kernel
theorem xk_ty133 : parseFieldDescriptor (xk_fdt 133).2.2.1 = some (.array (.int)) := by decide +kernel
theorem xk_ty134 : parseFieldDescriptor (xk_fdt 134).2.2.1 = some (.int) := by decide +kernel
theorem xk_ty135 : parseFieldDescriptor (xk_fdt 135).2.2.1 = some (.int) := by decide +kernel
theorem xk_ty136 : parseFieldDescriptor (xk_fdt 136).2.2.1 = some (.boolean) := by decide +kernel
theorem xk_ty137 : parseFieldDescriptor (xk_fdt 137).2.2.1 = some (.int) := by decide +kernel
theorem xk_ty138 : parseFieldDescriptor (xk_fdt 138).2.2.1 = some (.array (.int)) := by decide +kernel
theorem xk_ty139 : parseFieldDescriptor (xk_fdt 139).2.2.1 = some (.int) := by decide +kernel
theorem xk_ty140 : parseFieldDescriptor (xk_fdt 140).2.2.1 = some (.int) := by decide +kernel
theorem xk_ty141 : parseFieldDescriptor (xk_fdt 141).2.2.1 = some (.int) := by decide +kernel
theorem xk_ty142 : parseFieldDescriptor (xk_fdt 142).2.2.1 = some (.int) := by decide +kernel
theorem xk_tr {a b c a' b' c' : Nat} (h : b = a ∧ b' = a') (hz : b ≤ c ∧ b' ≤ c') : a ≤ c ∧ a' ≤ c' := by omega
