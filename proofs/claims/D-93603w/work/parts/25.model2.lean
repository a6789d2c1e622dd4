set_option maxRecDepth 100000
def gm_pt (σ : gm_S) (k : Nat) (v : Int32) : Option gm_S := some (gm_set σ k v)
def gm_pz (σ : gm_S) (k : Nat) (v : Int32) : Option gm_S := if v = 0 ∨ v = 1 then some (gm_set σ k v) else none
def gm_wz (σ : gm_S) (k : Nat) (i v : Int32) : Option gm_S := if v = 0 ∨ v = 1 then gm_wr σ k i v else none
theorem gx_k0 : ∀ v ∈ ([] : List Value), v.category = 1 := fun v h => by cases h
theorem gx_kI {x : Int32} {l : List Value} (h : ∀ v ∈ l, v.category = 1) : ∀ v ∈ (Value.int x :: l), v.category = 1 := fun v hv => by
  rcases List.mem_cons.mp hv with e | e
  · rw [e]; rfl
  · exact h v e
theorem gx_kR {x : Option Nat} {l : List Value} (h : ∀ v ∈ l, v.category = 1) : ∀ v ∈ (va_rf x :: l), v.category = 1 := fun v hv => by
  rcases List.mem_cons.mp hv with e | e
  · rw [e]; exact gx_cat x
  · exact h v e
theorem gx_s8 : ∀ {l : List Value}, (∀ v ∈ l, v.category = 1) → (l.map fun v => v.category).sum = l.length
  | [], _ => rfl
  | v :: l, h => by
    rw [List.map_cons, List.sum_cons, h v List.mem_cons_self, gx_s8 (fun u hu => h u (List.mem_cons_of_mem _ hu)), List.length_cons]
    omega
theorem gx_w8 {l : List Value} (h : ∀ v ∈ l, v.category = 1) (hl : l.length ≤ 8) : (l.map fun v => v.category).sum ≤ 8 := by
  rw [gx_s8 h]
  exact hl
section GM
variable {w : gw_W} {A : Nat → Prop} {X : gx_X} {mi : gx_M} {n dc ds : Nat} {P' : Heap → Prop} {oc : Outcome} {cs ss pc : Nat} {lv : List (Option Value)} {rest : List Value} {σ : gm_S}
theorem gm_putI (hX : gx_O (gw_I w A) X mi n dc ds P' oc) (hA : ∀ q, gm_A w q → gx_A X q) {index : Nat} {k : Nat} {v : Int32} {ρ : Type} {f : gm_S → Option ρ} {r : ρ} (hk : k < 39 ∧ gm_off k = 0) (hq : Cond.fieldLink mi.1 index "ShellBeachModel" (TX3 k).2.1 (TX3 k).2.2.1 ∈ lw_all) (hT : (TX3 k).1 = "ShellBeachModel" ∧ (TX3 k).2.2.2 = false) (hn : tyX3 k = .int) (hd : decode mi.2.2.1 pc = .ok (.putfield index, 3)) (h : (gm_pt σ k v).bind f = some r) (kk : ∀ τ, f τ = some r → gx_G X (gm_P w τ) cs ss lv (pc + 3) rest) : gx_G X (gm_P w σ) cs ss lv pc (.int v :: va_rf (some (gw_mo w)) :: rest) :=
  gm_put hX hA k hk.1 hk.2 hq hT (by rw [hn]; exact ⟨rfl, rfl⟩) hd (kk _ h)
theorem gm_putZ (hX : gx_O (gw_I w A) X mi n dc ds P' oc) (hA : ∀ q, gm_A w q → gx_A X q) {index : Nat} {k : Nat} {v : Int32} {ρ : Type} {f : gm_S → Option ρ} {r : ρ} (hk : k < 39 ∧ gm_off k = 0) (hq : Cond.fieldLink mi.1 index "ShellBeachModel" (TX3 k).2.1 (TX3 k).2.2.1 ∈ lw_all) (hT : (TX3 k).1 = "ShellBeachModel" ∧ (TX3 k).2.2.2 = false) (hn : tyX3 k = .boolean) (hd : decode mi.2.2.1 pc = .ok (.putfield index, 3)) (h : (gm_pz σ k v).bind f = some r) (kk : ∀ τ, f τ = some r → gx_G X (gm_P w τ) cs ss lv (pc + 3) rest) : gx_G X (gm_P w σ) cs ss lv pc (.int v :: va_rf (some (gw_mo w)) :: rest) := by
  unfold gm_pz at h
  by_cases hz : v = 0 ∨ v = 1
  · rw [if_pos hz] at h
    exact gm_put hX hA k hk.1 hk.2 hq hT (by rw [hn]; exact ⟨gz_nar hz, gz_fit hz⟩) hd (kk _ h)
  · rw [if_neg hz] at h
    cases h
theorem gm_stZ (hX : gx_O (gw_I w A) X mi n dc ds P' oc) (hA : ∀ q, gm_A w q → gx_A X q) {k : Nat} {i v : Int32} {ρ : Type} {f : gm_S → Option ρ} {r : ρ} (h0 : gm_off k ≠ 0 ∧ gm_ty k = 3) (hd : decode mi.2.2.1 pc = .ok (.bastore, 1)) (h : (gm_wz σ k i v).bind f = some r) (kk : ∀ τ, f τ = some r → gx_G X (gm_P w τ) cs ss lv (pc + 1) rest) : gx_G X (gm_P w σ) cs ss lv pc (.int v :: .int i :: va_rf (some (gm_a w k)) :: rest) := by
  unfold gm_wz at h
  by_cases hz : v = 0 ∨ v = 1
  · rw [if_pos hz] at h
    exact gm_stz hX hA h0 hz hd h kk
  · rw [if_neg hz] at h
    cases h
end GM
section GD
variable {I : State → Prop} {X : gx_X} {mi : gx_M} {n dc ds : Nat} {P' : Heap → Prop} {oc : Outcome} {P : Heap → Prop} {cs ss pc : Nat} {lv : List (Option Value)} {rest : List Value}
def gx_dv (x y : Int32) : Option Int32 := if y = 0 then none else some (x / y)
def gx_rm (x y : Int32) : Option Int32 := if y = 0 then none else some (x - x / y * y)
theorem gx_idivP (hX : gx_O I X mi n dc ds P' oc) {x y : Int32} {ρ : Type} {f : Int32 → Option ρ} {r : ρ} (hd : decode mi.2.2.1 pc = .ok (.idiv, 1)) (h : (gx_dv x y).bind f = some r) (k : ∀ v, f v = some r → gx_G X P cs ss lv (pc + 1) (.int v :: rest)) : gx_G X P cs ss lv pc (.int y :: .int x :: rest) := by
  unfold gx_dv at h
  by_cases hz : y = 0
  · rw [if_pos hz] at h; cases h
  · rw [if_neg hz] at h
    exact gx_idiv hX hd hz (k _ h)
theorem gx_iremP (hX : gx_O I X mi n dc ds P' oc) {x y : Int32} {ρ : Type} {f : Int32 → Option ρ} {r : ρ} (hd : decode mi.2.2.1 pc = .ok (.irem, 1)) (h : (gx_rm x y).bind f = some r) (k : ∀ v, f v = some r → gx_G X P cs ss lv (pc + 1) (.int v :: rest)) : gx_G X P cs ss lv pc (.int y :: .int x :: rest) := by
  unfold gx_rm at h
  by_cases hz : y = 0
  · rw [if_pos hz] at h; cases h
  · rw [if_neg hz] at h
    exact gx_irem hX hd hz (k _ h)
theorem gx_zretP (hX : gx_O I X mi n dc ds P' oc) {v : Int32} {ρ : Type} {f : Int32 → Option ρ} {r : ρ} (hr : mi.2.2.2.2 = some .boolean) (hd : decode mi.2.2.1 pc = .ok (.ireturn, 1)) (h : (gz v).bind f = some r) (ho : f v = some r → oc = .returned (some (.int v))) (hc : cs = dc ∧ ss = ds) (hp : f v = some r → ∀ H, P H → P' H) : gx_G X P cs ss lv pc [.int v] := by
  obtain ⟨u, hu, h2⟩ := gx_bs h
  obtain ⟨rfl, hz⟩ := gz_some hu
  exact gx_zret hX hr (gz_nar hz) hd (ho h2) hc (hp h2)
end GD
