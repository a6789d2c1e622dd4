set_option maxRecDepth 100000
/-! THE MODEL'S STATE: scalars by field number, arrays by field number; the object lies at gw_mo w, its 16 arrays behind it -/
abbrev gm_S : Type := (Nat → Int32) × (Nat → Nat → Int32)
def gm_off (k : Nat) : Nat := match k with
  | 1 => 1 | 2 => 2 | 3 => 3 | 8 => 4 | 9 => 5 | 10 => 6 | 11 => 7 | 16 => 8 | 17 => 9 | 18 => 10 | 19 => 11 | 23 => 12 | 27 => 13 | 28 => 14 | 29 => 15 | 34 => 16 | _ => 0
def gm_len (k : Nat) : Nat := match k with
  | 1 => 240 | 2 => 240 | 3 => 240 | 8 => 120 | 9 => 960 | 10 => 8 | 11 => 280 | 16 => 5 | 17 => 1120 | 18 => 8 | 19 => 64 | 23 => 12 | 27 => 6 | 28 => 6 | 29 => 6 | 34 => 20 | _ => 0
def gm_ty (k : Nat) : Nat := if k = 19 then 3 else 0
def gm_a (w : gw_W) (k : Nat) : Nat := gw_mo w + gm_off k
def gs (σ : gm_S) (k : Nat) : Int32 := σ.1 k
def ga (σ : gm_S) (k i : Nat) : Int32 := σ.2 k i
def gm_set (σ : gm_S) (k : Nat) (v : Int32) : gm_S := (va_up σ.1 k v, σ.2)
def gm_sta (σ : gm_S) (k i : Nat) (v : Int32) : gm_S := (σ.1, va_up σ.2 k (va_up (σ.2 k) i v))
def gm_rd (σ : gm_S) (k : Nat) (i : Int32) : Option Int32 := if i < 0 ∨ gm_len k ≤ i.toNatClampNeg then none else some (ga σ k i.toNatClampNeg)
def gm_wr (σ : gm_S) (k : Nat) (i v : Int32) : Option gm_S := if i < 0 ∨ gm_len k ≤ i.toNatClampNeg then none else some (gm_sta σ k i.toNatClampNeg v)
/-- a truth value -/
def gz (v : Int32) : Option Int32 := if v = 0 ∨ v = 1 then some v else none
theorem gz_some {v u : Int32} (h : gz v = some u) : u = v ∧ (v = 0 ∨ v = 1) := by
  unfold gz at h
  split at h
  · rename_i hc
    exact ⟨(Option.some.inj h).symm, hc⟩
  · cases h
theorem gz_nar {v : Int32} (h : v = 0 ∨ v = 1) : narrow .boolean (.int v) = .int v := by
  rcases h with rfl | rfl <;> rfl
theorem gz_fit {v : Int32} (h : v = 0 ∨ v = 1) : fits .boolean (.int v) = true := by
  rcases h with rfl | rfl <;> rfl
theorem gz_vp {v : Int32} (h : v = 0 ∨ v = 1) : vp_nar .boolean v = v := by
  rcases h with rfl | rfl <;> rfl
def gm_V (w : gw_W) (σ : gm_S) (k : Nat) : Value := if gm_off k = 0 then .int (gs σ k) else .ref (gm_a w k)
def gm_P (w : gw_W) (σ : gm_S) (H : Heap) : Prop := t_OB (gw_mo w) ((gw_D w).1 3) 39 ((gw_D w).2 3) H (gm_V w σ) ∧ ∀ k, gm_off k ≠ 0 → H[gm_a w k]? = some (arrV (gw_dA w (gm_ty k)) (gm_len k) (fun j => .int (ga σ k j)))
/-- the Model's addresses -/
def gm_A (w : gw_W) : Nat → Prop := fun q => gw_mo w ≤ q ∧ q ≤ gw_mo w + 16
theorem gm_off_le (k : Nat) : gm_off k ≤ 16 := by unfold gm_off; split <;> decide
theorem gm_off_inj {j k : Nat} (hj : gm_off j ≠ 0) (h : gm_off j = gm_off k) : j = k := by
  unfold gm_off at hj h
  split at h <;> (split at h <;> first | rfl | (exact absurd h (by decide)) | simp_all)
theorem gm_P.kept {w : gw_W} {σ : gm_S} {H H1 : Heap} (h : gm_P w σ H) (hq : ∀ q, gm_A w q → H1[q]? = H[q]?) : gm_P w σ H1 :=
  ⟨h.1.kept (hq _ ⟨Nat.le_refl _, Nat.le_add_right _ _⟩), fun k hk => by
    rw [hq (gm_a w k) ⟨Nat.le_add_right _ _, Nat.add_le_add_left (gm_off_le k) _⟩]
    exact h.2 k hk⟩
section GM
variable {w : gw_W} {A : Nat → Prop} {X : gx_X} {mi : gx_M} {n dc ds : Nat} {P' : Heap → Prop} {oc : Outcome} {cs ss pc : Nat} {lv : List (Option Value)} {rest : List Value} {σ : gm_S}
theorem gm_kn (hX : gx_O (gw_I w A) X mi n dc ds P' oc) : u_Kn (gx_s X) RX3 TX3 39 ((gw_D w).1 3) ((gw_D w).2 3) := hX.2.2.2.2.2.2.2.1.1.1 3 _ rfl
theorem gm_rc (hX : gx_O (gw_I w A) X mi n dc ds P' oc) : gx_rc X (gm_P w σ) RX3 (gw_mo w) := fun H hP => by
  obtain ⟨cell, q1, q2, q3, -⟩ := hP.1
  exact ⟨cell, q1, by rw [q3]; rfl, by rw [q2]; exact (gm_kn hX).2.1⟩
theorem gm_get (hX : gx_O (gw_I w A) X mi n dc ds P' oc) {index k : Nat} (hk : k < 39) (hq : Cond.fieldLink mi.1 index "ShellBeachModel" (TX3 k).2.1 (TX3 k).2.2.1 ∈ lw_all) (hT : (TX3 k).1 = "ShellBeachModel") (hd : decode mi.2.2.1 pc = .ok (.getfield index, 3)) (kk : gx_G X (gm_P w σ) cs ss lv (pc + 3) (gm_V w σ k :: rest)) : gx_G X (gm_P w σ) cs ss lv pc (va_rf (some (gw_mo w)) :: rest) := fun H locs ls hP hS hl => by
  obtain ⟨cell, q1, q2, q3, q4⟩ := hP.1
  obtain ⟨hSl, hfc, kC, hkC, hkind⟩ := gm_kn hX
  obtain ⟨cf, kf, fi, f, hi, hsl⟩ := hSl k hk
  have hts := hX.2.2.2.2.2.1
  exact W.getf (a := gw_mo w) hX.1 hX.2.1 hX.2.2.2.2.1 (hts _ hq) (by rw [hT] at hi; exact hi) (u_facts hfc hkC (u_lays hts in_X3 hk) hi).1 q1 (by rw [q3]; exact fun h => by cases h) (v := gm_V w σ k) (by rw [hsl, q4 k hk]) rfl rfl hd (kk H locs ls hP hS hl)
theorem gm_getI (hX : gx_O (gw_I w A) X mi n dc ds P' oc) {index : Nat} (k : Nat) (hk : k < 39) (h0 : gm_off k = 0) (hq : Cond.fieldLink mi.1 index "ShellBeachModel" (TX3 k).2.1 (TX3 k).2.2.1 ∈ lw_all) (hT : (TX3 k).1 = "ShellBeachModel") (hd : decode mi.2.2.1 pc = .ok (.getfield index, 3)) (kk : gx_G X (gm_P w σ) cs ss lv (pc + 3) (.int (gs σ k) :: rest)) : gx_G X (gm_P w σ) cs ss lv pc (va_rf (some (gw_mo w)) :: rest) :=
  gm_get hX hk hq hT hd (by unfold gm_V; rw [if_pos h0]; exact kk)
theorem gm_getA (hX : gx_O (gw_I w A) X mi n dc ds P' oc) {index : Nat} (k : Nat) (hk : k < 39) (h0 : gm_off k ≠ 0) (hq : Cond.fieldLink mi.1 index "ShellBeachModel" (TX3 k).2.1 (TX3 k).2.2.1 ∈ lw_all) (hT : (TX3 k).1 = "ShellBeachModel") (hd : decode mi.2.2.1 pc = .ok (.getfield index, 3)) (kk : gx_G X (gm_P w σ) cs ss lv (pc + 3) (va_rf (some (gm_a w k)) :: rest)) : gx_G X (gm_P w σ) cs ss lv pc (va_rf (some (gw_mo w)) :: rest) :=
  gm_get hX hk hq hT hd (by unfold gm_V; rw [if_neg h0]; exact kk)
theorem gm_apart (hX : gx_O (gw_I w A) X mi n dc ds P' oc) : ∀ x y, x < 39 → y < 39 → x ≠ y → ((gw_D w).2 3) x ≠ ((gw_D w).2 3) y :=
  va_apart (own := RX3) hX.2.2.2.2.2.1 in_X3 tyX3 tyX3_ok nmX3 hX.2.2.2.2.2.2.2.1.1 (ci := 3) rfl
theorem gm_put (hX : gx_O (gw_I w A) X mi n dc ds P' oc) (hA : ∀ q, gm_A w q → gx_A X q) {index : Nat} (k : Nat) {v : Int32} (hk : k < 39) (h0 : gm_off k = 0) (hq : Cond.fieldLink mi.1 index "ShellBeachModel" (TX3 k).2.1 (TX3 k).2.2.1 ∈ lw_all) (hT : (TX3 k).1 = "ShellBeachModel" ∧ (TX3 k).2.2.2 = false) (hn : narrow (tyX3 k) (.int v) = .int v ∧ fits (tyX3 k) (.int v) = true) (hd : decode mi.2.2.1 pc = .ok (.putfield index, 3)) (kk : gx_G X (gm_P w (gm_set σ k v)) cs ss lv (pc + 3) rest) : gx_G X (gm_P w σ) cs ss lv pc (.int v :: va_rf (some (gw_mo w)) :: rest) := fun H locs ls hP hS hl => by
  obtain ⟨cell, q1, q2, q3, q4⟩ := hP.1
  obtain ⟨hSl, hfc, kC, hkC, hkind⟩ := gm_kn hX
  obtain ⟨cf, kf, fi, f, hi, hsl⟩ := hSl k hk
  have hts := hX.2.2.2.2.2.1
  have hlay := hts _ (in_X3 _ (u_in_lay hk))
  unfold u_lay at hlay
  rw [if_neg (by rw [hT.2]; decide)] at hlay
  have hst := (u_facts hfc hkC (u_lays hts in_X3 hk) hi).1
  have h6 := u_store hfc hkC hkind hlay hi (tyX3_ok k hk) hn.1 hn.2
  refine W.putK (a := gw_mo w) hX.1 hX.2.1 (f := f) ⟨hX.2.2.2.2.1, hts _ hq, ⟨_, _, _, by rw [hT.1] at hi; exact hi⟩, hst⟩ (by rw [q2]; exact h6) q1 q3 (by rw [hsl]; exact k2_hasslot (q4 k hk)) rfl rfl hd fun H' e1 e2 e3 => ?_
  rw [hsl] at e1 ⊢
  have hmo : gm_A w (gw_mo w) := ⟨Nat.le_refl _, Nat.le_add_right _ _⟩
  refine kk H' _ ls ⟨t_OB.to (V := updV (gm_V w σ) k (.int v)) ⟨_, e1, q2, q3, t_set q4 (gm_apart hX) hk _⟩ (fun j _ => ?_), fun j hj => ?_⟩ (hS.put e2 e3 (hA _ hmo)) hl
  · unfold updV gm_V gm_set gs va_up
    by_cases hjk : j = k
    · subst hjk
      simp [h0]
    · simp [hjk]
  · have hne : gm_a w j ≠ gw_mo w := by unfold gm_a; omega
    rw [e3 (gm_a w j) hne]
    exact hP.2 j hj
theorem gm_ld (hX : gx_O (gw_I w A) X mi n dc ds P' oc) {k : Nat} {i : Int32} {ρ : Type} {f : Int32 → Option ρ} {r : ρ} (h0 : gm_off k ≠ 0 ∧ gm_ty k = 0) (hd : decode mi.2.2.1 pc = .ok (.iaload, 1)) (h : (gm_rd σ k i).bind f = some r) (kk : ∀ v, f v = some r → gx_G X (gm_P w σ) cs ss lv (pc + 1) (.int v :: rest)) : gx_G X (gm_P w σ) cs ss lv pc (.int i :: va_rf (some (gm_a w k)) :: rest) := fun H locs ls hP hS hl => by
  unfold gm_rd at h
  by_cases hc : i < 0 ∨ gm_len k ≤ i.toNatClampNeg
  · rw [if_pos hc] at h
    cases h
  · rw [if_neg hc] at h
    have hlt : i.toNatClampNeg < gm_len k := Nat.not_le.mp fun q => hc (Or.inr q)
    have hcell := hP.2 k h0.1
    rw [h0.2] at hcell
    have hK := hX.2.2.2.2.2.2.2.1.1.2 0 (gw_dA w 0, .int) rfl
    exact W.iald (a := gm_a w k) (v := .int (ga σ k i.toNatClampNeg)) hX.1 hX.2.1 hcell (hK.1 (gm_len k) (fun j => .int (ga σ k j))) (fun q => by cases q) (by rw [arrV_size]; exact hc) (by rw [arrV_read _ _ hlt]) rfl rfl hd (kk _ h H locs ls hP hS hl)
theorem gm_ldz (hX : gx_O (gw_I w A) X mi n dc ds P' oc) {k : Nat} {i : Int32} {ρ : Type} {f : Int32 → Option ρ} {r : ρ} (h0 : gm_off k ≠ 0 ∧ gm_ty k = 3) (hd : decode mi.2.2.1 pc = .ok (.baload, 1)) (h : (gm_rd σ k i).bind f = some r) (kk : ∀ v, f v = some r → gx_G X (gm_P w σ) cs ss lv (pc + 1) (.int v :: rest)) : gx_G X (gm_P w σ) cs ss lv pc (.int i :: va_rf (some (gm_a w k)) :: rest) := fun H locs ls hP hS hl => by
  unfold gm_rd at h
  by_cases hc : i < 0 ∨ gm_len k ≤ i.toNatClampNeg
  · rw [if_pos hc] at h
    cases h
  · rw [if_neg hc] at h
    have hlt : i.toNatClampNeg < gm_len k := Nat.not_le.mp fun q => hc (Or.inr q)
    have hcell := hP.2 k h0.1
    rw [h0.2] at hcell
    have hK := hX.2.2.2.2.2.2.2.1.1.2 3 (gw_dA w 3, .boolean) rfl
    exact W.zald (a := gm_a w k) (v := .int (ga σ k i.toNatClampNeg)) hX.1 hX.2.1 hcell (hK.1 (gm_len k) (fun j => .int (ga σ k j))) (fun q => by cases q) (by rw [arrV_size]; exact hc) (by rw [arrV_read _ _ hlt]) rfl rfl hd (kk _ h H locs ls hP hS hl)
theorem gm_stP {σ : gm_S} {k : Nat} {i v : Int32} {H H1 : Heap} (hP : gm_P w σ H) (h0 : gm_off k ≠ 0) (e : H1[gm_a w k]? = some (arrV (gw_dA w (gm_ty k)) (gm_len k) (updV (fun j => .int (ga σ k j)) i.toNatClampNeg (.int v)))) (oq : ∀ q, q ≠ gm_a w k → H1[q]? = H[q]?) : gm_P w (gm_sta σ k i.toNatClampNeg v) H1 := by
  have hne : gw_mo w ≠ gm_a w k := by unfold gm_a; omega
  refine ⟨(hP.1.kept (oq _ hne)).to (fun j _ => rfl), fun j hj => ?_⟩
  by_cases hjk : j = k
  · subst hjk
    rw [e]
    congr 2
    funext q
    unfold updV ga gm_sta va_up
    by_cases hq : q = i.toNatClampNeg <;> simp [hq]
  · rw [oq (gm_a w j) (by unfold gm_a; intro q; exact hjk (gm_off_inj hj (by omega)))]
    rw [hP.2 j hj]
    congr 2
    funext q
    unfold ga gm_sta va_up
    simp [hjk]
theorem gm_st (hX : gx_O (gw_I w A) X mi n dc ds P' oc) (hA : ∀ q, gm_A w q → gx_A X q) {k : Nat} {i v : Int32} {ρ : Type} {f : gm_S → Option ρ} {r : ρ} (h0 : gm_off k ≠ 0 ∧ gm_ty k = 0) (hd : decode mi.2.2.1 pc = .ok (.iastore, 1)) (h : (gm_wr σ k i v).bind f = some r) (kk : ∀ τ, f τ = some r → gx_G X (gm_P w τ) cs ss lv (pc + 1) rest) : gx_G X (gm_P w σ) cs ss lv pc (.int v :: .int i :: va_rf (some (gm_a w k)) :: rest) := fun H locs ls hP hS hl => by
  unfold gm_wr at h
  by_cases hc : i < 0 ∨ gm_len k ≤ i.toNatClampNeg
  · rw [if_pos hc] at h
    cases h
  · rw [if_neg hc] at h
    have hcell := hP.2 k h0.1
    have hcell' := hcell
    rw [h0.2] at hcell
    have hK := hX.2.2.2.2.2.2.2.1.1.2 0 (gw_dA w 0, .int) rfl
    refine W.iast (a := gm_a w k) hX.1 hX.2.1 hcell (hK.1 (gm_len k) (fun j => .int (ga σ k j))) (fun q => by cases q) (by rw [arrV_size]; exact hc) rfl rfl hd fun H1 e z oq => ?_
    refine kk _ h H1 _ ls (gm_stP hP h0.1 ?_ oq) (hS.put z oq (hA _ ⟨Nat.le_add_right _ _, Nat.add_le_add_left (gm_off_le k) _⟩)) hl
    rw [e, arrV_store, h0.2]
theorem gm_stz (hX : gx_O (gw_I w A) X mi n dc ds P' oc) (hA : ∀ q, gm_A w q → gx_A X q) {k : Nat} {i v : Int32} {ρ : Type} {f : gm_S → Option ρ} {r : ρ} (h0 : gm_off k ≠ 0 ∧ gm_ty k = 3) (hz : v = 0 ∨ v = 1) (hd : decode mi.2.2.1 pc = .ok (.bastore, 1)) (h : (gm_wr σ k i v).bind f = some r) (kk : ∀ τ, f τ = some r → gx_G X (gm_P w τ) cs ss lv (pc + 1) rest) : gx_G X (gm_P w σ) cs ss lv pc (.int v :: .int i :: va_rf (some (gm_a w k)) :: rest) := fun H locs ls hP hS hl => by
  unfold gm_wr at h
  by_cases hc : i < 0 ∨ gm_len k ≤ i.toNatClampNeg
  · rw [if_pos hc] at h
    cases h
  · rw [if_neg hc] at h
    have hcell := hP.2 k h0.1
    rw [h0.2] at hcell
    have hK := hX.2.2.2.2.2.2.2.1.1.2 3 (gw_dA w 3, .boolean) rfl
    refine W.zast (a := gm_a w k) hX.1 hX.2.1 hcell (hK.1 (gm_len k) (fun j => .int (ga σ k j))) (fun q => by cases q) (by rw [arrV_size]; exact hc) rfl rfl hd fun H1 e z oq => ?_
    refine kk _ h H1 _ ls (gm_stP hP h0.1 ?_ oq) (hS.put z oq (hA _ ⟨Nat.le_add_right _ _, Nat.add_le_add_left (gm_off_le k) _⟩)) hl
    rw [e, arrV_store, h0.2, gz_nar hz]
end GM
