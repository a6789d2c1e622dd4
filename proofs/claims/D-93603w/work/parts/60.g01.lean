set_option maxRecDepth 16384
section
/-! STAGE 2, BASE: small numbers as Int32 -/
theorem s_ti (n : Nat) (h : n < 2147483648) : (nI n).toInt = n := by
  exact Int32.toInt_ofNat_of_lt (by omega)
theorem s_tn (n : Nat) (h : n < 2147483648) : (nI n).toNatClampNeg = n := by
  show (nI n).toInt.toNat = n; rw [s_ti n h]; rfl
theorem s_lt (a b : Nat) (ha : a < 2147483648) (hb : b < 2147483648) : (nI a < nI b) ↔ a < b := by
  rw [Int32.lt_iff_toInt_lt, s_ti a ha, s_ti b hb]; omega
theorem s_le (a b : Nat) (ha : a < 2147483648) (hb : b < 2147483648) : (nI a ≤ nI b) ↔ a ≤ b := by
  rw [Int32.le_iff_toInt_le, s_ti a ha, s_ti b hb]; omega
theorem s_eq (a b : Nat) (ha : a < 2147483648) (hb : b < 2147483648) : (nI a = nI b) ↔ a = b := by
  constructor
  · intro h; have := congrArg Int32.toInt h; rw [s_ti a ha, s_ti b hb] at this; omega
  · intro h; rw [h]
theorem s_n0 : (0 : Int32) = nI 0 := rfl
theorem s_n1 : (1 : Int32) = nI 1 := rfl
theorem s_nn (a : Nat) (ha : a < 2147483648) : ¬ (nI a < 0) := by rw [s_n0, s_lt a 0 ha (by omega)]; omega
theorem s_ge0 (a : Nat) (ha : a < 2147483648) : (0 : Int32) ≤ nI a := by rw [s_n0, s_le 0 a (by omega) ha]; omega
theorem s_add (a b : Nat) : nI a + nI b = nI (a + b) := by unfold nI; rw [Int32.ofNat_add]
theorem s_mul (a b : Nat) : nI a * nI b = nI (a * b) := by unfold nI; rw [Int32.ofNat_mul]
theorem s_a1 (a : Nat) : nI a + 1 = nI (a + 1) := s_add a 1
theorem s_sub (a b : Nat) (h : b ≤ a) : nI a - nI b = nI (a - b) := by
  have e : nI a = nI (a - b) + nI b := by rw [s_add]; congr 1; omega
  rw [e]; exact Int32.add_sub_cancel _ _
theorem s_s1 (a : Nat) (h : 1 ≤ a) : nI a - 1 = nI (a - 1) := s_sub a 1 h
theorem s_m1 (a : Nat) (ha : a < 2147483648) : nI a ≠ -1 := by
  intro h; have := congrArg Int32.toInt h; rw [s_ti a ha] at this; have e : (-1 : Int32).toInt = -1 := by decide
  omega
theorem s_rng (n : Nat) (hn : n < 2147483648) (v : Int32) : (∃ i, i < n ∧ v = nI i) ∨ (v < 0 ∨ nI n ≤ v) := by
  by_cases h0 : v < 0
  · exact .inr (.inl h0)
  · by_cases h1 : nI n ≤ v
    · exact .inr (.inr h1)
    · have e : (0 : Int32).toInt = 0 := by decide
      rw [Int32.lt_iff_toInt_lt, e] at h0
      rw [Int32.le_iff_toInt_le, s_ti n hn] at h1
      refine .inl ⟨v.toInt.toNat, ?_, ?_⟩
      · omega
      · apply Int32.toInt_inj.mp
        have := Int32.toInt_lt v
        rw [s_ti _ (by omega)]; omega
/-- a small number in a place: what it is -/
theorem s_get {n : Nat} (hn : n < 2147483648) {v : Int32} (h0 : 0 ≤ v) (h1 : v < nI n) : ∃ i, i < n ∧ v = nI i := by
  rcases s_rng n hn v with h | h | h
  · exact h
  · exact absurd h0 (Int32.not_le.mpr h)
  · exact absurd h1 (Int32.not_lt.mpr h)

/-! the pure heap: reads behind writes -/
theorem k_si (C : xk_C) (f a : Nat) (v : Int32) (b : Nat) : xk_k (xk_si C f a v) b = xk_k C b := rfl
theorem k_sr (C : xk_C) (f a : Nat) (v : Option Nat) (b : Nat) : xk_k (xk_sr C f a v) b = xk_k C b := rfl
theorem k_se (C : xk_C) (a j : Nat) (v : Int32) (b : Nat) : xk_k (xk_se C a j v) b = xk_k C b := rfl
theorem k_sq (C : xk_C) (a j : Nat) (v : Option Nat) (b : Nat) : xk_k (xk_sq C a j v) b = xk_k C b := rfl
theorem k_mk (C : xk_C) (k l z b : Nat) : xk_k (xk_mk C k l z) b = if b = xk_n C then k else xk_k C b := rfl
theorem i_si (C : xk_C) (f a : Nat) (v : Int32) (g b : Nat) : xk_i (xk_si C f a v) g b = if g = f ∧ b = a then v else xk_i C g b := rfl
theorem i_sr (C : xk_C) (f a : Nat) (v : Option Nat) (g b : Nat) : xk_i (xk_sr C f a v) g b = xk_i C g b := rfl
theorem i_se (C : xk_C) (a j : Nat) (v : Int32) (g b : Nat) : xk_i (xk_se C a j v) g b = xk_i C g b := rfl
theorem i_sq (C : xk_C) (a j : Nat) (v : Option Nat) (g b : Nat) : xk_i (xk_sq C a j v) g b = xk_i C g b := rfl
theorem i_mk (C : xk_C) (k l z g b : Nat) : xk_i (xk_mk C k l z) g b = if b = xk_n C then 0 else xk_i C g b := rfl
theorem r_si (C : xk_C) (f a : Nat) (v : Int32) (g b : Nat) : xk_r (xk_si C f a v) g b = xk_r C g b := rfl
theorem r_sr (C : xk_C) (f a : Nat) (v : Option Nat) (g b : Nat) : xk_r (xk_sr C f a v) g b = if g = f ∧ b = a then v else xk_r C g b := rfl
theorem r_se (C : xk_C) (a j : Nat) (v : Int32) (g b : Nat) : xk_r (xk_se C a j v) g b = xk_r C g b := rfl
theorem r_sq (C : xk_C) (a j : Nat) (v : Option Nat) (g b : Nat) : xk_r (xk_sq C a j v) g b = xk_r C g b := rfl
theorem r_mk (C : xk_C) (k l z g b : Nat) : xk_r (xk_mk C k l z) g b = if b = xk_n C then none else xk_r C g b := rfl
theorem l_si (C : xk_C) (f a : Nat) (v : Int32) (b : Nat) : xk_l (xk_si C f a v) b = xk_l C b := rfl
theorem l_sr (C : xk_C) (f a : Nat) (v : Option Nat) (b : Nat) : xk_l (xk_sr C f a v) b = xk_l C b := rfl
theorem l_se (C : xk_C) (a j : Nat) (v : Int32) (b : Nat) : xk_l (xk_se C a j v) b = xk_l C b := rfl
theorem l_sq (C : xk_C) (a j : Nat) (v : Option Nat) (b : Nat) : xk_l (xk_sq C a j v) b = xk_l C b := rfl
theorem l_mk (C : xk_C) (k l z b : Nat) : xk_l (xk_mk C k l z) b = if b = xk_n C then l else xk_l C b := rfl
theorem e_si (C : xk_C) (f a : Nat) (v : Int32) (b j : Nat) : xk_e (xk_si C f a v) b j = xk_e C b j := rfl
theorem e_sr (C : xk_C) (f a : Nat) (v : Option Nat) (b j : Nat) : xk_e (xk_sr C f a v) b j = xk_e C b j := rfl
theorem e_se (C : xk_C) (a i : Nat) (v : Int32) (b j : Nat) : xk_e (xk_se C a i v) b j = if b = a ∧ j = i then v else xk_e C b j := rfl
theorem e_sq (C : xk_C) (a i : Nat) (v : Option Nat) (b j : Nat) : xk_e (xk_sq C a i v) b j = xk_e C b j := rfl
theorem e_mk (C : xk_C) (k l z b j : Nat) : xk_e (xk_mk C k l z) b j = if b = xk_n C then 0 else xk_e C b j := rfl
theorem q_si (C : xk_C) (f a : Nat) (v : Int32) (b j : Nat) : xk_q (xk_si C f a v) b j = xk_q C b j := rfl
theorem q_sr (C : xk_C) (f a : Nat) (v : Option Nat) (b j : Nat) : xk_q (xk_sr C f a v) b j = xk_q C b j := rfl
theorem q_se (C : xk_C) (a i : Nat) (v : Int32) (b j : Nat) : xk_q (xk_se C a i v) b j = xk_q C b j := rfl
theorem q_sq (C : xk_C) (a i : Nat) (v : Option Nat) (b j : Nat) : xk_q (xk_sq C a i v) b j = if b = a ∧ j = i then v else xk_q C b j := rfl
theorem q_mk (C : xk_C) (k l z b j : Nat) : xk_q (xk_mk C k l z) b j = if b = xk_n C then none else xk_q C b j := rfl
/-! reads in place -/
theorem g_i {C : xk_C} {f a k : Nat} (hk : xk_k C a = k) (hh : xk_has k f = true) : xk_gi C f (some a) = some (xk_i C f a) := by
  show (if xk_has (xk_k C a) f = true then _ else _) = _
  rw [hk, if_pos hh]
theorem g_r {C : xk_C} {f a k : Nat} (hk : xk_k C a = k) (hh : xk_has k f = true) : xk_gr C f (some a) = some (xk_r C f a) := by
  show (if xk_has (xk_k C a) f = true then _ else _) = _
  rw [hk, if_pos hh]
theorem p_i {C : xk_C} {f a k : Nat} {v : Int32} (hk : xk_k C a = k) (hh : xk_has k f = true) : xk_pi C f (some a) v = some (xk_si C f a v) := by
  show (if xk_has (xk_k C a) f = true then _ else _) = _
  rw [hk, if_pos hh]
theorem p_z {C : xk_C} {f a k : Nat} {v : Int32} (hk : xk_k C a = k) (hh : xk_has k f = true) (hv : v = 0 ∨ v = 1) : xk_pz C f (some a) v = some (xk_si C f a v) := by
  unfold xk_pz; rw [if_pos hv, p_i hk hh]
theorem p_r {C : xk_C} {f a k : Nat} {v : Option Nat} (hk : xk_k C a = k) (hh : xk_has k f = true) : xk_pr C f (some a) v = some (xk_sr C f a v) := by
  show (if xk_has (xk_k C a) f = true then _ else _) = _
  rw [hk, if_pos hh]
theorem g_is {C : xk_C} {a k : Nat} (hk : xk_k C a = k) : xk_is C k (some a) = some a := by
  show (if xk_k C a = k then _ else _) = _
  rw [if_pos hk]
theorem g_ck {C : xk_C} {a k : Nat} (hk : xk_k C a = k) : xk_ck C k (some a) = some () := by
  show (if xk_k C a = k then _ else _) = _
  rw [if_pos hk]
theorem g_ok {C : xk_C} {t a i : Nat} (hk : xk_k C a = 30 + t) (hi : i < xk_l C a) (hl : i < 2147483648) : xk_ok C t (some a) (nI i) = some a := by
  show (if xk_k C a = 30 + t ∧ ¬ (nI i < 0 ∨ xk_l C a ≤ (nI i).toNatClampNeg) then some a else none) = _
  rw [if_pos]
  refine ⟨hk, ?_⟩
  rw [s_tn i hl]
  intro h
  rcases h with h | h
  · exact s_nn i hl h
  · omega
theorem g_ld {C : xk_C} {t a i : Nat} (hk : xk_k C a = 30 + t) (hi : i < xk_l C a) (hl : i < 2147483648) : xk_ld C t (some a) (nI i) = some (xk_e C a i) := by
  unfold xk_ld; rw [g_ok hk hi hl]; simp only [s_tn i hl]
theorem g_lq {C : xk_C} {t a i : Nat} (hk : xk_k C a = 30 + t) (hi : i < xk_l C a) (hl : i < 2147483648) : xk_lq C t (some a) (nI i) = some (xk_q C a i) := by
  unfold xk_lq; rw [g_ok hk hi hl]; simp only [s_tn i hl]
theorem p_st {C : xk_C} {a i : Nat} {v : Int32} (hk : xk_k C a = 30) (hi : i < xk_l C a) (hl : i < 2147483648) : xk_st C 0 (some a) (nI i) v = some (xk_se C a i v) := by
  unfold xk_st; rw [g_ok hk hi hl]; simp only [s_tn i hl]; rfl
theorem p_sa {C : xk_C} {t a i : Nat} {v : Option Nat} (hk : xk_k C a = 30 + t) (hi : i < xk_l C a) (hl : i < 2147483648) (hv : xk_fitq C t v = true) : xk_sa C t (some a) (nI i) v = some (xk_sq C a i v) := by
  unfold xk_sa; rw [g_ok hk hi hl]; simp only [s_tn i hl, hv, if_true]
theorem g_al {C : xk_C} {t a : Nat} (hk : xk_k C a = 30 + t) : xk_al C t (some a) = some (nI (xk_l C a)) := by
  show (if xk_k C a = 30 + t then _ else _) = _
  rw [if_pos hk]
theorem p_na {C : xk_C} {t n : Nat} (hn : n ≤ 1000000) : xk_na C t (nI n) = some (xk_mk C (30 + t) n n) := by
  unfold xk_na; rw [s_tn n (by omega), if_neg]
  intro h; rcases h with h | h
  · exact s_nn n (by omega) h
  · omega
/-! the Model's state -/
theorem ga_sta (σ : gm_S) (k i : Nat) (v : Int32) (k' j : Nat) : ga (gm_sta σ k i v) k' j = if k' = k ∧ j = i then v else ga σ k' j := by
  show va_up σ.2 k (va_up (σ.2 k) i v) k' j = _
  unfold va_up ga
  by_cases h : k' = k
  · subst h; by_cases h2 : j = i <;> simp [h2]
  · simp [h]
theorem gs_sta (σ : gm_S) (k i : Nat) (v : Int32) (k' : Nat) : gs (gm_sta σ k i v) k' = gs σ k' := rfl
theorem ga_set (σ : gm_S) (k : Nat) (v : Int32) (k' j : Nat) : ga (gm_set σ k v) k' j = ga σ k' j := rfl
theorem gs_set (σ : gm_S) (k : Nat) (v : Int32) (k' : Nat) : gs (gm_set σ k v) k' = if k' = k then v else gs σ k' := rfl
theorem gm_ok {k j : Nat} (hj : j < gm_len k) (hl : j < 2147483648) : ¬ (nI j < 0 ∨ gm_len k ≤ (nI j).toNatClampNeg) := by
  rw [s_tn j hl]
  intro h
  rcases h with h | h
  · exact s_nn j hl h
  · omega
theorem m_rd (σ : gm_S) {k j : Nat} (hj : j < gm_len k) (hl : j < 2147483648) : gm_rd σ k (nI j) = some (ga σ k j) := by
  unfold gm_rd; rw [if_neg (gm_ok hj hl), s_tn j hl]
theorem m_wr (σ : gm_S) {k j : Nat} (v : Int32) (hj : j < gm_len k) (hl : j < 2147483648) : gm_wr σ k (nI j) v = some (gm_sta σ k j v) := by
  unfold gm_wr; rw [if_neg (gm_ok hj hl), s_tn j hl]
theorem m_rd1 (σ : gm_S) (b j : Nat) (hj : b + j < 240) : gm_rd σ 1 (nI b + nI j) = some (ga σ 1 (b + j)) := by
  rw [s_add]; exact m_rd σ hj (by omega)
theorem m_wr1 (σ : gm_S) (b j : Nat) (v : Int32) (hj : b + j < 240) : gm_wr σ 1 (nI b + nI j) v = some (gm_sta σ 1 (b + j) v) := by
  rw [s_add]; exact m_wr σ v hj (by omega)
theorem m_rd10 (σ : gm_S) (j : Nat) (hj : j < 240) : gm_rd σ 1 (nI j) = some (ga σ 1 j) := m_rd σ hj (by omega)
theorem m_wr10 (σ : gm_S) (j : Nat) (v : Int32) (hj : j < 240) : gm_wr σ 1 (nI j) v = some (gm_sta σ 1 j v) := m_wr σ v hj (by omega)
theorem m_gz (b : Prop) [Decidable b] : gz (if b then 1 else 0) = some (if b then 1 else 0) := by
  unfold gz; by_cases h : b <;> simp [h]
theorem m_gz0 : gz 0 = some 0 := rfl
theorem m_gz1 : gz 1 = some 1 := rfl
theorem m_pz {σ : gm_S} {k : Nat} {v : Int32} (hv : v = 0 ∨ v = 1) : gm_pz σ k v = some (gm_set σ k v) := by unfold gm_pz; rw [if_pos hv]
theorem m_pt (σ : gm_S) (k : Nat) (v : Int32) : gm_pt σ k v = some (gm_set σ k v) := rfl
end
section
/-! STAGE 2: what a piece of code leaves as it was -/
/-- lists own their arrays -/
def U1 (C : xk_C) : Prop := (∀ a, xk_k C a = 21 → a < xk_n C) ∧ (∀ a e, xk_k C a = 21 → xk_r C 102 a = some e → e < xk_n C) ∧ (∀ a b e, xk_k C a = 21 → xk_k C b = 21 → xk_r C 102 a = some e → xk_r C 102 b = some e → e = xk_d C ∨ a = b) ∧ xk_d C < xk_n C ∧ xk_k C (xk_d C) = 34 ∧ xk_l C (xk_d C) = 0
def Fr (fi fr : List Nat) (E : Nat → Nat → Bool) (C C' : xk_C) : Prop :=
  (xk_n C ≤ xk_n C' ∧ xk_s C ≤ xk_s C') ∧ (xk_d C' = xk_d C ∧ xk_u1 C' = xk_u1 C ∧ xk_u2 C' = xk_u2 C ∧ xk_mi C' = xk_mi C) ∧ (U1 C → U1 C') ∧
  (∀ a, a < xk_n C → xk_k C' a = xk_k C a ∧ xk_l C' a = xk_l C a ∧ (∀ f, f ∉ fi → xk_i C' f a = xk_i C f a) ∧ (∀ f, f ∉ fr → xk_r C' f a = xk_r C f a) ∧ (E (xk_k C a) a = false → (∀ j, xk_e C' a j = xk_e C a j) ∧ (∀ j, xk_q C' a j = xk_q C a j)))
section
variable {fi fr fi' fr' : List Nat} {E E' : Nat → Nat → Bool} {C C' C'' : xk_C}
theorem Fr.refl : Fr fi fr E C C := ⟨⟨Nat.le_refl _, Nat.le_refl _⟩, ⟨rfl, rfl, rfl, rfl⟩, id, fun a _ => ⟨rfl, rfl, fun _ _ => rfl, fun _ _ => rfl, fun _ => ⟨fun _ => rfl, fun _ => rfl⟩⟩⟩
theorem Fr.trans (h : Fr fi fr E C C') (h' : Fr fi fr E C' C'') : Fr fi fr E C C'' := by
  obtain ⟨⟨a1, a2⟩, ⟨b1, b2, b3, b4⟩, u, c⟩ := h
  obtain ⟨⟨a1', a2'⟩, ⟨b1', b2', b3', b4'⟩, u', c'⟩ := h'
  refine ⟨⟨Nat.le_trans a1 a1', Nat.le_trans a2 a2'⟩, ⟨b1'.trans b1, b2'.trans b2, b3'.trans b3, b4'.trans b4⟩, fun h => u' (u h), fun a ha => ?_⟩
  obtain ⟨k, l, i, r, e⟩ := c a ha
  obtain ⟨k', l', i', r', e'⟩ := c' a (Nat.lt_of_lt_of_le ha a1)
  refine ⟨k'.trans k, l'.trans l, fun f hf => (i' f hf).trans (i f hf), fun f hf => (r' f hf).trans (r f hf), fun hE => ?_⟩
  obtain ⟨e1, e2⟩ := e hE
  obtain ⟨e1', e2'⟩ := e' (by rw [k]; exact hE)
  exact ⟨fun j => (e1' j).trans (e1 j), fun j => (e2' j).trans (e2 j)⟩
theorem Fr.mono (h : Fr fi fr E C C') (hi : ∀ f, f ∈ fi → f ∈ fi') (hr : ∀ f, f ∈ fr → f ∈ fr') (hE : ∀ k a, E' k a = false → E k a = false) : Fr fi' fr' E' C C' := by
  obtain ⟨a, b, u, c⟩ := h
  refine ⟨a, b, u, fun x hx => ?_⟩
  obtain ⟨k, l, i, r, e⟩ := c x hx
  exact ⟨k, l, fun f hf => i f (fun h => hf (hi f h)), fun f hf => r f (fun h => hf (hr f h)), fun h => e (hE _ _ h)⟩
theorem Fr.k (h : Fr fi fr E C C') {a : Nat} (ha : a < xk_n C) : xk_k C' a = xk_k C a := (h.2.2.2 a ha).1
theorem Fr.l (h : Fr fi fr E C C') {a : Nat} (ha : a < xk_n C) : xk_l C' a = xk_l C a := (h.2.2.2 a ha).2.1
theorem Fr.i (h : Fr fi fr E C C') {f a : Nat} (ha : a < xk_n C) (hf : f ∉ fi) : xk_i C' f a = xk_i C f a := (h.2.2.2 a ha).2.2.1 f hf
theorem Fr.r (h : Fr fi fr E C C') {f a : Nat} (ha : a < xk_n C) (hf : f ∉ fr) : xk_r C' f a = xk_r C f a := (h.2.2.2 a ha).2.2.2.1 f hf
theorem Fr.e (h : Fr fi fr E C C') {a : Nat} (ha : a < xk_n C) (hf : E (xk_k C a) a = false) (j : Nat) : xk_e C' a j = xk_e C a j := ((h.2.2.2 a ha).2.2.2.2 hf).1 j
theorem Fr.q (h : Fr fi fr E C C') {a : Nat} (ha : a < xk_n C) (hf : E (xk_k C a) a = false) (j : Nat) : xk_q C' a j = xk_q C a j := ((h.2.2.2 a ha).2.2.2.2 hf).2 j
theorem Fr.n (h : Fr fi fr E C C') : xk_n C ≤ xk_n C' := h.1.1
theorem Fr.s (h : Fr fi fr E C C') : xk_s C ≤ xk_s C' := h.1.2
theorem Fr.d (h : Fr fi fr E C C') : xk_d C' = xk_d C := h.2.1.1
theorem Fr.u (h : Fr fi fr E C C') : U1 C → U1 C' := h.2.2.1
theorem Fr.lt (h : Fr fi fr E C C') {a : Nat} (ha : a < xk_n C) : a < xk_n C' := Nat.lt_of_lt_of_le ha h.n
/-! one write more -/
theorem Fr.si (h : Fr fi fr E C C') (f a : Nat) (v : Int32) (hf : f ∈ fi ∨ xk_n C ≤ a) : Fr fi fr E C (xk_si C' f a v) := by
  obtain ⟨a1, b, u, c⟩ := h
  refine ⟨a1, b, u, fun x hx => ?_⟩
  obtain ⟨k, l, i, r, e⟩ := c x hx
  refine ⟨k, l, fun g hg => ?_, r, e⟩
  rw [i_si, if_neg, i g hg]
  rintro ⟨rfl, rfl⟩
  rcases hf with h | h
  · exact hg h
  · omega
theorem Fr.sr (h : Fr fi fr E C C') (f a : Nat) (v : Option Nat) (hf : f ∈ fr ∨ xk_n C ≤ a) (h102 : f ≠ 102) : Fr fi fr E C (xk_sr C' f a v) := by
  obtain ⟨a1, b, u, c⟩ := h
  refine ⟨a1, b, fun hu => ?_, fun x hx => ?_⟩
  · obtain ⟨u1, u2, u3, u4⟩ := u hu
    have e : ∀ x, xk_r (xk_sr C' f a v) 102 x = xk_r C' 102 x := fun x => by rw [r_sr, if_neg]; rintro ⟨rfl, -⟩; exact h102 rfl
    exact ⟨u1, fun x y hx hy => u2 x y hx ((e x).symm.trans hy), fun x y z hx hy hz hw => u3 x y z hx hy ((e x).symm.trans hz) ((e y).symm.trans hw), u4⟩
  · obtain ⟨k, l, i, r, e⟩ := c x hx
    refine ⟨k, l, i, fun g hg => ?_, e⟩
    rw [r_sr, if_neg, r g hg]
    rintro ⟨rfl, rfl⟩
    rcases hf with h | h
    · exact hg h
    · omega
theorem Fr.se (h : Fr fi fr E C C') (a j : Nat) (v : Int32) (hf : E (xk_k C a) a = true ∨ xk_n C ≤ a) : Fr fi fr E C (xk_se C' a j v) := by
  obtain ⟨a1, b, u, c⟩ := h
  refine ⟨a1, b, u, fun x hx => ?_⟩
  obtain ⟨k, l, i, r, e⟩ := c x hx
  refine ⟨k, l, i, r, fun hE => ⟨fun j' => ?_, (e hE).2⟩⟩
  rw [e_se, if_neg, (e hE).1 j']
  rintro ⟨rfl, rfl⟩
  rcases hf with h | h
  · rw [h] at hE; cases hE
  · omega
theorem Fr.sq (h : Fr fi fr E C C') (a j : Nat) (v : Option Nat) (hf : E (xk_k C a) a = true ∨ xk_n C ≤ a) : Fr fi fr E C (xk_sq C' a j v) := by
  obtain ⟨a1, b, u, c⟩ := h
  refine ⟨a1, b, u, fun x hx => ?_⟩
  obtain ⟨k, l, i, r, e⟩ := c x hx
  refine ⟨k, l, i, r, fun hE => ⟨(e hE).1, fun j' => ?_⟩⟩
  rw [q_sq, if_neg, (e hE).2 j']
  rintro ⟨rfl, rfl⟩
  rcases hf with h | h
  · rw [h] at hE; cases hE
  · omega
theorem Fr.sE (h : Fr fi fr E C C') (a : Nat) (g : Nat → Int32) (hf : E (xk_k C a) a = true ∨ xk_n C ≤ a) : Fr fi fr E C (xk_sE C' a g) := by
  obtain ⟨a1, b, u, c⟩ := h
  refine ⟨a1, b, u, fun x hx => ?_⟩
  obtain ⟨k, l, i, r, e⟩ := c x hx
  refine ⟨k, l, i, r, fun hE => ⟨fun j' => ?_, (e hE).2⟩⟩
  show (if x = a then g j' else xk_e C' x j') = _
  rw [if_neg, (e hE).1 j']
  rintro rfl
  rcases hf with h | h
  · rw [h] at hE; cases hE
  · omega
theorem Fr.sQ (h : Fr fi fr E C C') (a : Nat) (g : Nat → Option Nat) (hf : E (xk_k C a) a = true ∨ xk_n C ≤ a) : Fr fi fr E C (xk_sQ C' a g) := by
  obtain ⟨a1, b, u, c⟩ := h
  refine ⟨a1, b, u, fun x hx => ?_⟩
  obtain ⟨k, l, i, r, e⟩ := c x hx
  refine ⟨k, l, i, r, fun hE => ⟨(e hE).1, fun j' => ?_⟩⟩
  show (if x = a then g j' else xk_q C' x j') = _
  rw [if_neg, (e hE).2 j']
  rintro rfl
  rcases hf with h | h
  · rw [h] at hE; cases hE
  · omega
theorem Fr.mk (h : Fr fi fr E C C') (k l z : Nat) (hk : k ≠ 21) : Fr fi fr E C (xk_mk C' k l z) := by
  obtain ⟨⟨a1, a2⟩, b, u, c⟩ := h
  refine ⟨⟨Nat.le_trans a1 (Nat.le_succ _), Nat.le_trans a2 (Nat.le_add_right _ _)⟩, b, fun hu => ?_, fun x hx => ?_⟩
  · obtain ⟨u1, u2, u3, u4, u5, u6⟩ := u hu
    have hx : ∀ x, xk_k (xk_mk C' k l z) x = 21 → x ≠ xk_n C' ∧ xk_k C' x = 21 := by
      intro x hx
      rw [k_mk] at hx
      by_cases hx' : x = xk_n C'
      · rw [if_pos hx'] at hx; exact absurd hx hk
      · rw [if_neg hx'] at hx; exact ⟨hx', hx⟩
    have hr : ∀ x, x ≠ xk_n C' → xk_r (xk_mk C' k l z) 102 x = xk_r C' 102 x := fun x hx => by rw [r_mk, if_neg hx]
    refine ⟨fun x h => Nat.lt_succ_of_lt (u1 x (hx x h).2), fun x y h hy => Nat.lt_succ_of_lt (u2 x y (hx x h).2 ((hr x (hx x h).1).symm.trans hy)), fun x y z h h' hz hw => u3 x y z (hx x h).2 (hx y h').2 ((hr x (hx x h).1).symm.trans hz) ((hr y (hx y h').1).symm.trans hw), Nat.lt_succ_of_lt u4, ?_, ?_⟩
    · show (if xk_d C' = xk_n C' then k else xk_k C' (xk_d C')) = 34
      rw [if_neg (by omega), u5]
    · show (if xk_d C' = xk_n C' then l else xk_l C' (xk_d C')) = 0
      rw [if_neg (by omega), u6]
  · obtain ⟨k', l', i, r, e⟩ := c x hx
    have hne : x ≠ xk_n C' := by omega
    refine ⟨?_, ?_, fun f hf => ?_, fun f hf => ?_, fun hE => ⟨fun j => ?_, fun j => ?_⟩⟩
    · rw [k_mk, if_neg hne, k']
    · rw [l_mk, if_neg hne, l']
    · rw [i_mk, if_neg hne, i f hf]
    · rw [r_mk, if_neg hne, r f hf]
    · rw [e_mk, if_neg hne, (e hE).1]
    · rw [q_mk, if_neg hne, (e hE).2]
end
/-! ArrayList -/
def pL (C : xk_C) (a n : Nat) (g : Nat → Nat) : Prop := xk_k C a = 21 ∧ a < xk_n C ∧ xk_i C 103 a = nI n ∧ (∀ i, i < n → g i < xk_n C ∧ xk_hold 4 (xk_k C (g i)) = true) ∧ ∃ e, xk_r C 102 a = some e ∧ e < xk_n C ∧ xk_k C e = 34 ∧ n ≤ xk_l C e ∧ xk_l C e ≤ 1000 ∧ (xk_l C e = 0 ↔ e = xk_d C) ∧ ∀ i, i < n → xk_q C e i = some (g i)
theorem pL.fr {fi fr : List Nat} {E : Nat → Nat → Bool} {C C' : xk_C} {a n : Nat} {g : Nat → Nat} (h : pL C a n g) (F : Fr fi fr E C C') (h1 : 103 ∉ fi) (h2 : 102 ∉ fr) (h3 : ∀ e, e < xk_n C → E 34 e = false) : pL C' a n g := by
  obtain ⟨k, ha, hs, hg, e, he, hen, hek, hnl, hl, hd, hq⟩ := h
  refine ⟨(F.k ha).trans k, F.lt ha, (F.i ha h1).trans hs, fun i hi => ⟨F.lt (hg i hi).1, by rw [F.k (hg i hi).1]; exact (hg i hi).2⟩, e, (F.r ha h2).trans he, F.lt hen, (F.k hen).trans hek, by rw [F.l hen]; exact hnl, by rw [F.l hen]; exact hl, by rw [F.l hen, F.d]; exact hd, fun i hi => ?_⟩
  rw [F.q hen (by rw [hek]; exact h3 e hen), hq i hi]
theorem pL.size {C : xk_C} {a n : Nat} {g : Nat → Nat} (h : pL C a n g) : fJ2_size a C = some (nI n) := by
  unfold fJ2_size
  rw [g_i h.1 rfl, h.2.2.1]; rfl
theorem pL.n9 {C : xk_C} {a n : Nat} {g : Nat → Nat} (h : pL C a n g) : n ≤ 1000 := by
  obtain ⟨-, -, -, -, e, -, -, -, h1, h2, -⟩ := h; omega
theorem pL.get {C : xk_C} {a n : Nat} {g : Nat → Nat} (h : pL C a n g) {i : Nat} (hi : i < n) : fJ2_get a C (nI i) = some (some (g i)) := by
  have hn := h.n9
  obtain ⟨k, ha, hs, hg, e, he, hen, hek, hnl, hl, hd, hq⟩ := h
  unfold fJ2_get fJ6_checkIndex fJ7_checkIndex fJ2_elementData
  rw [g_i k rfl, hs]
  simp only [Option.bind_some]
  rw [if_neg (s_nn i (by omega)), if_pos ((s_lt i n (by omega) (by omega)).mpr hi)]
  simp only [Option.bind_some]
  rw [g_is k]
  simp only [Option.bind_some]
  rw [g_r k rfl, he]
  simp only [Option.bind_some]
  rw [g_lq hek (by omega) (by omega), hq i hi]
  rfl
end
section
/-! STAGE 2: ArrayList grows, is added to, loses its last -/
theorem s_shr1 : ∀ n, n < 1001 → (nI n >>> ((1 : Int32) &&& 31)) = nI (n / 2) := by decide +kernel
theorem Fr.sr2 {fi fr : List Nat} {E : Nat → Nat → Bool} {C C' : xk_C} (h : Fr fi fr E C C') (a p : Nat) (hf : 102 ∈ fr ∨ xk_n C ≤ a) (hp : U1 C → (∀ x, xk_k C' x = 21 → x ≠ a → xk_r C' 102 x ≠ some p) ∧ p < xk_n C') : Fr fi fr E C (xk_sr C' 102 a (some p)) := by
  obtain ⟨a1, b, u, c⟩ := h
  refine ⟨a1, b, fun hu => ?_, fun x hx => ?_⟩
  · obtain ⟨u1, u2, u3, u4⟩ := u hu
    obtain ⟨hp1, hp2⟩ := hp hu
    refine ⟨u1, fun x y hx hy => ?_, fun x y z hx hy hz hw => ?_, u4⟩
    · rw [r_sr] at hy
      by_cases hxa : x = a
      · rw [if_pos ⟨rfl, hxa⟩] at hy; cases hy; exact hp2
      · rw [if_neg (fun h => hxa h.2)] at hy; exact u2 x y hx hy
    · rw [r_sr] at hz hw
      by_cases hxa : x = a
      · by_cases hya : y = a
        · exact .inr (hxa.trans hya.symm)
        · rw [if_pos ⟨rfl, hxa⟩] at hz; rw [if_neg (fun h => hya h.2)] at hw; cases hz
          exact absurd hw (hp1 y hy hya)
      · rw [if_neg (fun h => hxa h.2)] at hz
        by_cases hya : y = a
        · rw [if_pos ⟨rfl, hya⟩] at hw; cases hw
          exact absurd hz (hp1 x hx hxa)
        · rw [if_neg (fun h => hya h.2)] at hw
          exact u3 x y z hx hy hz hw
  · obtain ⟨k, l, i, r, e⟩ := c x hx
    refine ⟨k, l, i, fun g hg => ?_, e⟩
    rw [r_sr, if_neg, r g hg]
    rintro ⟨rfl, rfl⟩
    rcases hf with h | h
    · exact hg h
    · omega
/-- what adding to a list leaves as it was -/
def lsE (k _ : Nat) : Bool := k == 34
def pLF (a : Nat) (C C' : xk_C) : Prop := Fr [101, 103] [102] lsE C C' ∧ xk_n C' ≤ xk_n C + 1 ∧ xk_s C' ≤ xk_s C + 1501 ∧ (∀ x, xk_n C ≤ x → xk_k C' x = 0 ∨ xk_k C' x = 34 ∨ xk_k C' x = xk_k C x) ∧ ∀ x m h, x ≠ a → pL C x m h → pL C' x m h
theorem L_grow {C : xk_C} {a n : Nat} {g : Nat → Nat} (h : pL C a n g) (hU : U1 C) (hn : n ≤ 600) (hnl : ∀ e, xk_r C 102 a = some e → n = xk_l C e) : ∃ C' p, fJ2_grow a C = some (C', some p) ∧ pL C' a n g ∧ xk_r C' 102 a = some p ∧ n < xk_l C' p ∧ (∀ x, x < xk_n C → xk_k C' x = xk_k C x) ∧ (∀ x, x < xk_n C → x ≠ a → xk_r C' 102 x = xk_r C 102 x) ∧ (∀ x j, x < xk_n C → xk_q C' x j = xk_q C x j) ∧ (∀ f x, x < xk_n C → xk_i C' f x = xk_i C f x) ∧ (∀ x j, x < xk_n C → xk_e C' x j = xk_e C x j) ∧ p = xk_n C ∧ pLF a C C' := by
  obtain ⟨k, ha, hs, hg, e, he, hen, hek, hnl1, hl, hd, hq⟩ := h
  have hne := hnl e he
  have hL31 : xk_l C e < 2147483648 := by omega
  -- the new heap, by its new length
  have key : ∀ m G, xk_l C e < m → m ≤ 1000 → (∀ i, i < n → G i = some (g i)) → ∀ C', C' = xk_sr (xk_sQ (xk_mk C 34 m m) (xk_n C) G) 102 a (some (xk_n C)) → pL C' a n g ∧ xk_r C' 102 a = some (xk_n C) ∧ n < xk_l C' (xk_n C) ∧ (∀ x, x < xk_n C → xk_k C' x = xk_k C x) ∧ (∀ x, x < xk_n C → x ≠ a → xk_r C' 102 x = xk_r C 102 x) ∧ (∀ x j, x < xk_n C → xk_q C' x j = xk_q C x j) ∧ (∀ f x, x < xk_n C → xk_i C' f x = xk_i C f x) ∧ (∀ x j, x < xk_n C → xk_e C' x j = xk_e C x j) ∧ xk_n C = xk_n C ∧ pLF a C C' := by
    intro m G hm hm9 hG C' hC'
    have nk : ∀ x, x < xk_n C → xk_k C' x = xk_k C x := fun x hx => by
      subst hC'; show (if x = xk_n C then 34 else xk_k C x) = _; rw [if_neg (by omega)]
    have nl : ∀ x, x < xk_n C → xk_l C' x = xk_l C x := fun x hx => by
      subst hC'; show (if x = xk_n C then m else xk_l C x) = _; rw [if_neg (by omega)]
    have ni : ∀ f x, x < xk_n C → xk_i C' f x = xk_i C f x := fun f x hx => by
      subst hC'; show (if x = xk_n C then 0 else xk_i C f x) = _; rw [if_neg (by omega)]
    have nr : ∀ x, x < xk_n C → x ≠ a → xk_r C' 102 x = xk_r C 102 x := fun x hx hxa => by
      subst hC'; show (if 102 = 102 ∧ x = a then _ else if x = xk_n C then none else xk_r C 102 x) = _; rw [if_neg (fun h => hxa h.2), if_neg (by omega)]
    have nr0 : xk_r C' 102 a = some (xk_n C) := by
      subst hC'; show (if 102 = 102 ∧ a = a then _ else _) = _; rw [if_pos ⟨rfl, rfl⟩]
    have nq : ∀ x j, x < xk_n C → xk_q C' x j = xk_q C x j := fun x j hx => by
      subst hC'; show (if x = xk_n C then G j else if x = xk_n C then none else xk_q C x j) = _; rw [if_neg (by omega), if_neg (by omega)]
    have nk2 : xk_k C' (xk_n C) = 34 := by subst hC'; show (if xk_n C = xk_n C then 34 else _) = _; rw [if_pos rfl]
    have nl2 : xk_l C' (xk_n C) = m := by subst hC'; show (if xk_n C = xk_n C then m else _) = _; rw [if_pos rfl]
    have nq2 : ∀ j, xk_q C' (xk_n C) j = G j := fun j => by subst hC'; show (if xk_n C = xk_n C then G j else _) = _; rw [if_pos rfl]
    have nn : xk_n C' = xk_n C + 1 := by subst hC'; rfl
    have ns : xk_s C' = xk_s C + m := by subst hC'; rfl
    have nd : xk_d C' = xk_d C := by subst hC'; rfl
    have nee : ∀ x j, x < xk_n C → xk_e C' x j = xk_e C x j := fun x j hx => by
      subst hC'; show (if x = xk_n C then 0 else xk_e C x j) = _; rw [if_neg (by omega)]
    have hF : Fr [101, 103] [102] lsE C C' := by
      subst hC'
      refine Fr.sr2 (Fr.sQ (Fr.mk Fr.refl 34 m m (by decide)) _ _ (.inr (Nat.le_refl _))) a _ (.inl (by decide)) (fun hu => ⟨fun x hx hxa hr => ?_, Nat.lt_succ_self _⟩)
      have hx' : (if x = xk_n C then 34 else xk_k C x) = 21 := hx
      have hr' : (if x = xk_n C then none else xk_r C 102 x) = some (xk_n C) := hr
      by_cases hxn : x = xk_n C
      · rw [if_pos hxn] at hr'; cases hr'
      · rw [if_neg hxn] at hr' hx'
        exact absurd (hu.2.1 x _ hx' hr') (Nat.lt_irrefl _)
    have nx : ∀ x, xk_n C ≤ x → xk_k C' x = 0 ∨ xk_k C' x = 34 ∨ xk_k C' x = xk_k C x := fun x hx => by
      by_cases hxn : x = xk_n C
      · rw [hxn]; exact .inr (.inl nk2)
      · refine .inr (.inr ?_); subst hC'; show (if x = xk_n C then 34 else xk_k C x) = _; rw [if_neg hxn]
    clear hC'
    refine ⟨⟨(nk a ha).trans k, by omega, (ni 103 a ha).trans hs, fun i hi => ⟨by have := (hg i hi).1; omega, by rw [nk _ (hg i hi).1]; exact (hg i hi).2⟩, xk_n C, nr0, by omega, nk2, by omega, by omega, ?_, fun i hi => (nq2 i).trans (hG i hi)⟩, nr0, by omega, nk, nr, nq, ni, nee, rfl, hF, by omega, by omega, nx, ?_⟩
    · rw [nl2, nd]
      constructor
      · intro h; omega
      · intro h; have := hU.2.2.2.1; omega
    · intro x m' h' hxa hx
      obtain ⟨k', ha', hs', hg', e', he', hen', hek', hnl', hl', hd', hq'⟩ := hx
      exact ⟨(nk x ha').trans k', by omega, (ni 103 x ha').trans hs', fun i hi => ⟨by have := (hg' i hi).1; omega, by rw [nk _ (hg' i hi).1]; exact (hg' i hi).2⟩, e', (nr x ha' hxa).trans he', by omega, (nk e' hen').trans hek', by rw [nl e' hen']; exact hnl', by rw [nl e' hen']; exact hl', by rw [nl e' hen', nd]; exact hd', fun i hi => (nq e' i hen').trans (hq' i hi)⟩
  unfold fJ2_grow
  rw [g_i k rfl, hs]
  simp only [Option.bind_some]
  rw [g_is k]
  simp only [Option.bind_some]
  unfold fJ2_grow_2
  rw [g_r k rfl, he]
  simp only [Option.bind_some]
  rw [g_al hek]
  simp only [Option.bind_some]
  by_cases h0 : xk_l C e = 0
  · rw [h0, if_neg (by decide)]
    rw [if_pos (by rw [hd.mp h0])]
    have hn0 : n = 0 := by omega
    rw [hn0, if_neg (by decide)]
    rw [p_na (by omega)]
    simp only [Option.bind_some]
    rw [p_r (k := 21) (by rw [k_mk, if_neg (by omega)]; exact k) rfl]
    refine ⟨_, _, rfl, ?_⟩
    have := key 10 (fun _ => none) (by omega) (by omega) (by intro i hi; omega) _ rfl
    have e2 : xk_sQ (xk_mk C 34 10 10) (xk_n C) (fun _ => none) = xk_mk C 34 10 10 := by
      unfold xk_sQ xk_mk
      refine congrArg (Prod.mk _) (congrArg (Prod.mk _) (congrArg (Prod.mk _) (congrArg (Prod.mk _) (congrArg (Prod.mk _) (congrArg (fun z => Prod.mk z _) ?_)))))
      funext b i
      by_cases hb : b = xk_n C <;> simp [hb]
    rw [e2, hn0] at this
    exact this
  · have hpos : (0 : Int32) < nI (xk_l C e) := (s_lt 0 _ (by omega) hL31).mpr (by omega)
    rw [if_pos hpos]
    unfold fJ2_grow_2_B20 fJ3_newLength
    have e1 : nI n + 1 - nI (xk_l C e) = nI 1 := by rw [s_a1, ← hne, s_sub _ _ (by omega)]; congr 1; omega
    rw [e1, s_shr1 _ (by omega)]
    simp only [Option.bind_some]
    have e3 : (if nI 1 < nI (xk_l C e / 2) then nI (xk_l C e / 2) else nI 1) = nI (if 1 < xk_l C e / 2 then xk_l C e / 2 else 1) := by
      by_cases h : 1 < xk_l C e / 2
      · rw [if_pos h, if_pos ((s_lt _ _ (by omega) (by omega)).mpr h)]
      · rw [if_neg h, if_neg (fun h' => h ((s_lt _ _ (by omega) (by omega)).mp h'))]
    rw [e3, s_add]
    generalize hM : xk_l C e + (if 1 < xk_l C e / 2 then xk_l C e / 2 else 1) = M
    have hM1 : xk_l C e < M ∧ M ≤ 1000 := by
      rw [← hM]; split <;> omega
    rw [if_neg (fun h => by rw [s_n0, s_le _ _ (by omega) (by omega)] at h; omega), if_neg (fun h => by
      have h : nI 2147483639 < nI M := h
      rw [s_lt _ _ (by omega) (by omega)] at h; omega)]
    simp only [Option.bind_some]
    rw [g_r k rfl, he]
    simp only [Option.bind_some]
    unfold fJ5_copyOf fJ5_copyOf_2 fJ5_copyOf_2_B24
    rw [g_is hek, if_pos rfl]
    simp only [Option.bind_some]
    rw [p_na (by omega)]
    simp only [Option.bind_some]
    have hek3 : xk_k (xk_mk C 34 M M) e = 34 := by rw [k_mk, if_neg (by omega)]; exact hek
    rw [g_al (t := 4) hek3, l_mk, if_neg (by omega : ¬ e = xk_n C)]
    simp only [Option.bind_some]
    rw [if_neg (fun h => by rw [s_lt _ _ (by omega) (by omega)] at h; omega)]
    have hcp : xk_cpq (xk_mk C 34 M M) 4 (some e) 0 (some (xk_n C)) 0 (nI (xk_l C e)) = some (xk_sQ (xk_mk C 34 M M) (xk_n C) (va_cpy (xk_q (xk_mk C 34 M M) e) (xk_q (xk_mk C 34 M M) (xk_n C)) 0 0 (xk_l C e))) := by
      unfold xk_cpq xk_cpr
      have z0 : (0 : Int32).toNatClampNeg = 0 := rfl
      simp only [s_tn _ hL31, z0]
      rw [if_pos ⟨⟨hek3, by rw [k_mk, if_pos rfl], by decide, by decide⟩, s_nn _ hL31, by rw [l_mk, if_neg (by omega)]; omega, by rw [l_mk, if_pos rfl]; omega⟩]
      simp only []
      rw [if_pos]
      refine ⟨⟨by rw [l_mk, if_neg (by omega)]; omega, by rw [l_mk, if_pos rfl]; omega⟩, ?_⟩
      rw [List.all_eq_true]
      intro i hi
      rw [List.mem_range] at hi
      rw [q_mk, if_neg (by omega), Nat.zero_add, hq i (by omega)]
      show xk_hold 4 (xk_k (xk_mk C 34 M M) (g i)) = true
      have := hg i (by omega)
      rw [k_mk, if_neg (by omega)]
      exact this.2
    rw [hcp]
    simp only [Option.bind_some]
    rw [p_r (C := xk_sQ (xk_mk C 34 M M) (xk_n C) _) (k := 21) (show xk_k (xk_mk C 34 M M) a = 21 by rw [k_mk, if_neg (by omega)]; exact k) rfl]
    refine ⟨_, _, rfl, ?_⟩
    refine key M _ hM1.1 hM1.2 ?_ _ rfl
    intro i hi
    unfold va_cpy
    rw [if_pos (by omega), q_mk, if_neg (by omega)]
    have : 0 + (i - 0) = i := by omega
    rw [this, hq i hi]
/-- adding to a list touches but it and its own array -/
def SF (a : Nat) (C C' : xk_C) : Prop := (∀ f x, x < xk_n C → x ≠ a → xk_i C' f x = xk_i C f x) ∧ (∀ f x, x < xk_n C → x ≠ a → xk_r C' f x = xk_r C f x) ∧ (∀ x j, x < xk_n C → xk_e C' x j = xk_e C x j) ∧ (∀ x j, x < xk_n C → (xk_r C 102 a = some x → x = xk_d C) → xk_q C' x j = xk_q C x j) ∧ (∀ z, xk_r C' 102 a = some z → xk_r C 102 a = some z ∨ xk_n C ≤ z)
theorem L_add2 {C : xk_C} {a n b : Nat} {g : Nat → Nat} (h : pL C a n g) (hU : U1 C) (hn : n ≤ 600) (hb : b < xk_n C ∧ xk_hold 4 (xk_k C b) = true) : ∃ C', fJ2_add a C (some b) = some (C', 1) ∧ pL C' a (n + 1) (fun i => if i = n then b else g i) ∧ pLF a C C' ∧ SF a C C' := by
  obtain ⟨k, ha, hs, hg, e, he, hen, hek, hnl, hl, hd, hq⟩ := id h
  -- behind the count of changes
  have h2 : pL (xk_si C 101 a (xk_i C 101 a + 1)) a n g := ⟨k, ha, by rw [i_si, if_neg (by intro h; omega)]; exact hs, hg, e, he, hen, hek, hnl, hl, hd, hq⟩
  have F2 : pLF a C (xk_si C 101 a (xk_i C 101 a + 1)) := ⟨Fr.si Fr.refl _ _ _ (.inl (by decide)), Nat.le_succ _, Nat.le_add_right _ _, fun x hx => .inr (.inr rfl), fun x m h hxa hx => hx.fr (fi := [101]) (fr := []) (E := fun _ _ => false) (Fr.si Fr.refl _ _ _ (.inl (by decide))) (by decide) (by decide) (fun _ _ => rfl)⟩
  unfold fJ2_add
  rw [g_i k rfl]
  simp only [Option.bind_some]
  rw [p_i k rfl]
  simp only [Option.bind_some]
  rw [g_r (C := xk_si C 101 a (xk_i C 101 a + 1)) (k := 21) k rfl, r_si, he]
  simp only [Option.bind_some]
  rw [g_i (C := xk_si C 101 a (xk_i C 101 a + 1)) (k := 21) k rfl, i_si, if_neg (by intro h; omega), hs]
  simp only [Option.bind_some]
  rw [g_is (C := xk_si C 101 a (xk_i C 101 a + 1)) k]
  simp only [Option.bind_some]
  have hU2 : U1 (xk_si C 101 a (xk_i C 101 a + 1)) := F2.1.u hU
  have e2 : xk_r (xk_si C 101 a (xk_i C 101 a + 1)) 102 a = some e := he
  have hk2 : ∀ x, xk_k (xk_si C 101 a (xk_i C 101 a + 1)) x = xk_k C x := fun _ => rfl
  have hn2 : xk_n (xk_si C 101 a (xk_i C 101 a + 1)) = xk_n C := rfl
  have hs2 : xk_s (xk_si C 101 a (xk_i C 101 a + 1)) = xk_s C := rfl
  have hl2 : ∀ x, xk_l (xk_si C 101 a (xk_i C 101 a + 1)) x = xk_l C x := fun _ => rfl
  have SF2 : SF a C (xk_si C 101 a (xk_i C 101 a + 1)) := ⟨fun f x _ hxa => by rw [i_si, if_neg (fun h => hxa h.2)], fun _ _ _ _ => rfl, fun _ _ _ => rfl, fun _ _ _ _ => rfl, fun z hz => .inl hz⟩
  generalize xk_si C 101 a (xk_i C 101 a + 1) = C2 at *
  unfold fJ2_add_2
  rw [g_al (by rw [hk2]; exact hek), hl2]
  simp only [Option.bind_some]
  -- the last write: into an array of the list's own, with room
  have last : ∀ C3 p, pL C3 a n g → U1 C3 → xk_r C3 102 a = some p → n < xk_l C3 p → pLF a C C3 → (∀ x, x < xk_n C → xk_k C3 x = xk_k C x) → SF a C C3 → (p = e ∨ xk_n C ≤ p) → ∃ C', fJ2_add_2_B11 a C3 (some b) (some p) (nI n) = some (C', ()) ∧ pL C' a (n + 1) (fun i => if i = n then b else g i) ∧ pLF a C C' ∧ SF a C C' := by
    intro C3 p h3 hU3 hp hnp hF hk3 hSF hpe
    obtain ⟨k3, ha3, hs3, hg3, p', hp', hpn, hpk, -, hpl, hpd, hpq⟩ := h3
    cases hp.symm.trans hp'
    have hbn : b < xk_n C3 := Nat.lt_of_lt_of_le hb.1 hF.1.n
    have hbk : xk_hold 4 (xk_k C3 b) = true := by rw [hk3 b hb.1]; exact hb.2
    unfold fJ2_add_2_B11
    rw [p_sa (t := 4) (v := some b) hpk hnp (by omega) hbk]
    simp only [Option.bind_some]
    rw [p_i (C := xk_sq C3 p n (some b)) (k := 21) k3 rfl]
    have hpnd : p ≠ xk_d C3 := fun h => by have := hpd.mpr h; omega
    have hF4 : Fr [101, 103] [102] lsE C3 (xk_si (xk_sq C3 p n (some b)) 103 a (nI n + 1)) := Fr.si (Fr.sq Fr.refl _ _ _ (.inl (by rw [hpk]; rfl))) _ _ _ (.inl (by decide))
    refine ⟨_, rfl, ⟨k3, ha3, ?_, fun i hi => ?_, p, hp, hpn, hpk, by show n + 1 ≤ xk_l C3 p; omega, hpl, hpd, fun i hi => ?_⟩, ⟨hF.1.trans hF4, hF.2.1, hF.2.2.1, hF.2.2.2.1, fun x m h hxa hx => ?_⟩, ⟨fun f x hx hxa => ?_, hSF.2.1, hSF.2.2.1, fun x j hx hxd => ?_, hSF.2.2.2.2⟩⟩
    · rw [i_si, if_pos ⟨rfl, rfl⟩, s_a1]
    · show (if i = n then b else g i) < xk_n C3 ∧ xk_hold 4 (xk_k C3 (if i = n then b else g i)) = true
      by_cases hin : i = n
      · rw [if_pos hin]; exact ⟨hbn, hbk⟩
      · rw [if_neg hin]; exact hg3 i (by omega)
    · rw [q_si, q_sq]
      by_cases hin : i = n
      · rw [if_pos ⟨rfl, hin⟩]; simp only [if_pos hin]
      · rw [if_neg (fun h => hin h.2), hpq i (by omega)]; simp only [if_neg hin]
    · have hx3 := hF.2.2.2.2 x m h hxa hx
      obtain ⟨k', ha', hs', hg', e', he', hen', hek', hnl', hl', hd', hq'⟩ := hx3
      refine ⟨k', ha', by rw [i_si, if_neg (fun h => hxa h.2)]; exact hs', hg', e', he', hen', hek', hnl', hl', hd', fun i hi => ?_⟩
      rw [q_si, q_sq, if_neg, hq' i hi]
      rintro ⟨rfl, -⟩
      rcases hU3.2.2.1 x a e' k' k3 he' hp with h | h
      · exact hpnd h
      · exact hxa h
    · rw [i_si, if_neg (fun h => hxa h.2)]; exact hSF.1 f x hx hxa
    · rw [q_si, q_sq, if_neg]
      · exact hSF.2.2.2.1 x j hx hxd
      · rintro ⟨rfl, -⟩
        rcases hpe with h | h
        · subst h; exact hpnd ((hxd he).trans hF.1.d.symm)
        · omega
  by_cases hnle : n = xk_l C e
  · rw [if_pos (by rw [hnle]), g_is (by rw [hk2]; exact k)]
    simp only [Option.bind_some]
    obtain ⟨C3, p, f3, h3, hp, hnp, nk, nr, nq, ni, nee, hpe, F3⟩ := L_grow h2 hU2 hn (fun e' he' => by cases e2.symm.trans he'; rw [hl2]; exact hnle)
    rw [f3]
    simp only [Option.bind_some]
    have F23 : pLF a C C3 := ⟨F2.1.trans F3.1, by have := F3.2.1; omega, by have := F3.2.2.1; omega, fun x hx => by
        rcases F3.2.2.2.1 x (by omega) with h | h | h
        · exact .inl h
        · exact .inr (.inl h)
        · exact .inr (.inr (h.trans (hk2 x))), fun x m h hxa hx => F3.2.2.2.2 x m h hxa (F2.2.2.2.2 x m h hxa hx)⟩
    obtain ⟨C', f', r⟩ := last C3 p h3 (F3.1.u hU2) hp hnp F23 (fun x hx => (nk x (by omega)).trans (hk2 x)) ⟨fun f x hx hxa => (ni f x (by omega)).trans (SF2.1 f x hx hxa), fun f x hx hxa => by
        by_cases c : f = 102
        · subst c; exact (nr x (by omega) hxa).trans (SF2.2.1 102 x hx hxa)
        · exact (F3.1.r (by omega) (by simp [c])).trans (SF2.2.1 f x hx hxa), fun x j hx => (nee x j (by omega)).trans (SF2.2.2.1 x j hx), fun x j hx hd => (nq x j (by omega)).trans (SF2.2.2.2.1 x j hx hd), fun z hz => by rw [hp] at hz; cases hz; exact .inr (by omega)⟩ (.inr (by omega))
    rw [f']
    exact ⟨C', rfl, r⟩
  · rw [if_neg (fun h => hnle ((s_eq _ _ (by omega) (by omega)).mp h))]
    obtain ⟨C', f', r⟩ := last C2 e h2 hU2 e2 (by rw [hl2]; omega) F2 (fun x _ => hk2 x) SF2 (.inl rfl)
    rw [f']
    exact ⟨C', rfl, r⟩
theorem L_add {C : xk_C} {a n b : Nat} {g : Nat → Nat} (h : pL C a n g) (hU : U1 C) (hn : n ≤ 600) (hb : b < xk_n C ∧ xk_hold 4 (xk_k C b) = true) : ∃ C', fJ2_add a C (some b) = some (C', 1) ∧ pL C' a (n + 1) (fun i => if i = n then b else g i) ∧ pLF a C C' := by
  obtain ⟨C', h1, h2, h3, -⟩ := L_add2 h hU hn hb
  exact ⟨C', h1, h2, h3⟩
end
section
/-! which object has which field (gen/mk63.py) -/
theorem h_1_0 : xk_has 1 0 = true := rfl
theorem h_1_1 : xk_has 1 1 = true := rfl
theorem h_1_2 : xk_has 1 2 = true := rfl
theorem h_1_3 : xk_has 1 3 = true := rfl
theorem h_1_4 : xk_has 1 4 = true := rfl
theorem h_1_5 : xk_has 1 5 = true := rfl
theorem h_1_6 : xk_has 1 6 = true := rfl
theorem h_1_7 : xk_has 1 7 = true := rfl
theorem h_1_8 : xk_has 1 8 = true := rfl
theorem h_1_9 : xk_has 1 9 = true := rfl
theorem h_1_10 : xk_has 1 10 = true := rfl
theorem h_1_11 : xk_has 1 11 = true := rfl
theorem h_1_12 : xk_has 1 12 = true := rfl
theorem h_1_13 : xk_has 1 13 = true := rfl
theorem h_1_14 : xk_has 1 14 = true := rfl
theorem h_1_15 : xk_has 1 15 = true := rfl
theorem h_1_16 : xk_has 1 16 = true := rfl
theorem h_1_17 : xk_has 1 17 = true := rfl
theorem h_1_18 : xk_has 1 18 = true := rfl
theorem h_1_19 : xk_has 1 19 = true := rfl
theorem h_1_20 : xk_has 1 20 = true := rfl
theorem h_1_21 : xk_has 1 21 = true := rfl
theorem h_1_22 : xk_has 1 22 = true := rfl
theorem h_1_23 : xk_has 1 23 = true := rfl
theorem h_1_24 : xk_has 1 24 = true := rfl
theorem h_1_25 : xk_has 1 25 = true := rfl
theorem h_1_26 : xk_has 1 26 = true := rfl
theorem h_2_27 : xk_has 2 27 = true := rfl
theorem h_2_28 : xk_has 2 28 = true := rfl
theorem h_2_29 : xk_has 2 29 = true := rfl
theorem h_2_30 : xk_has 2 30 = true := rfl
theorem h_2_31 : xk_has 2 31 = true := rfl
theorem h_3_32 : xk_has 3 32 = true := rfl
theorem h_3_33 : xk_has 3 33 = true := rfl
theorem h_3_34 : xk_has 3 34 = true := rfl
theorem h_3_35 : xk_has 3 35 = true := rfl
theorem h_3_36 : xk_has 3 36 = true := rfl
theorem h_5_37 : xk_has 5 37 = true := rfl
theorem h_5_38 : xk_has 5 38 = true := rfl
theorem h_5_39 : xk_has 5 39 = true := rfl
theorem h_5_40 : xk_has 5 40 = true := rfl
theorem h_5_41 : xk_has 5 41 = true := rfl
theorem h_5_42 : xk_has 5 42 = true := rfl
theorem h_5_43 : xk_has 5 43 = true := rfl
theorem h_6_44 : xk_has 6 44 = true := rfl
theorem h_6_45 : xk_has 6 45 = true := rfl
theorem h_6_46 : xk_has 6 46 = true := rfl
theorem h_6_47 : xk_has 6 47 = true := rfl
theorem h_6_48 : xk_has 6 48 = true := rfl
theorem h_6_49 : xk_has 6 49 = true := rfl
theorem h_6_50 : xk_has 6 50 = true := rfl
theorem h_6_51 : xk_has 6 51 = true := rfl
theorem h_6_52 : xk_has 6 52 = true := rfl
theorem h_6_53 : xk_has 6 53 = true := rfl
theorem h_6_54 : xk_has 6 54 = true := rfl
theorem h_6_55 : xk_has 6 55 = true := rfl
theorem h_6_56 : xk_has 6 56 = true := rfl
theorem h_7_57 : xk_has 7 57 = true := rfl
theorem h_7_58 : xk_has 7 58 = true := rfl
theorem h_8_57 : xk_has 8 57 = true := rfl
theorem h_8_58 : xk_has 8 58 = true := rfl
theorem h_8_59 : xk_has 8 59 = true := rfl
theorem h_9_57 : xk_has 9 57 = true := rfl
theorem h_9_58 : xk_has 9 58 = true := rfl
theorem h_9_60 : xk_has 9 60 = true := rfl
theorem h_10_57 : xk_has 10 57 = true := rfl
theorem h_10_58 : xk_has 10 58 = true := rfl
theorem h_10_59 : xk_has 10 59 = true := rfl
theorem h_10_61 : xk_has 10 61 = true := rfl
theorem h_11_57 : xk_has 11 57 = true := rfl
theorem h_11_58 : xk_has 11 58 = true := rfl
theorem h_11_59 : xk_has 11 59 = true := rfl
theorem h_11_61 : xk_has 11 61 = true := rfl
theorem h_11_62 : xk_has 11 62 = true := rfl
theorem h_12_57 : xk_has 12 57 = true := rfl
theorem h_12_58 : xk_has 12 58 = true := rfl
theorem h_12_59 : xk_has 12 59 = true := rfl
theorem h_12_63 : xk_has 12 63 = true := rfl
theorem h_13_57 : xk_has 13 57 = true := rfl
theorem h_13_58 : xk_has 13 58 = true := rfl
theorem h_13_64 : xk_has 13 64 = true := rfl
theorem h_14_65 : xk_has 14 65 = true := rfl
theorem h_14_66 : xk_has 14 66 = true := rfl
theorem h_14_67 : xk_has 14 67 = true := rfl
theorem h_14_68 : xk_has 14 68 = true := rfl
theorem h_14_69 : xk_has 14 69 = true := rfl
theorem h_15_70 : xk_has 15 70 = true := rfl
theorem h_15_71 : xk_has 15 71 = true := rfl
theorem h_15_72 : xk_has 15 72 = true := rfl
theorem h_15_73 : xk_has 15 73 = true := rfl
theorem h_15_74 : xk_has 15 74 = true := rfl
theorem h_15_75 : xk_has 15 75 = true := rfl
theorem h_15_76 : xk_has 15 76 = true := rfl
theorem h_16_77 : xk_has 16 77 = true := rfl
theorem h_17_78 : xk_has 17 78 = true := rfl
theorem h_17_79 : xk_has 17 79 = true := rfl
theorem h_17_80 : xk_has 17 80 = true := rfl
theorem h_18_81 : xk_has 18 81 = true := rfl
theorem h_18_82 : xk_has 18 82 = true := rfl
theorem h_18_83 : xk_has 18 83 = true := rfl
theorem h_19_84 : xk_has 19 84 = true := rfl
theorem h_19_85 : xk_has 19 85 = true := rfl
theorem h_19_86 : xk_has 19 86 = true := rfl
theorem h_19_87 : xk_has 19 87 = true := rfl
theorem h_19_88 : xk_has 19 88 = true := rfl
theorem h_19_89 : xk_has 19 89 = true := rfl
theorem h_19_90 : xk_has 19 90 = true := rfl
theorem h_20_91 : xk_has 20 91 = true := rfl
theorem h_20_92 : xk_has 20 92 = true := rfl
theorem h_20_93 : xk_has 20 93 = true := rfl
theorem h_20_94 : xk_has 20 94 = true := rfl
theorem h_20_95 : xk_has 20 95 = true := rfl
theorem h_20_96 : xk_has 20 96 = true := rfl
theorem h_20_97 : xk_has 20 97 = true := rfl
theorem h_20_98 : xk_has 20 98 = true := rfl
theorem h_20_99 : xk_has 20 99 = true := rfl
theorem h_20_100 : xk_has 20 100 = true := rfl
theorem h_21_101 : xk_has 21 101 = true := rfl
theorem h_21_102 : xk_has 21 102 = true := rfl
theorem h_21_103 : xk_has 21 103 = true := rfl
end
section
/-! STAGE 2: evaluation rows for simp -/
theorem ev_gi (C : xk_C) (f a : Nat) (h : xk_has (xk_k C a) f = true) : xk_gi C f (some a) = some (xk_i C f a) := g_i rfl h
theorem ev_gr (C : xk_C) (f a : Nat) (h : xk_has (xk_k C a) f = true) : xk_gr C f (some a) = some (xk_r C f a) := g_r rfl h
theorem ev_pi (C : xk_C) (f a : Nat) (v : Int32) (h : xk_has (xk_k C a) f = true) : xk_pi C f (some a) v = some (xk_si C f a v) := p_i rfl h
theorem ev_pr (C : xk_C) (f a : Nat) (v : Option Nat) (h : xk_has (xk_k C a) f = true) : xk_pr C f (some a) v = some (xk_sr C f a v) := p_r rfl h
theorem ev_pz0 (C : xk_C) (f a : Nat) (h : xk_has (xk_k C a) f = true) : xk_pz C f (some a) 0 = some (xk_si C f a 0) := p_z rfl h (.inl rfl)
theorem ev_pz1 (C : xk_C) (f a : Nat) (h : xk_has (xk_k C a) f = true) : xk_pz C f (some a) 1 = some (xk_si C f a 1) := p_z rfl h (.inr rfl)
theorem ev_is (C : xk_C) (k a : Nat) (h : xk_k C a = k) : xk_is C k (some a) = some a := g_is h
theorem ev_ck (C : xk_C) (k a : Nat) (h : xk_k C a = k) : xk_ck C k (some a) = some () := g_ck h
theorem ev_ckn (C : xk_C) (k : Nat) : xk_ck C k none = some () := rfl
theorem ev_b {α β : Type} (a : α) (f : α → Option β) : (some a).bind f = f a := rfl
theorem ev_10 : ((1 : Int32) = 0) = False := by simp
theorem ev_r0 (σ : gm_S) : gm_rd σ 1 0 = some (ga σ 1 0) := rfl
theorem ev_r1 (σ : gm_S) : gm_rd σ 1 1 = some (ga σ 1 1) := rfl
theorem ev_r2 (σ : gm_S) : gm_rd σ 1 2 = some (ga σ 1 2) := rfl
theorem ev_r3 (σ : gm_S) : gm_rd σ 1 3 = some (ga σ 1 3) := rfl
theorem ev_r4 (σ : gm_S) : gm_rd σ 1 4 = some (ga σ 1 4) := rfl
theorem ev_w0 (σ : gm_S) (v : Int32) : gm_wr σ 1 0 v = some (gm_sta σ 1 0 v) := rfl
theorem ev_w1 (σ : gm_S) (v : Int32) : gm_wr σ 1 1 v = some (gm_sta σ 1 1 v) := rfl
theorem ev_w2 (σ : gm_S) (v : Int32) : gm_wr σ 1 2 v = some (gm_sta σ 1 2 v) := rfl
/-- an index as a reference -/
def rf (g : Nat → Nat) (v : Int32) : Option Nat := if v = -1 then none else some (g v.toNatClampNeg)
theorem rf_n (g : Nat → Nat) : rf g (-1) = none := rfl
theorem rf_s (g : Nat → Nat) (i : Nat) (h : i < 2147483648) : rf g (nI i) = some (g i) := by
  unfold rf; rw [if_neg (s_m1 i h), s_tn i h]
def ix (n : Nat) (v : Int32) : Prop := v = -1 ∨ ∃ i, i < n ∧ v = nI i
/-- the beach's fixed cells -/
def pB (bx : Nat) (C : xk_C) : Prop :=
  (xk_k C bx = 1 ∧ bx + 19 ≤ xk_n C ∧ U1 C) ∧
  (xk_r C 0 bx = some (bx + 1) ∧ xk_r C 2 bx = some (bx + 2) ∧ xk_r C 3 bx = some (bx + 3) ∧ xk_r C 7 bx = some (bx + 4) ∧ xk_r C 8 bx = some (bx + 5) ∧ xk_r C 10 bx = some (bx + 6) ∧ xk_r C 11 bx = some (bx + 7) ∧ xk_r C 12 bx = some (bx + 8) ∧ xk_r C 13 bx = some (bx + 14) ∧ xk_r C 17 bx = some (bx + 15) ∧ xk_r C 18 bx = some (bx + 16) ∧ xk_r C 19 bx = some (bx + 17) ∧ xk_r C 23 bx = some (bx + 18)) ∧
  (xk_k C (bx + 1) = 21 ∧ xk_k C (bx + 2) = 30 ∧ xk_k C (bx + 3) = 21 ∧ xk_k C (bx + 4) = 30 ∧ xk_k C (bx + 5) = 31 ∧ xk_k C (bx + 6) = 2 ∧ xk_k C (bx + 7) = 21 ∧ xk_k C (bx + 8) = 3 ∧ xk_k C (bx + 14) = 30 ∧ xk_k C (bx + 15) = 36 ∧ xk_k C (bx + 16) = 37 ∧ xk_k C (bx + 17) = 37 ∧ xk_k C (bx + 18) = 21) ∧
  (xk_l C (bx + 2) = 20 ∧ xk_l C (bx + 4) = 3 ∧ xk_l C (bx + 5) = 120 ∧ xk_l C (bx + 14) = 12 ∧ xk_l C (bx + 15) = 6 ∧ xk_l C (bx + 16) = 6 ∧ xk_l C (bx + 17) = 6)
/-- the shells -/
def cS (sh cr : Nat → Nat) (nS : Nat) (C : xk_C) (σ : gm_S) : Prop :=
  (∀ i, i < nS → xk_k C (sh i) = 5) ∧ (∀ i, i < nS → sh i < xk_n C) ∧ (∀ i, i < nS → xk_i C 37 (sh i) = nI i) ∧
  (∀ i, i < nS → xk_i C 38 (sh i) = ga σ 1 (10 + i)) ∧ (∀ i, i < nS → xk_i C 39 (sh i) = ga σ 1 (30 + i)) ∧ (∀ i, i < nS → xk_i C 40 (sh i) = ga σ 1 (50 + i)) ∧
  (∀ i, i < nS → xk_i C 41 (sh i) = ga σ 1 (70 + i)) ∧ (∀ i, i < nS → xk_i C 42 (sh i) = ga σ 1 (90 + i)) ∧ (∀ i, i < nS → xk_r C 43 (sh i) = rf cr (ga σ 1 (110 + i)))
/-- the crabs -/
def cC (bx : Nat) (sh cr hb : Nat → Nat) (nC : Nat) (C : xk_C) (σ : gm_S) : Prop :=
  (∀ i, i < nC → xk_k C (cr i) = 6) ∧ (∀ i, i < nC → cr i < xk_n C) ∧ (∀ i, i < nC → xk_i C 44 (cr i) = nI i) ∧
  (∀ i, i < nC → xk_i C 46 (cr i) = ga σ 1 (142 + i)) ∧ (∀ i, i < nC → xk_i C 47 (cr i) = ga σ 1 (130 + i)) ∧ (∀ i, i < nC → xk_i C 48 (cr i) = ga σ 1 (190 + i)) ∧ (∀ i, i < nC → xk_i C 49 (cr i) = ga σ 1 (202 + i)) ∧
  (∀ i, i < nC → xk_r C 53 (cr i) = rf sh (ga σ 1 (178 + i))) ∧ (∀ i, i < nC → xk_r C 54 (cr i) = rf cr (ga σ 1 (214 + i))) ∧ (∀ i, i < nC → xk_r C 55 (cr i) = rf hb (ga σ 1 (154 + i))) ∧ (∀ i, i < nC → xk_r C 56 (cr i) = some bx)
/-- the beach's own numbers -/
def cB (bx : Nat) (C : xk_C) (σ : gm_S) : Prop :=
  xk_i C 4 bx = ga σ 1 2 ∧ xk_i C 5 bx = ga σ 1 3 ∧ xk_i C 6 bx = ga σ 1 4 ∧ ∀ j, j < 3 → xk_e C (bx + 4) j = ga σ 1 (5 + j)
/-- all numbers and references of the core but the crabs' flags -/
def cA (bx : Nat) (sh cr hb : Nat → Nat) (nS nC : Nat) (C : xk_C) (σ : gm_S) : Prop :=
  pB bx C ∧ pL C (bx + 1) nS sh ∧ pL C (bx + 3) nC cr ∧ cS sh cr nS C σ ∧ cC bx sh cr hb nC C σ ∧ cB bx C σ ∧ nS ≤ 20 ∧ nC ≤ 12
/-- the crabs' flags -/
def cF (cr : Nat → Nat) (nC : Nat) (C : xk_C) (σ : gm_S) : Prop :=
  (∀ i, i < nC → xk_i C 50 (cr i) = if ga σ 1 (166 + i) = 2 then 1 else 0) ∧ (∀ i, i < nC → xk_i C 51 (cr i) = if ga σ 1 (226 + i) = 1 then 1 else 0) ∧ (∀ i, i < nC → xk_i C 52 (cr i) = if ga σ 1 (226 + i) = 2 then 1 else 0)
/-- what always holds of the row -/
def Iv (nS nC nH : Nat) (s : Nat → Int32) : Prop :=
  (nS ≤ 20 ∧ nC ≤ 12 ∧ nH ≤ 8 ∧ s 0 = nI nS ∧ s 1 = nI nC ∧ (0 ≤ s 3 ∧ s 3 ≤ 5) ∧ (0 ≤ s 4 ∧ s 4 ≤ 50)) ∧
  (∀ i, i < nS → (1 ≤ s (10 + i) ∧ s (10 + i) ≤ 40) ∧ (0 ≤ s (30 + i) ∧ s (30 + i) ≤ 20) ∧ (0 ≤ s (50 + i) ∧ s (50 + i) ≤ 9)) ∧
  (∀ c, c < nC → (1 ≤ s (130 + c) ∧ s (130 + c) ≤ 40) ∧ (s (166 + c) = 0 ∨ s (166 + c) = 1 ∨ s (166 + c) = 2) ∧ (s (226 + c) = 0 ∨ s (226 + c) = 1 ∨ s (226 + c) = 2) ∧ ix nH (s (154 + c)) ∧ ix nC (s (214 + c))) ∧
  (∀ i, i < nS → (s (110 + i) = -1 ∧ (s (90 + i) = 0 ∨ s (90 + i) = 3 ∨ s (90 + i) = 4)) ∨ ∃ c, c < nC ∧ s (110 + i) = nI c ∧ s (178 + c) = nI i ∧ (s (90 + i) = 1 ∨ s (90 + i) = 2)) ∧
  (∀ c, c < nC → (s (178 + c) = -1 ∧ (s (166 + c) = 1 ∨ s (166 + c) = 2)) ∨ ∃ i, i < nS ∧ s (178 + c) = nI i ∧ s (110 + i) = nI c ∧ (s (166 + c) = 0 ∧ s (90 + i) = 1 ∨ s (166 + c) = 1 ∧ s (90 + i) = 2))
/-- the core: the row on both sides -/
def cR (bx : Nat) (sh cr hb : Nat → Nat) (nS nC nH : Nat) (C : xk_C) (σ : gm_S) : Prop := cA bx sh cr hb nS nC C σ ∧ cF cr nC C σ ∧ Iv nS nC nH (ga σ 1)
section
variable {bx : Nat} {sh cr hb : Nat → Nat} {nS nC nH : Nat} {C : xk_C} {σ : gm_S}
/-! places in the tables -/
theorem in_out (v : Int32) (n : Nat) (hn : n < 2147483648) (h : v < 0 ∨ nI n ≤ v) : fX3_in v 0 (nI n - 1) = some 0 := by
  unfold fX3_in
  rcases h with h | h
  · rw [if_pos h]
  · by_cases h0 : v < 0
    · rw [if_pos h0]
    · rw [if_neg h0, if_pos]
      rw [Int32.le_iff_toInt_le, s_ti n hn] at h
      rw [Int32.lt_iff_toInt_lt] at h0 ⊢
      have e0 : (0 : Int32).toInt = 0 := by decide
      by_cases hn0 : n = 0
      · subst hn0
        have : (nI 0 - 1 : Int32).toInt = -1 := by decide
        omega
      · rw [s_s1 n (by omega), s_ti _ (by omega)]; omega
theorem in_in (i n : Nat) (hn : n < 2147483648) (h : i < n) : fX3_in (nI i) 0 (nI n - 1) = some 1 := by
  unfold fX3_in
  rw [if_neg (s_nn i (by omega)), if_neg]
  rw [s_s1 n (by omega), s_lt _ _ (by omega) (by omega)]; omega
theorem isShell_in (h0 : ga σ 1 0 = nI nS) (hn : nS ≤ 20) {i : Nat} (hi : i < nS) : fX3_isShell σ (nI i) = some 1 := by
  unfold fX3_isShell; rw [ev_r0, h0, ev_b, in_in i nS (by omega) hi]; rfl
theorem isShell_out (h0 : ga σ 1 0 = nI nS) (hn : nS ≤ 20) {v : Int32} (h : v < 0 ∨ nI nS ≤ v) : fX3_isShell σ v = some 0 := by
  unfold fX3_isShell; rw [ev_r0, h0, ev_b, in_out v nS (by omega) h]; rfl
theorem isCrab_in (h0 : ga σ 1 1 = nI nC) (hn : nC ≤ 12) {i : Nat} (hi : i < nC) : fX3_isCrab σ (nI i) = some 1 := by
  unfold fX3_isCrab; rw [ev_r1, h0, ev_b, in_in i nC (by omega) hi]; rfl
theorem isCrab_out (h0 : ga σ 1 1 = nI nC) (hn : nC ≤ 12) {v : Int32} (h : v < 0 ∨ nI nC ≤ v) : fX3_isCrab σ v = some 0 := by
  unfold fX3_isCrab; rw [ev_r1, h0, ev_b, in_out v nC (by omega) h]; rfl
theorem isHabit_in (h0 : gs σ 5 = nI nH) (hn : nH ≤ 8) {i : Nat} (hi : i < nH) : fX3_isHabit σ (nI i) = some 1 := by
  unfold fX3_isHabit; rw [h0, in_in i nH (by omega) hi]; rfl
theorem isHabit_out (h0 : gs σ 5 = nI nH) (hn : nH ≤ 8) {v : Int32} (h : v < 0 ∨ nI nH ≤ v) : fX3_isHabit σ v = some 0 := by
  unfold fX3_isHabit; rw [h0, in_out v nH (by omega) h]; rfl
theorem cell_eq (v : Int32) : fX0_isCell v = fX3_isCell v := rfl
theorem in_eq (u v w : Int32) : fX0_in u v w = fX3_in u v w := rfl
theorem cell_ok (v : Int32) : fX3_isCell v = some 0 ∨ fX3_isCell v = some 1 := by
  unfold fX3_isCell fX3_in
  split
  · exact .inl rfl
  · split
    · exact .inl rfl
    · exact .inr rfl
theorem in_ok (u v w : Int32) : fX3_in u v w = some 0 ∨ (fX3_in u v w = some 1 ∧ v ≤ u ∧ u ≤ w) := by
  unfold fX3_in
  split
  · exact .inl rfl
  · split
    · exact .inl rfl
    · rename_i h1 h2
      exact .inr ⟨rfl, Int32.not_lt.mp h1, Int32.not_lt.mp h2⟩
end
end
