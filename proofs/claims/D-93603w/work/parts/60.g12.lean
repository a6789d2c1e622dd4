set_option maxRecDepth 16384
section
/-! STAGE 2: sharing out, the plain part: rows, their order, the best of them -/
def rl : List Nat → List Nat → Bool
  | a :: p, b :: q => if a = b then rl p q else decide (a < b)
  | _, _ => false
theorem rl_cc (a b : Nat) (p q : List Nat) : rl (a :: p) (b :: q) = if a = b then rl p q else decide (a < b) := rfl
theorem rl_irr (p : List Nat) : rl p p = false := by
  induction p with
  | nil => rfl
  | cons a p ih => rw [rl_cc, if_pos rfl, ih]
theorem rl_tri : ∀ p q : List Nat, p.length = q.length → p = q ∨ rl p q = true ∨ rl q p = true := by
  intro p
  induction p with
  | nil => intro q h; cases q with
    | nil => exact .inl rfl
    | cons b q => cases h
  | cons a p ih =>
    intro q h
    cases q with
    | nil => cases h
    | cons b q =>
      by_cases e : a = b
      · subst e
        rw [rl_cc, rl_cc, if_pos rfl, if_pos rfl]
        rcases ih q (Nat.succ.inj h) with h1 | h1 | h1
        · exact .inl (by rw [h1])
        · exact .inr (.inl h1)
        · exact .inr (.inr h1)
      · rw [rl_cc, rl_cc, if_neg e, if_neg (fun h => e h.symm)]
        by_cases l : a < b
        · exact .inr (.inl (decide_eq_true l))
        · exact .inr (.inr (decide_eq_true (by omega)))
theorem rl_tr : ∀ p q r : List Nat, rl p q = true → rl q r = true → rl p r = true := by
  intro p
  induction p with
  | nil => intro q r h; cases q <;> cases h
  | cons a p ih =>
    intro q r h h'
    cases q with
    | nil => cases h
    | cons b q =>
      cases r with
      | nil => cases h'
      | cons c r =>
        rw [rl_cc] at h h' ⊢
        by_cases e : a = b
        · subst e
          rw [if_pos rfl] at h
          by_cases e2 : a = c
          · rw [if_pos e2] at h' ⊢; exact ih _ _ h h'
          · rw [if_neg e2] at h' ⊢; exact h'
        · rw [if_neg e] at h
          have l1 := of_decide_eq_true h
          by_cases e2 : b = c
          · subst e2; rw [if_neg e]; exact h
          · rw [if_neg e2] at h'
            have l2 := of_decide_eq_true h'
            rw [if_neg (by omega)]; exact decide_eq_true (by omega)
theorem rl_pre (p : List Nat) (a b : Nat) (q r : List Nat) (h : a < b) : rl (p ++ a :: q) (p ++ b :: r) = true := by
  induction p with
  | nil => show (if a = b then _ else _) = _; rw [if_neg (by omega)]; exact decide_eq_true h
  | cons c p ih => show (if c = c then _ else _) = _; rw [if_pos rfl]; exact ih
/-- a row beats another -/
def bb (P : List Nat → Int32) (a b : List Nat) : Prop := P b < P a ∨ (P b = P a ∧ rl a b = true)
theorem bb_irr (P : List Nat → Int32) (a : List Nat) : ¬ bb P a a := by
  rintro (h | ⟨-, h⟩)
  · exact Int32.lt_irrefl h
  · rw [rl_irr] at h; cases h
theorem bb_tr {P : List Nat → Int32} {a b c : List Nat} (h : bb P a b) (h' : bb P b c) : bb P a c := by
  rcases h with h | ⟨h, r⟩ <;> rcases h' with h' | ⟨h', r'⟩
  · exact .inl (Int32.lt_trans h' h)
  · exact .inl (by rw [h']; exact h)
  · exact .inl (by rw [← h]; exact h')
  · exact .inr ⟨h'.trans h, rl_tr _ _ _ r r'⟩
theorem bb_tri {P : List Nat → Int32} {a b : List Nat} (h : a.length = b.length) : a = b ∨ bb P a b ∨ bb P b a := by
  rcases rl_tri a b h with h | h | h
  · exact .inl h
  · by_cases e : P a = P b
    · exact .inr (.inl (.inr ⟨e.symm, h⟩))
    · by_cases l : P a < P b
      · exact .inr (.inr (.inl l))
      · exact .inr (.inl (.inl (Int32.lt_of_le_of_ne (Int32.not_lt.mp l) (fun x => e x.symm))))
  · by_cases e : P a = P b
    · exact .inr (.inr (.inr ⟨e, h⟩))
    · by_cases l : P a < P b
      · exact .inr (.inr (.inl l))
      · exact .inr (.inl (.inl (Int32.lt_of_le_of_ne (Int32.not_lt.mp l) (fun x => e x.symm))))
def bst (P : List Nat → Int32) (s : Option (List Nat)) (l : List Nat) : Option (List Nat) := match s with
  | none => some l
  | some b => if P b < P l ∨ (P b = P l ∧ rl l b = true) then some l else some b
def bsx (P : List Nat → Int32) (s : Option (List Nat)) (l : List Nat) : Option (List Nat) := match s with
  | none => some l
  | some b => if P b < P l then some l else some b
/-- the best of what has been seen -/
def top (P : List Nat → Int32) (L : List (List Nat)) (s : Option (List Nat)) : Prop := (∀ b, s = some b → b ∈ L ∧ ∀ x, x ∈ L → ¬ bb P x b) ∧ (s = none → L = [])
theorem top_m {P : List Nat → Int32} : ∀ L s pre, top P pre s → top P (pre ++ L) (L.foldl (bst P) s) := by
  intro L
  induction L with
  | nil => intro s pre h; rw [List.append_nil]; exact h
  | cons l L ih =>
    intro s pre h
    have e : pre ++ l :: L = (pre ++ [l]) ++ L := by simp
    rw [e, List.foldl_cons]
    apply ih
    cases s with
    | none =>
      have := h.2 rfl
      subst this
      refine ⟨fun b hb => ?_, fun hb => by cases hb⟩
      cases hb
      exact ⟨by simp, fun x hx => by simp at hx; subst hx; exact bb_irr _ _⟩
    | some b =>
      obtain ⟨h1, h2⟩ := h.1 b rfl
      have e2 : bst P (some b) l = if P b < P l ∨ (P b = P l ∧ rl l b = true) then some l else some b := rfl
      rw [e2]
      by_cases c : P b < P l ∨ (P b = P l ∧ rl l b = true)
      · rw [if_pos c]
        refine ⟨fun b' hb => ?_, fun hb => by cases hb⟩
        cases hb
        refine ⟨by simp, fun x hx hbb => ?_⟩
        rcases List.mem_append.mp hx with hx | hx
        · exact h2 x hx (bb_tr hbb c)
        · simp at hx; subst hx; exact bb_irr _ _ hbb
      · rw [if_neg c]
        refine ⟨fun b' hb => ?_, fun hb => by cases hb⟩
        cases hb
        refine ⟨by simp [h1], fun x hx hbb => ?_⟩
        rcases List.mem_append.mp hx with hx | hx
        · exact h2 x hx hbb
        · simp at hx; subst hx; exact c hbb
theorem top_x {P : List Nat → Int32} : ∀ L s pre, (pre ++ L).Pairwise (fun a b => rl a b = true) → top P pre s → top P (pre ++ L) (L.foldl (bsx P) s) := by
  intro L
  induction L with
  | nil => intro s pre _ h; rw [List.append_nil]; exact h
  | cons l L ih =>
    intro s pre hp h
    have e : pre ++ l :: L = (pre ++ [l]) ++ L := by simp
    have hp' := hp
    rw [e] at hp' ⊢
    rw [List.foldl_cons]
    apply ih _ _ hp'
    cases s with
    | none =>
      have := h.2 rfl
      subst this
      refine ⟨fun b hb => ?_, fun hb => by cases hb⟩
      cases hb
      exact ⟨by simp, fun x hx => by simp at hx; subst hx; exact bb_irr _ _⟩
    | some b =>
      obtain ⟨h1, h2⟩ := h.1 b rfl
      have hbl : rl b l = true := (List.pairwise_append.mp hp).2.2 b h1 l (by simp)
      have e2 : bsx P (some b) l = if P b < P l then some l else some b := rfl
      rw [e2]
      by_cases c : P b < P l
      · rw [if_pos c]
        refine ⟨fun b' hb => ?_, fun hb => by cases hb⟩
        cases hb
        refine ⟨by simp, fun x hx hbb => ?_⟩
        rcases List.mem_append.mp hx with hx | hx
        · exact h2 x hx (bb_tr hbb (.inl c))
        · simp at hx; subst hx; exact bb_irr _ _ hbb
      · rw [if_neg c]
        refine ⟨fun b' hb => ?_, fun hb => by cases hb⟩
        cases hb
        refine ⟨by simp [h1], fun x hx hbb => ?_⟩
        rcases List.mem_append.mp hx with hx | hx
        · exact h2 x hx hbb
        · simp at hx; subst hx
          rcases hbb with hbb | ⟨-, hbb⟩
          · exact c hbb
          · have := rl_tr _ _ _ hbb hbl; rw [rl_irr] at this; cases this
theorem top_eq {P : List Nat → Int32} {t : Nat} {X M : List (List Nat)} (hX : X.Pairwise (fun a b => rl a b = true)) (hp : X.Perm M) (hl : ∀ l, l ∈ X → l.length = t) : X.foldl (bsx P) none = M.foldl (bst P) none := by
  have t0 : top P [] none := ⟨fun b h => by (cases h), fun _ => rfl⟩
  have a1 := top_x X none [] hX t0
  have a2 := top_m (P := P) M none [] t0
  rw [List.nil_append] at a1 a2
  cases h1 : X.foldl (bsx P) none with
  | none =>
    have e := a1.2 h1
    subst e
    have := hp.nil_eq
    subst this; rfl
  | some b =>
    obtain ⟨b1, b2⟩ := a1.1 b h1
    cases h2 : M.foldl (bst P) none with
    | none =>
      have e := a2.2 h2
      rw [hp.mem_iff, e] at b1; cases b1
    | some b' =>
      obtain ⟨c1, c2⟩ := a2.1 b' h2
      have l1 := hl b b1
      have l2 := hl b' (hp.mem_iff.mpr c1)
      rcases bb_tri (P := P) (l1.trans l2.symm) with e | e | e
      · rw [e]
      · exact absurd e (c2 b (hp.mem_iff.mp b1))
      · exact absurd e (b2 b' (hp.mem_iff.mpr c1))
/-- every way to share out -/
def en (sl : Nat → Nat) (o : List Nat) : Nat → List Nat → Int32 → List (List Nat)
  | 0, p, _ => [p]
  | d + 1, p, u => o.flatMap fun i => if bt u i = 1 then [] else en sl o d (p ++ [sl i]) (u ||| ((1 : Int32) <<< (nI i &&& 31)))
theorem en_mem {sl : Nat → Nat} {o : List Nat} : ∀ d p u l, l ∈ en sl o d p u → ∃ q, l = p ++ q ∧ q.length = d := by
  intro d
  induction d with
  | zero => intro p u l h; unfold en at h; simp at h; exact ⟨[], by simp [h], rfl⟩
  | succ d ih =>
    intro p u l h
    unfold en at h
    obtain ⟨i, -, h⟩ := List.mem_flatMap.mp h
    by_cases c : bt u i = 1
    · rw [if_pos c] at h; cases h
    · rw [if_neg c] at h
      obtain ⟨q, e, hq⟩ := ih _ _ _ h
      exact ⟨sl i :: q, by rw [e]; simp, by simp [hq]⟩
theorem fm_congr {α β : Type} {f g : α → List β} (h : ∀ a, (f a).Perm (g a)) : ∀ l : List α, (l.flatMap f).Perm (l.flatMap g) := by
  intro l
  induction l with
  | nil => exact List.Perm.refl _
  | cons a l ih => rw [List.flatMap_cons, List.flatMap_cons]; exact (h a).append ih
theorem en_perm {sl : Nat → Nat} {o o' : List Nat} (h : o.Perm o') : ∀ d p u, (en sl o d p u).Perm (en sl o' d p u) := by
  intro d
  induction d with
  | zero => intro p u; exact List.Perm.refl _
  | succ d ih =>
    intro p u
    unfold en
    refine (List.Perm.flatMap_right _ h).trans (fm_congr (fun i => ?_) o')
    by_cases c : bt u i = 1
    · rw [if_pos c, if_pos c]
    · rw [if_neg c, if_neg c]; exact ih _ _
theorem en_sort {sl : Nat → Nat} {o : List Nat} (h : o.Pairwise (fun i j => sl i < sl j)) : ∀ d p u, (en sl o d p u).Pairwise (fun a b => rl a b = true) := by
  intro d
  induction d with
  | zero => intro p u; unfold en; simp
  | succ d ih =>
    intro p u
    unfold en
    rw [List.pairwise_flatMap]
    refine ⟨fun i _ => ?_, h.imp (fun {i j} hij x hx y hy => ?_)⟩
    · by_cases c : bt u i = 1
      · rw [if_pos c]; exact List.Pairwise.nil
      · rw [if_neg c]; exact ih _ _
    · by_cases c : bt u i = 1
      · rw [if_pos c] at hx; cases hx
      · by_cases c' : bt u j = 1
        · rw [if_pos c'] at hy; cases hy
        · rw [if_neg c] at hx; rw [if_neg c'] at hy
          obtain ⟨q, e, -⟩ := en_mem _ _ _ _ hx
          obtain ⟨r, e', -⟩ := en_mem _ _ _ _ hy
          rw [e, e', List.append_assoc, List.append_assoc]
          exact rl_pre _ _ _ _ _ hij
/-- the order by shells -/
def oX (sl : Nat → Nat) (nS t : Nat) : List Nat := (List.range nS).flatMap fun s => (List.range t).flatMap fun i => if sl i = s then [i] else []
theorem oX_mem {sl : Nat → Nat} {nS t i : Nat} (h : ∀ i, i < t → sl i < nS) : i ∈ oX sl nS t ↔ i < t := by
  unfold oX
  rw [List.mem_flatMap]
  constructor
  · rintro ⟨s, -, hs⟩
    obtain ⟨j, hj, hx⟩ := List.mem_flatMap.mp hs
    by_cases c : sl j = s
    · rw [if_pos c] at hx; simp at hx; subst hx; exact List.mem_range.mp hj
    · rw [if_neg c] at hx; cases hx
  · intro hi
    exact ⟨sl i, List.mem_range.mpr (h i hi), List.mem_flatMap.mpr ⟨i, List.mem_range.mpr hi, by rw [if_pos rfl]; simp⟩⟩
theorem oX_sort {sl : Nat → Nat} {nS t : Nat} (hi : ∀ i j, i < t → j < t → sl i = sl j → i = j) : (oX sl nS t).Pairwise (fun i j => sl i < sl j) := by
  unfold oX
  rw [List.pairwise_flatMap]
  constructor
  · intro s _
    rw [List.pairwise_flatMap]
    refine ⟨fun i _ => by split <;> simp, ?_⟩
    have := List.pairwise_lt_range (n := t)
    refine this.imp_of_mem (fun {i j} mi mj hij x hx y hy => ?_)
    by_cases c : sl i = s
    · by_cases c' : sl j = s
      · have := hi i j (List.mem_range.mp mi) (List.mem_range.mp mj) (c.trans c'.symm); omega
      · rw [if_neg c'] at hy; cases hy
    · rw [if_neg c] at hx; cases hx
  · have := List.pairwise_lt_range (n := nS)
    refine this.imp (fun {s s'} hs x hx y hy => ?_)
    obtain ⟨i, -, hx⟩ := List.mem_flatMap.mp hx
    obtain ⟨j, -, hy⟩ := List.mem_flatMap.mp hy
    by_cases c : sl i = s
    · by_cases c' : sl j = s'
      · rw [if_pos c] at hx; rw [if_pos c'] at hy; simp at hx hy; subst hx hy; omega
      · rw [if_neg c'] at hy; cases hy
    · rw [if_neg c] at hx; cases hx
theorem oX_perm {sl : Nat → Nat} {nS t : Nat} (h : ∀ i, i < t → sl i < nS) (hi : ∀ i j, i < t → j < t → sl i = sl j → i = j) : (oX sl nS t).Perm (List.range t) := by
  refine (List.perm_ext_iff_of_nodup ?_ List.nodup_range).mpr (fun a => by rw [oX_mem h, List.mem_range])
  exact (oX_sort hi).imp (fun {a b} hab e => by subst e; omega)
/-- whether a sharing is calm, its points -/
def bd (f : Nat → Nat → Int32) (g : Nat → Nat) (a b : Nat) : Prop := ¬ f (g b) a ≤ f (g a) a ∧ ¬ f (g a) b ≤ f (g b) b
def cm2 (f : Nat → Nat → Int32) (g : Nat → Nat) (a : Nat) : Nat → Nat → Bool
  | 0, _ => true
  | n + 1, y => if f (g y) a ≤ f (g a) a then cm2 f g a n (y + 1) else if f (g a) y ≤ f (g y) y then cm2 f g a n (y + 1) else false
def cm1 (f : Nat → Nat → Int32) (g : Nat → Nat) : Nat → Nat → Bool
  | 0, _ => true
  | n + 1, a => cm2 f g a a 0 && cm1 f g n (a + 1)
def pt (f : Nat → Nat → Int32) (g : Nat → Nat) : Nat → Nat → Int32 → Int32
  | 0, _, c => c
  | n + 1, a, c => pt f g n (a + 1) (c + f (g a) a)
theorem pt_s (f : Nat → Nat → Int32) (g : Nat → Nat) : ∀ n a c, pt f g (n + 1) a c = pt f g n a c + f (g (a + n)) (a + n) := by
  intro n
  induction n with
  | zero => intro a c; rfl
  | succ n ih => intro a c; show pt f g (n + 1) (a + 1) (c + f (g a) a) = _; rw [ih]; show _ = pt f g n (a + 1) (c + f (g a) a) + _; rw [show a + 1 + n = a + (n + 1) by omega]
theorem pt_c (f : Nat → Nat → Int32) (g g' : Nat → Nat) : ∀ n a c, (∀ j, a ≤ j → j < a + n → g j = g' j) → pt f g n a c = pt f g' n a c := by
  intro n
  induction n with
  | zero => intro a c _; rfl
  | succ n ih => intro a c h; show pt f g n (a + 1) (c + f (g a) a) = pt f g' n (a + 1) (c + f (g' a) a); rw [h a (by omega) (by omega)]; exact ih _ _ (fun j h1 h2 => h j (by omega) (by omega))
def PT (f : Nat → Nat → Int32) (p : List Nat) : Int32 := pt f (fun j => p.getD j 0) p.length 0 0
def CM (f : Nat → Nat → Int32) (p : List Nat) : Bool := cm1 f (fun j => p.getD j 0) p.length 0
theorem PT_s (f : Nat → Nat → Int32) (p : List Nat) (i : Nat) : PT f (p ++ [i]) = PT f p + f i p.length := by
  unfold PT
  rw [List.length_append, List.length_singleton, pt_s, Nat.zero_add]
  have e : (p ++ [i]).getD p.length 0 = i := by simp [List.getD_eq_getElem?_getD]
  simp only [e]
  rw [pt_c f (fun j => (p ++ [i]).getD j 0) (fun j => p.getD j 0) p.length 0 0 (fun j _ h => by simp only [List.getD_eq_getElem?_getD]; rw [List.getElem?_append_left (by omega)])]
end
section
/-! STAGE 2: sharing out, the class's side -/
def tE2 (bx k a : Nat) : Bool := (k == 36 && a == bx + 15) || (k == 37 && (a == bx + 16 || a == bx + 17))
def ff (σ : gm_S) (tl : Nat → Nat) (i j : Nat) : Int32 := fs σ i (ga σ 1 (130 + tl j))
/-- who is told: t crabs, all housed -/
def ST (nS nC : Nat) (σ : gm_S) (t : Nat) (tl sl : Nat → Nat) : Prop := t ≤ 6 ∧ (∀ j, j < t → tl j < nC) ∧ (∀ j, j < t → sl j < nS) ∧ (∀ j, j < t → ga σ 1 (178 + tl j) = nI (sl j)) ∧ (∀ i j, i < t → j < t → sl i = sl j → i = j)
def mx (f : Nat → Nat → Int32) (s : Option (List Nat)) : Int32 := match s with
  | none => -2147483648
  | some b => PT f b
/-- under way -/
def XS (bx : Nat) (sh cr hb : Nat → Nat) (nS nC nH : Nat) (C0 : xk_C) (σ : gm_S) (t : Nat) (tl : Nat → Nat) (s : Option (List Nat)) (k : Nat) (C : xk_C) : Prop :=
  cR bx sh cr hb nS nC nH C σ ∧ (Fr [20, 21, 22] [] (tE2 bx) C0 C ∧ xk_n C = xk_n C0 ∧ xk_s C = xk_s C0) ∧ xk_i C 20 bx = nI t ∧ (∀ j, j < t → xk_q C (bx + 15) j = some (cr (tl j))) ∧ xk_i C 21 bx = mx (ff σ tl) s ∧ xk_i C 22 bx = nI k ∧ (∀ b, s = some b → b.length = t ∧ ∀ j, j < t → xk_q C (bx + 17) j = some (sh (b.getD j 0)) ∧ b.getD j 0 < nS)
def RW (bx : Nat) (sh : Nat → Nat) (nS : Nat) (p : List Nat) (C : xk_C) : Prop := ∀ j, j < p.length → xk_q C (bx + 16) j = some (sh (p.getD j 0)) ∧ p.getD j 0 < nS
section
variable {bx : Nat} {sh cr hb : Nat → Nat} {nS nC nH : Nat} {C0 C : xk_C} {σ : gm_S} {t k : Nat} {tl sl : Nat → Nat} {s : Option (List Nat)} {p : List Nat}
theorem cR.r17 (h : cR bx sh cr hb nS nC nH C σ) : xk_gr C 17 (some bx) = some (some (bx + 15)) := by rw [g_r h.kB rfl, h.1.1.2.1.2.2.2.2.2.2.2.2.2.1]
theorem cR.r18 (h : cR bx sh cr hb nS nC nH C σ) : xk_gr C 18 (some bx) = some (some (bx + 16)) := by rw [g_r h.kB rfl, h.1.1.2.1.2.2.2.2.2.2.2.2.2.2.1]
theorem cR.r19 (h : cR bx sh cr hb nS nC nH C σ) : xk_gr C 19 (some bx) = some (some (bx + 17)) := by rw [g_r h.kB rfl, h.1.1.2.1.2.2.2.2.2.2.2.2.2.2.2.1]
theorem cR.k15 (h : cR bx sh cr hb nS nC nH C σ) : xk_k C (bx + 15) = 36 := h.1.1.2.2.1.2.2.2.2.2.2.2.2.2.1
theorem cR.k16 (h : cR bx sh cr hb nS nC nH C σ) : xk_k C (bx + 16) = 37 := h.1.1.2.2.1.2.2.2.2.2.2.2.2.2.2.1
theorem cR.k17 (h : cR bx sh cr hb nS nC nH C σ) : xk_k C (bx + 17) = 37 := h.1.1.2.2.1.2.2.2.2.2.2.2.2.2.2.2.1
theorem cR.l15 (h : cR bx sh cr hb nS nC nH C σ) : xk_l C (bx + 15) = 6 := h.1.1.2.2.2.2.2.2.2.1
theorem cR.l16 (h : cR bx sh cr hb nS nC nH C σ) : xk_l C (bx + 16) = 6 := h.1.1.2.2.2.2.2.2.2.2.1
theorem cR.l17 (h : cR bx sh cr hb nS nC nH C σ) : xk_l C (bx + 17) = 6 := h.1.1.2.2.2.2.2.2.2.2.2
theorem XS.told (H : XS bx sh cr hb nS nC nH C0 σ t tl s k C) (ht : t ≤ 6) {j : Nat} (hj : j < t) : xk_lq C 6 (some (bx + 15)) (nI j) = some (some (cr (tl j))) := by
  rw [g_lq H.1.k15 (by rw [H.1.l15]; omega) (by omega), H.2.2.2.1 j hj]
theorem RW.get (R : RW bx sh nS p C) (h : cR bx sh cr hb nS nC nH C σ) (ht : p.length ≤ 6) {j : Nat} (hj : j < p.length) : xk_lq C 7 (some (bx + 16)) (nI j) = some (some (sh (p.getD j 0))) := by
  rw [g_lq h.k16 (by rw [h.l16]; omega) (by omega), (R j hj).1]
theorem both_l (h : cR bx sh cr hb nS nC nH C σ) {a b i j : Nat} (ha : a < nC) (hb : b < nC) (hi : i < nS) (hj : j < nS) : fX0_wouldBoth C (some (cr a)) (some (sh i)) (some (cr b)) (some (sh j)) = some (if fs σ j (ga σ 1 (130 + a)) ≤ fs σ i (ga σ 1 (130 + a)) then 0 else if fs σ i (ga σ 1 (130 + b)) ≤ fs σ j (ga σ 1 (130 + b)) then 0 else 1) := by
  unfold fX0_wouldBoth
  have Ki := h.1.2.2.2.1.1 i hi
  have Kj := h.1.2.2.2.1.1 j hj
  rw [x47 h ha, ev_b, g_is Kj, ev_b, fs_x h hj, ev_b, ev_b, g_is Ki, ev_b, fs_x h hi, ev_b, x47 h hb, ev_b, ev_b, fs_x h hi, ev_b, ev_b, ev_b, fs_x h hj, ev_b]
  split
  · rfl
  · split <;> rfl
theorem calm_in {N : Nat} (H : XS bx sh cr hb nS nC nH C0 σ t tl s k C) (S : ST nS nC σ t tl sl) (R : RW bx sh nS p C) (hp : p.length = t) {a : Nat} (ha : a < t) (K : Int32 → Option Int32) : ∀ n y q, y + n = a → n < q → fX0_isCalm_L12 N bx C K q (nI a) (nI y) = if cm2 (ff σ tl) (fun j => p.getD j 0) a n y = true then K (nI (a + 1)) else some 0 := by
  intro n
  have ht := S.1
  induction n with
  | zero =>
    intro y q hy hq
    obtain ⟨q, rfl⟩ : ∃ j, q = j + 1 := ⟨q - 1, by omega⟩
    have : y = a := by omega
    subst this
    unfold fX0_isCalm_L12 cm2
    rw [if_pos ((s_le _ _ (by omega) (by omega)).mpr (Nat.le_refl _)), if_pos rfl, s_a1]
  | succ n ih =>
    intro y q hy hq
    obtain ⟨q, rfl⟩ : ∃ j, q = j + 1 := ⟨q - 1, by omega⟩
    unfold fX0_isCalm_L12 cm2
    rw [if_neg (fun h => by rw [s_le _ _ (by omega) (by omega)] at h; omega), H.1.r17, ev_b, H.told ht ha, ev_b, H.1.r18, ev_b, R.get H.1 (by omega) (by omega), ev_b, ev_b, H.told ht (by omega), ev_b, ev_b, R.get H.1 (by omega) (by omega), ev_b, both_l H.1 (S.2.1 a ha) (S.2.1 y (by omega)) (R a (by omega)).2 (R y (by omega)).2, ev_b, s_a1]
    unfold ff
    have IH := ih (y + 1) q (by omega) (by omega)
    by_cases c : fs σ (p.getD y 0) (ga σ 1 (130 + tl a)) ≤ fs σ (p.getD a 0) (ga σ 1 (130 + tl a))
    · simp only [if_pos c, if_true]; exact IH
    · simp only [if_neg c]
      by_cases c' : fs σ (p.getD a 0) (ga σ 1 (130 + tl y)) ≤ fs σ (p.getD y 0) (ga σ 1 (130 + tl y))
      · simp only [if_pos c', if_true]; exact IH
      · simp only [if_neg c']; rfl
theorem calm_out {N : Nat} (hN : 10 ≤ N) (H : XS bx sh cr hb nS nC nH C0 σ t tl s k C) (S : ST nS nC σ t tl sl) (R : RW bx sh nS p C) (hp : p.length = t) : ∀ n a q, a + n = t → n < q → fX0_isCalm_L2 N bx C q (nI a) = some (if cm1 (ff σ tl) (fun j => p.getD j 0) n a = true then 1 else 0) := by
  intro n
  have ht := S.1
  induction n with
  | zero =>
    intro a q hy hq
    obtain ⟨q, rfl⟩ : ∃ j, q = j + 1 := ⟨q - 1, by omega⟩
    have : a = t := by omega
    subst this
    unfold fX0_isCalm_L2 cm1
    rw [g_i H.1.kB rfl, ev_b, H.2.2.1, if_pos ((s_le _ _ (by omega) (by omega)).mpr (Nat.le_refl _)), if_pos rfl]
  | succ n ih =>
    intro a q hy hq
    obtain ⟨q, rfl⟩ : ∃ j, q = j + 1 := ⟨q - 1, by omega⟩
    unfold fX0_isCalm_L2 cm1
    rw [g_i H.1.kB rfl, ev_b, H.2.2.1, if_neg (fun h => by rw [s_le _ _ (by omega) (by omega)] at h; omega), s_n0, calm_in H S R hp (by omega) _ a 0 N (by omega) (by omega)]
    have IH := ih (a + 1) q (by omega) (by omega)
    by_cases c : cm2 (ff σ tl) (fun j => p.getD j 0) a a 0 = true
    · rw [if_pos c, IH, c, Bool.true_and]; rfl
    · rw [if_neg c, show cm2 (ff σ tl) (fun j => p.getD j 0) a a 0 = false from (Bool.not_eq_true _).mp c, Bool.false_and]; rfl
theorem calm_l {N : Nat} (hN : 10 ≤ N) (H : XS bx sh cr hb nS nC nH C0 σ t tl s k C) (S : ST nS nC σ t tl sl) (R : RW bx sh nS p C) (hp : p.length = t) : fX0_isCalm N bx C = some (if CM (ff σ tl) p = true then 1 else 0) := by
  unfold fX0_isCalm CM
  rw [s_n0, calm_out hN H S R hp t 0 N (by omega) (by have := S.1; omega), hp]; rfl
/-- points stay small -/
theorem pt_b (hI : Iv nS nC nH (ga σ 1)) (S : ST nS nC σ t tl sl) (g : Nat → Nat) : ∀ n, n ≤ t → (∀ j, j < n → g j < nS) → ∃ e, e ≤ 170 * n ∧ 30 * n ≤ e ∧ pt (ff σ tl) g n 0 0 = nI e - nI (140 * n) := by
  intro n
  induction n with
  | zero => intro _ _; exact ⟨0, by omega, by omega, rfl⟩
  | succ n ih =>
    intro hn hg
    obtain ⟨e, h1, h2, h3⟩ := ih (by omega) (fun j hj => hg j (by omega))
    rw [pt_s, h3, Nat.zero_add]
    obtain ⟨a, b, c⟩ := hI.2.1 (g n) (hg n (by omega))
    obtain ⟨e', e1, e2, e3⟩ := fi_b a b c (hI.2.2.1 (tl n) (S.2.1 n (by omega))).1
    unfold ff fs
    rw [e3]
    refine ⟨e + e', by omega, by omega, ?_⟩
    rw [show 140 * (n + 1) = 140 * n + 140 by omega, ← s_add, ← s_add]
    simp only [Int32.sub_eq_add_neg, Int32.neg_add]
    ac_rfl
theorem pt_min (hI : Iv nS nC nH (ga σ 1)) (S : ST nS nC σ t tl sl) (hp : p.length = t) (hg : ∀ j, j < p.length → p.getD j 0 < nS) : (-2147483648 : Int32) < PT (ff σ tl) p := by
  obtain ⟨e, h1, h2, h3⟩ := pt_b hI S (fun j => p.getD j 0) p.length (by omega) hg
  unfold PT
  rw [h3]
  have ht := S.1
  rw [Int32.lt_iff_toInt_lt]
  have a1 : (nI e - nI (140 * p.length)).toInt = (e : Int) - (140 * p.length : Nat) := by
    rw [Int32.toInt_sub, s_ti _ (by omega), s_ti _ (by omega)]
    rw [Int.bmod_eq_of_le (by omega) (by omega)]
  have a2 : (-2147483648 : Int32).toInt = -2147483648 := by decide
  omega
end
end
section
/-! STAGE 2: sharing out, the class's side: the leaf and the loops -/
theorem q_sQ (C : xk_C) (a : Nat) (g : Nat → Option Nat) (b j : Nat) : xk_q (xk_sQ C a g) b j = if b = a then g j else xk_q C b j := rfl
section
variable {bx : Nat} {sh cr hb : Nat → Nat} {nS nC nH : Nat} {C0 C C' : xk_C} {σ : gm_S} {t k : Nat} {tl sl : Nat → Nat} {s : Option (List Nat)} {p : List Nat}
theorem cR.t2 (h : cR bx sh cr hb nS nC nH C σ) (F : Fr [20, 21, 22] [] (tE2 bx) C C') : cR bx sh cr hb nS nC nH C' σ := h.fr F (fun _ => rfl) (by decide) (by decide) (fun _ _ => rfl) rfl
theorem p_cpq7 (h : cR bx sh cr hb nS nC nH C σ) (ht : t ≤ 6) (hq : ∀ j, j < t → ∃ i, i < nS ∧ xk_q C (bx + 16) j = some (sh i)) : xk_cpq C 7 (some (bx + 16)) 0 (some (bx + 17)) 0 (nI t) = some (xk_sQ C (bx + 17) (va_cpy (xk_q C (bx + 16)) (xk_q C (bx + 17)) 0 0 t)) := by
  unfold xk_cpq xk_cpr
  have e0 : (0 : Int32).toNatClampNeg = 0 := rfl
  have et := s_tn t (by omega)
  have l16 := h.l16
  have l17 := h.l17
  simp only [e0, et]
  rw [if_pos ⟨⟨h.k16, h.k17, by decide, by decide⟩, s_nn t (by omega), by omega, by omega⟩]
  simp only
  rw [if_pos]
  refine ⟨⟨by omega, by omega⟩, ?_⟩
  rw [List.all_eq_true]
  intro j hj
  obtain ⟨i, hi, e⟩ := hq j (List.mem_range.mp hj)
  rw [Nat.zero_add, e]
  show xk_hold 7 (xk_k C (sh i)) = true
  rw [h.1.2.2.2.1.1 i hi]; rfl
theorem go_leaf {N : Nat} (hN : 10 ≤ N) (F : xk_C → Nat → Int32 → Int32 → Int32 → Option (xk_C × Unit)) (H : XS bx sh cr hb nS nC nH C0 σ t tl s k C) (S : ST nS nC σ t tl sl) (R : RW bx sh nS p C) (hp : p.length = t) (u : Int32) : ∃ C', fX0_goThroughB F N bx C (nI t) u (PT (ff σ tl) p) = some (C', ()) ∧ XS bx sh cr hb nS nC nH C0 σ t tl (bsx (PT (ff σ tl)) s p) (k + if CM (ff σ tl) p = true then 1 else 0) C' ∧ RW bx sh nS p C' := by
  have ht := S.1
  have kB := H.1.kB
  have nb := H.1.1.1.1.2.1
  have hm := pt_min H.1.2.2 S hp (fun j hj => (R j hj).2)
  obtain ⟨h, ⟨F0, n0, s0⟩, i20, q15, i21, i22, b17⟩ := id H
  have hc : fX0_goThroughB F N bx C (nI t) u (PT (ff σ tl) p) = fX0_goThrough_B25 F N bx C (nI t) (PT (ff σ tl) p) (if CM (ff σ tl) p = true then 1 else 0) (nI k) := by
    unfold fX0_goThroughB
    rw [g_i kB rfl, ev_b, i20, if_pos rfl, g_i kB rfl, ev_b, i22, g_is kB, ev_b, calm_l hN H S R hp, ev_b]
    by_cases c : CM (ff σ tl) p = true
    · simp only [if_pos c]; rw [if_neg (by decide)]
    · simp only [if_neg c, if_true]
  rw [hc]
  have e22 : nI k + (if CM (ff σ tl) p = true then 1 else 0) = nI (k + if CM (ff σ tl) p = true then 1 else 0) := by
    split
    · exact s_a1 k
    · exact Int32.add_zero _
  unfold fX0_goThrough_B25
  rw [p_i kB rfl, ev_b, e22]
  generalize (k + if CM (ff σ tl) p = true then 1 else 0) = k'
  have F1 : Fr [20, 21, 22] [] (tE2 bx) C (xk_si C 22 bx (nI k')) := Fr.refl.si _ _ _ (.inl (by decide))
  have g21 : xk_gi (xk_si C 22 bx (nI k')) 21 (some bx) = some (mx (ff σ tl) s) := by
    rw [g_i (C := xk_si C 22 bx (nI k')) kB rfl, wi1 (f' := 22) rfl (by decide), i21]
  rw [g21, ev_b]
  by_cases c : mx (ff σ tl) s < PT (ff σ tl) p
  · rw [if_pos c, p_i (C := xk_si C 22 bx (nI k')) kB rfl, ev_b]
    have F2 : Fr [20, 21, 22] [] (tE2 bx) C (xk_si (xk_si C 22 bx (nI k')) 21 bx (PT (ff σ tl) p)) := F1.si _ _ _ (.inl (by decide))
    have h2 := h.t2 F2
    have i22' : xk_i (xk_si (xk_si C 22 bx (nI k')) 21 bx (PT (ff σ tl) p)) 22 bx = nI k' := by rw [wi1 (f' := 21) rfl (by decide), i_si, if_pos ⟨rfl, rfl⟩]
    have i21' : xk_i (xk_si (xk_si C 22 bx (nI k')) 21 bx (PT (ff σ tl) p)) 21 bx = PT (ff σ tl) p := by rw [i_si, if_pos ⟨rfl, rfl⟩]
    have i20' : xk_i (xk_si (xk_si C 22 bx (nI k')) 21 bx (PT (ff σ tl) p)) 20 bx = nI t := by rw [wi1 (f' := 21) rfl (by decide), wi1 (f' := 22) rfl (by decide), i20]
    have qq : ∀ a j, xk_q (xk_si (xk_si C 22 bx (nI k')) 21 bx (PT (ff σ tl) p)) a j = xk_q C a j := fun _ _ => rfl
    have nn : xk_n (xk_si (xk_si C 22 bx (nI k')) 21 bx (PT (ff σ tl) p)) = xk_n C := rfl
    have ss : xk_s (xk_si (xk_si C 22 bx (nI k')) 21 bx (PT (ff σ tl) p)) = xk_s C := rfl
    generalize xk_si (xk_si C 22 bx (nI k')) 21 bx (PT (ff σ tl) p) = C2 at *
    rw [h2.r18, ev_b, h2.r19, ev_b, p_cpq7 h2 ht (fun j hj => ⟨p.getD j 0, (R j (by omega)).2, by rw [qq]; exact (R j (by omega)).1⟩), ev_b]
    have F3 : Fr [20, 21, 22] [] (tE2 bx) C (xk_sQ C2 (bx + 17) (va_cpy (xk_q C2 (bx + 16)) (xk_q C2 (bx + 17)) 0 0 t)) := F2.sQ _ _ (.inl (by rw [h.k17]; unfold tE2; simp))
    have sq : ∀ a, a ≠ bx + 17 → ∀ j, xk_q (xk_sQ C2 (bx + 17) (va_cpy (xk_q C2 (bx + 16)) (xk_q C2 (bx + 17)) 0 0 t)) a j = xk_q C a j := fun a ha j => by rw [q_sQ, if_neg ha, qq]
    have sb : bsx (PT (ff σ tl)) s p = some p := by
      cases s with
      | none => rfl
      | some b => exact if_pos c
    refine ⟨_, rfl, ⟨h.t2 F3, ⟨F0.trans F3, nn.trans n0, ss.trans s0⟩, i20', fun j hj => by rw [sq _ (by omega)]; exact q15 j hj, ?_, i22', fun b hb => ?_⟩, fun j hj => ⟨by rw [sq _ (by omega)]; exact (R j hj).1, (R j hj).2⟩⟩
    · rw [sb]; exact i21'
    · rw [sb] at hb; cases hb
      refine ⟨hp, fun j hj => ⟨?_, (R j (by omega)).2⟩⟩
      rw [q_sQ, if_pos rfl]
      unfold va_cpy
      rw [if_pos (by omega), show 0 + (j - 0) = j by omega, qq]; exact (R j (by omega)).1
  · rw [if_neg c]
    have sb : bsx (PT (ff σ tl)) s p = s := by
      cases s with
      | none => exact absurd hm c
      | some b => exact if_neg c
    rw [sb]
    exact ⟨_, rfl, ⟨h.t2 F1, ⟨F0.trans F1, n0, s0⟩, by rw [wi1 (f' := 22) rfl (by decide)]; exact i20, q15, by rw [wi1 (f' := 22) rfl (by decide)]; exact i21, by rw [i_si, if_pos ⟨rfl, rfl⟩], b17⟩, R⟩
end
end
section
/-! STAGE 2: sharing out, the class's side: the search -/
/-- a piece of the search: what it makes of the leaves L -/
def GO (bx : Nat) (sh cr hb : Nat → Nat) (nS nC nH : Nat) (C0 : xk_C) (σ : gm_S) (t : Nat) (tl : Nat → Nat) (p : List Nat) (s : Option (List Nat)) (k : Nat) (L : List (List Nat)) (C' : xk_C) : Prop :=
  XS bx sh cr hb nS nC nH C0 σ t tl (L.foldl (bsx (PT (ff σ tl))) s) (k + L.countP (CM (ff σ tl))) C' ∧ RW bx sh nS p C'
section
variable {bx : Nat} {sh cr hb : Nat → Nat} {nS nC nH : Nat} {C0 C C' : xk_C} {σ : gm_S} {t k : Nat} {tl sl : Nat → Nat} {s : Option (List Nat)} {p : List Nat}
theorem GO.cat {C'' : xk_C} {L L' : List (List Nat)} (h : GO bx sh cr hb nS nC nH C0 σ t tl p (L.foldl (bsx (PT (ff σ tl))) s) (k + L.countP (CM (ff σ tl))) L' C'') : GO bx sh cr hb nS nC nH C0 σ t tl p s k (L ++ L') C'' := by
  unfold GO at h ⊢
  rw [List.foldl_append, List.countP_append, ← Nat.add_assoc]
  exact h
/-- one choice -/
theorem go_one {N d : Nat} (F : xk_C → Nat → Int32 → Int32 → Int32 → Option (xk_C × Unit)) (S : ST nS nC σ t tl sl) (o : List Nat)
    (hF : ∀ (u : Int32) p' C s k, p'.length = p.length + 1 → XS bx sh cr hb nS nC nH C0 σ t tl s k C → RW bx sh nS p' C → ∃ C', F C bx (nI p'.length) u (PT (ff σ tl) p') = some (C', ()) ∧ GO bx sh cr hb nS nC nH C0 σ t tl p' s k (en sl o d p' u) C')
    (hp : p.length < t) (u : Int32) (c : Nat) (hc : c < nS) (K61 : xk_C → Int32 → Int32 → Int32 → Int32 → Option (xk_C × Unit)) {i q : Nat} (hi : i < t) (H : XS bx sh cr hb nS nC nH C0 σ t tl s k C) (R : RW bx sh nS p C) :
    ∃ C', fX0_goThrough_L76 F N bx K61 (q + 1) C (nI p.length) u (PT (ff σ tl) p) (nI c) (nI i) = fX0_goThrough_L76 F N bx K61 q C' (nI p.length) u (PT (ff σ tl) p) (nI c) (nI (i + 1)) ∧ GO bx sh cr hb nS nC nH C0 σ t tl p s k ((if sl i = c then [i] else []).flatMap fun i => if bt u i = 1 then [] else en sl o d (p ++ [sl i]) (u ||| ((1 : Int32) <<< (nI i &&& 31)))) C' := by
  have ht := S.1
  have hn := H.1.n20
  have hn2 := H.1.n12
  have G0 : GO bx sh cr hb nS nC nH C0 σ t tl p s k [] C := ⟨H, R⟩
  have si := S.2.2.1 i hi
  have e37 : xk_gi C 37 (some (sh (sl i))) = some (nI (sl i)) := x37 H.1 si
  have e53 : xk_gr C 53 (some (cr (tl i))) = some (some (sh (sl i))) := by rw [x53 H.1 (S.2.1 i hi), S.2.2.2.1 i hi, rf_s sh _ (by omega)]
  rw [fX0_goThrough_L76]
  unfold fX0_goThrough_B165
  rw [g_i H.1.kB rfl, ev_b, H.2.2.1, if_neg (fun h => by rw [s_le _ _ (by omega) (by omega)] at h; omega), H.1.r17, ev_b, H.told ht hi, ev_b, e53, ev_b, e37, ev_b, s_a1]
  by_cases e : sl i = c
  · rw [if_pos (by rw [e]), if_pos e, List.flatMap_singleton]
    rcases bt01 (u >>> (nI i &&& 31)) with b | b
    · rw [if_neg (by rw [b]; decide), if_neg (show ¬ bt u i = 1 by unfold bt; rw [b]; decide)]
      rw [H.1.r18, ev_b, ev_b, H.told ht hi, ev_b, e53, ev_b, p_sa (t := 7) H.1.k16 (by rw [H.1.l16]; omega) (by omega) (by show xk_hold 7 (xk_k C (sh (sl i))) = true; rw [H.1.1.2.2.2.1.1 _ si]; rfl), ev_b]
      have F1 : Fr [20, 21, 22] [] (tE2 bx) C (xk_sq C (bx + 16) p.length (some (sh (sl i)))) := Fr.refl.sq _ _ _ (.inl (by rw [H.1.k16]; unfold tE2; simp))
      have h1 := H.1.t2 F1
      have R1 : RW bx sh nS (p ++ [sl i]) (xk_sq C (bx + 16) p.length (some (sh (sl i)))) := by
        intro j hj
        rw [List.length_append, List.length_singleton] at hj
        rw [q_sq]
        by_cases c' : j = p.length
        · rw [if_pos ⟨rfl, c'⟩]
          have : (p ++ [sl i]).getD j 0 = sl i := by rw [c']; simp [List.getD_eq_getElem?_getD]
          rw [this]; exact ⟨rfl, si⟩
        · rw [if_neg (fun h => c' h.2)]
          have : (p ++ [sl i]).getD j 0 = p.getD j 0 := by simp only [List.getD_eq_getElem?_getD]; rw [List.getElem?_append_left (by omega)]
          rw [this]; exact R j (by omega)
      have H1 : XS bx sh cr hb nS nC nH C0 σ t tl s k (xk_sq C (bx + 16) p.length (some (sh (sl i)))) := by
        obtain ⟨h, ⟨F0, n0, s0⟩, i20, q15, i21, i22, b17⟩ := id H
        refine ⟨h1, ⟨F0.trans F1, n0, s0⟩, i20, fun j hj => ?_, i21, i22, fun b hb => ⟨(b17 b hb).1, fun j hj => ?_⟩⟩
        · rw [q_sq, if_neg (by omega)]; exact q15 j hj
        · rw [q_sq, if_neg (by omega)]; exact (b17 b hb).2 j hj
      have qn : xk_q (xk_sq C (bx + 16) p.length (some (sh (sl i)))) (bx + 16) p.length = some (sh (sl i)) := by rw [q_sq, if_pos ⟨rfl, rfl⟩]
      generalize xk_sq C (bx + 16) p.length (some (sh (sl i))) = C1 at *
      rw [h1.r18, ev_b, g_lq (t := 7) h1.k16 (by rw [h1.l16]; omega) (by omega), qn, ev_b, h1.r17, ev_b, H1.told ht hp, ev_b, x47 h1 (S.2.1 _ hp), ev_b, g_is (h1.1.2.2.2.1.1 _ si), ev_b, fs_x h1 si, ev_b, g_is h1.kB, ev_b, s_a1]
      have e1 : PT (ff σ tl) p + fs σ (sl i) (ga σ 1 (130 + tl p.length)) = PT (ff σ tl) (p ++ [sl i]) := (PT_s _ _ _).symm
      have e2 : nI (p.length + 1) = nI (p ++ [sl i]).length := by rw [List.length_append, List.length_singleton]
      obtain ⟨C2, g1, g2, R2⟩ := hF (u ||| ((1 : Int32) <<< (nI i &&& 31))) (p ++ [sl i]) C1 s k (by rw [List.length_append, List.length_singleton]) H1 R1
      rw [e1, e2, g1, ev_b]
      refine ⟨C2, rfl, g2, fun j hj => ?_⟩
      have := R2 j (by rw [List.length_append, List.length_singleton]; omega)
      have e3 : (p ++ [sl i]).getD j 0 = p.getD j 0 := by simp only [List.getD_eq_getElem?_getD]; rw [List.getElem?_append_left (by omega)]
      rw [e3] at this; exact this
    · rw [if_pos b, if_pos (show bt u i = 1 from b)]
      exact ⟨C, rfl, G0⟩
  · rw [if_neg (fun h => e ((s_eq _ _ (by omega) (by omega)).mp h)), if_neg e]
    exact ⟨C, rfl, G0⟩
theorem go_in {N d : Nat} (F : xk_C → Nat → Int32 → Int32 → Int32 → Option (xk_C × Unit)) (S : ST nS nC σ t tl sl) (o : List Nat)
    (hF : ∀ (u : Int32) p' C s k, p'.length = p.length + 1 → XS bx sh cr hb nS nC nH C0 σ t tl s k C → RW bx sh nS p' C → ∃ C', F C bx (nI p'.length) u (PT (ff σ tl) p') = some (C', ()) ∧ GO bx sh cr hb nS nC nH C0 σ t tl p' s k (en sl o d p' u) C')
    (hp : p.length < t) (u : Int32) (c : Nat) (hc : c < nS) (K61 : xk_C → Int32 → Int32 → Int32 → Int32 → Option (xk_C × Unit)) : ∀ n i q (C : xk_C) (s : Option (List Nat)) (k : Nat), i + n = t → n < q → XS bx sh cr hb nS nC nH C0 σ t tl s k C → RW bx sh nS p C →
    ∃ C', fX0_goThrough_L76 F N bx K61 q C (nI p.length) u (PT (ff σ tl) p) (nI c) (nI i) = K61 C' (nI p.length) u (PT (ff σ tl) p) (nI (c + 1)) ∧ GO bx sh cr hb nS nC nH C0 σ t tl p s k ((List.range' i n).flatMap fun i => (if sl i = c then [i] else []).flatMap fun i => if bt u i = 1 then [] else en sl o d (p ++ [sl i]) (u ||| ((1 : Int32) <<< (nI i &&& 31)))) C' := by
  intro n
  have ht := S.1
  induction n with
  | zero =>
    intro i q C s k hi hq H R
    obtain ⟨q, rfl⟩ : ∃ j, q = j + 1 := ⟨q - 1, by omega⟩
    have : i = t := by omega
    subst this
    rw [fX0_goThrough_L76, g_i H.1.kB rfl, ev_b, H.2.2.1, if_pos ((s_le _ _ (by omega) (by omega)).mpr (Nat.le_refl _)), s_a1]
    exact ⟨C, rfl, H, R⟩
  | succ n ih =>
    intro i q C s k hi hq H R
    obtain ⟨q, rfl⟩ : ∃ j, q = j + 1 := ⟨q - 1, by omega⟩
    obtain ⟨C1, g1, G1⟩ := go_one (N := N) (q := q) F S o hF hp u c hc K61 (i := i) (by omega) H R
    rw [g1, List.range'_succ, List.flatMap_cons]
    obtain ⟨C2, g2, G2⟩ := ih (i + 1) q C1 _ _ (by omega) (by omega) G1.1 G1.2
    rw [g2]
    exact ⟨C2, rfl, GO.cat G2⟩
theorem go_out {N d : Nat} (hN : 30 ≤ N) (F : xk_C → Nat → Int32 → Int32 → Int32 → Option (xk_C × Unit)) (S : ST nS nC σ t tl sl) (o : List Nat)
    (hF : ∀ (u : Int32) p' C s k, p'.length = p.length + 1 → XS bx sh cr hb nS nC nH C0 σ t tl s k C → RW bx sh nS p' C → ∃ C', F C bx (nI p'.length) u (PT (ff σ tl) p') = some (C', ()) ∧ GO bx sh cr hb nS nC nH C0 σ t tl p' s k (en sl o d p' u) C')
    (hp : p.length < t) (u : Int32) : ∀ n c q (C : xk_C) (s : Option (List Nat)) (k : Nat), c + n = nS → n < q → XS bx sh cr hb nS nC nH C0 σ t tl s k C → RW bx sh nS p C →
    ∃ C', fX0_goThrough_L61 F N bx q C (nI p.length) u (PT (ff σ tl) p) (nI c) = some (C', ()) ∧ GO bx sh cr hb nS nC nH C0 σ t tl p s k ((List.range' c n).flatMap fun c => (List.range t).flatMap fun i => (if sl i = c then [i] else []).flatMap fun i => if bt u i = 1 then [] else en sl o d (p ++ [sl i]) (u ||| ((1 : Int32) <<< (nI i &&& 31)))) C' := by
  intro n
  have ht := S.1
  induction n with
  | zero =>
    intro c q C s k hc hq H R
    obtain ⟨q, rfl⟩ : ∃ j, q = j + 1 := ⟨q - 1, by omega⟩
    have : c = nS := by omega
    subst this
    have hn := H.1.n20
    rw [fX0_goThrough_L61, xr0 H.1, ev_b, g_is H.1.1.2.1.1, ev_b, H.1.1.2.1.size, ev_b, if_pos ((s_le _ _ (by omega) (by omega)).mpr (Nat.le_refl _))]
    exact ⟨C, rfl, H, R⟩
  | succ n ih =>
    intro c q C s k hc hq H R
    obtain ⟨q, rfl⟩ : ∃ j, q = j + 1 := ⟨q - 1, by omega⟩
    have hn := H.1.n20
    rw [fX0_goThrough_L61, xr0 H.1, ev_b, g_is H.1.1.2.1.1, ev_b, H.1.1.2.1.size, ev_b, if_neg (fun h => by rw [s_le _ _ (by omega) (by omega)] at h; omega), s_n0]
    obtain ⟨C1, g1, G1⟩ := go_in (N := N) F S o hF hp u c (by omega) (fX0_goThrough_L61 F N bx q) t 0 N C s k (by omega) (by omega) H R
    rw [g1, List.range'_succ, List.flatMap_cons]
    obtain ⟨C2, g2, G2⟩ := ih (c + 1) q C1 _ _ (by omega) (by omega) G1.1 G1.2
    rw [g2]
    refine ⟨C2, rfl, GO.cat ?_⟩
    rw [List.range_eq_range' (n := t)]
    rw [List.range_eq_range' (n := t)] at G2
    exact G2
theorem go_all {N : Nat} (hN : 30 ≤ N) (S : ST nS nC σ t tl sl) : ∀ d p D (u : Int32) (C : xk_C) (s : Option (List Nat)) (k : Nat), p.length + d = t → d < D → XS bx sh cr hb nS nC nH C0 σ t tl s k C → RW bx sh nS p C → ∃ C', fX0_goThrough N D C bx (nI p.length) u (PT (ff σ tl) p) = some (C', ()) ∧ GO bx sh cr hb nS nC nH C0 σ t tl p s k (en sl (oX sl nS t) d p u) C' := by
  intro d
  have ht := S.1
  induction d with
  | zero =>
    intro p D u C s k hp hD H R
    obtain ⟨D, rfl⟩ : ∃ j, D = j + 1 := ⟨D - 1, by omega⟩
    rw [fX0_goThrough, show p.length = t by omega]
    obtain ⟨C', g1, G, R'⟩ := go_leaf (N := N) (by omega) (fX0_goThrough N D) H S R (by omega) u
    refine ⟨C', g1, ?_, R'⟩
    unfold en
    rw [List.foldl_cons, List.foldl_nil, List.countP_cons, List.countP_nil, Nat.zero_add]
    exact G
  | succ d ih =>
    intro p D u C s k hp hD H R
    obtain ⟨D, rfl⟩ : ∃ j, D = j + 1 := ⟨D - 1, by omega⟩
    rw [fX0_goThrough, fX0_goThroughB, g_i H.1.kB rfl, ev_b, H.2.2.1, if_neg (fun h => by rw [s_eq _ _ (by omega) (by omega)] at h; omega), s_n0]
    obtain ⟨C', g1, G⟩ := go_out hN (fX0_goThrough N D) S (oX sl nS t) (fun u p' C s k hp' H' R' => ih p' D u C s k (by omega) (by omega) H' R') (by omega) u nS 0 N C s k (by omega) (by have := H.1.n20; omega) H R
    refine ⟨C', g1, ?_⟩
    unfold en
    rw [← List.range_eq_range' (n := nS)] at G
    have e : ∀ G : Nat → List (List Nat), (oX sl nS t).flatMap G = (List.range nS).flatMap fun c => (List.range t).flatMap fun i => (if sl i = c then [i] else []).flatMap G := fun G => by
      unfold oX; rw [List.flatMap_assoc]; congr 1; funext c; rw [List.flatMap_assoc]
    rw [e]
    exact G
end
end
section
/-! STAGE 2: sharing out, the reference's side -/
def MM (nS nC nH : Nat) (σ0 : gm_S) (t : Nat) (tl : Nat → Nat) (s : Option (List Nat)) (k : Nat) (σ : gm_S) : Prop :=
  Mf [31, 32, 33] [28, 29] σ0 σ ∧ gs σ 33 = nI k ∧ (s = none → gs σ 32 = 0) ∧ (∀ b, s = some b → gs σ 32 = 1 ∧ gs σ 31 = PT (ff σ0 tl) b ∧ b.length = t ∧ ∀ j, j < t → ga σ 29 j = nI (b.getD j 0) ∧ b.getD j 0 < nS)
def MW (nS : Nat) (p : List Nat) (σ : gm_S) : Prop := ∀ j, j < p.length → ga σ 28 j = nI (p.getD j 0) ∧ p.getD j 0 < nS
/-- what the search starts from -/
def M0 (nS nC nH : Nat) (σ0 : gm_S) (t : Nat) (tl sl : Nat → Nat) : Prop := Iv nS nC nH (ga σ0 1) ∧ ST nS nC σ0 t tl sl ∧ gs σ0 30 = nI t ∧ ∀ j, j < t → ga σ0 27 j = nI (tl j)
def bI (b : Bool) : Int32 := if b = true then 1 else 0
section
variable {nS nC nH : Nat} {σ0 σ σ' : gm_S} {t k : Nat} {tl sl : Nat → Nat} {s : Option (List Nat)} {p : List Nat}
theorem MM.g1 (H : MM nS nC nH σ0 t tl s k σ) : ga σ 1 = ga σ0 1 := funext fun j => H.1.2 1 (by decide) j
theorem MM.s30 (H : MM nS nC nH σ0 t tl s k σ) (Z : M0 nS nC nH σ0 t tl sl) : gs σ 30 = nI t := (H.1.1 30 (by decide)).trans Z.2.2.1
theorem MM.a27 (H : MM nS nC nH σ0 t tl s k σ) (Z : M0 nS nC nH σ0 t tl sl) {j : Nat} (hj : j < t) : gm_rd σ 27 (nI j) = some (nI (tl j)) := by
  have ht := Z.2.1.1
  rw [m_rd σ (k := 27) (show j < 6 by omega) (by omega), H.1.2 27 (by decide), Z.2.2.2 j hj]
theorem MM.a28 (Z : M0 nS nC nH σ0 t tl sl) (R : MW nS p σ) (hp : p.length ≤ t) {j : Nat} (hj : j < p.length) : gm_rd σ 28 (nI j) = some (nI (p.getD j 0)) := by
  have ht := Z.2.1.1
  rw [m_rd σ (k := 28) (show j < 6 by omega) (by omega), (R j hj).1]
theorem MM.fit (H : MM nS nC nH σ0 t tl s k σ) (Z : M0 nS nC nH σ0 t tl sl) {i j : Nat} (hi : i < nS) (hj : j < t) : fX3_fitFor σ (nI i) (ga σ 1 (130 + tl j)) = some (ff σ0 tl i j) := by
  have e := H.g1
  have hI : Iv nS nC nH (ga σ 1) := by rw [e]; exact Z.1
  rw [fs_m hI hi (hI.2.2.1 (tl j) (Z.2.1.2.1 j hj)).1]
  unfold ff fs; rw [e]
theorem look_in {N : Nat} (H : MM nS nC nH σ0 t tl s k σ) (Z : M0 nS nC nH σ0 t tl sl) (R : MW nS p σ) (hp : p.length = t) {a : Nat} (ha : a < t) (x1 : Int32) (K : gm_S → Int32 → Int32 → Int32 → Option gm_S) : ∀ n y q (b : Bool), y + n = a → n < q → fX3_looksAt_L49 N K q σ x1 (bI b) (nI a) (ga σ 1 (130 + tl a)) (nI y) = K σ x1 (bI (b && cm2 (ff σ0 tl) (fun j => p.getD j 0) a n y)) (nI (a + 1)) := by
  intro n
  have ht := Z.2.1.1
  have hn := Z.1.1.1
  have hn2 := Z.1.1.2.1
  induction n with
  | zero =>
    intro y q b hy hq
    obtain ⟨q, rfl⟩ : ∃ j, q = j + 1 := ⟨q - 1, by omega⟩
    have : y = a := by omega
    subst this
    rw [fX3_looksAt_L49, if_pos ((s_le _ _ (by omega) (by omega)).mpr (Nat.le_refl _)), s_a1]
    unfold cm2
    rw [Bool.and_true]
  | succ n ih =>
    intro y q b hy hq
    obtain ⟨q, rfl⟩ : ∃ j, q = j + 1 := ⟨q - 1, by omega⟩
    have hc := Z.2.1.2.1 y (by omega)
    rw [fX3_looksAt_L49, if_neg (fun h => by rw [s_le _ _ (by omega) (by omega)] at h; omega), H.a27 Z (show y < t by omega), ev_b, m_rd1 _ _ _ (by omega), ev_b]
    unfold fX3_looksAt_B133 fX3_looksAt_B137 fX3_looksAt_B138 cm2
    rw [s_a1]
    have ry := (R y (by omega)).2
    have ra := (R a (by omega)).2
    cases b with
    | false =>
      rw [if_pos (show bI false = 0 from rfl), Bool.false_and]
      exact (ih (y + 1) q false (by omega) (by omega)).trans (by rw [Bool.false_and])
    | true =>
      rw [if_neg (show ¬ bI true = 0 by decide), Bool.true_and, MM.a28 Z R (by omega) (show y < p.length by omega), ev_b, H.fit Z ry ha, ev_b, MM.a28 Z R (by omega) (show a < p.length by omega), ev_b, H.fit Z ra ha, ev_b]
      by_cases c : ff σ0 tl (p.getD y 0) a ≤ ff σ0 tl (p.getD a 0) a
      · rw [if_pos c, if_pos c]; exact (ih (y + 1) q true (by omega) (by omega)).trans (by rw [Bool.true_and])
      · rw [if_neg c, if_neg c, ev_b, H.fit Z ra (show y < t by omega), ev_b, ev_b, H.fit Z ry (show y < t by omega), ev_b]
        by_cases c' : ff σ0 tl (p.getD a 0) y ≤ ff σ0 tl (p.getD y 0) y
        · rw [if_neg (Int32.not_lt.mpr c'), if_pos c']; exact (ih (y + 1) q true (by omega) (by omega)).trans (by rw [Bool.true_and])
        · rw [if_pos (Int32.not_le.mp c'), if_neg c']; exact (ih (y + 1) q false (by omega) (by omega)).trans (by rw [Bool.false_and])
theorem look_out {N : Nat} (hN : 10 ≤ N) (H : MM nS nC nH σ0 t tl s k σ) (Z : M0 nS nC nH σ0 t tl sl) (R : MW nS p σ) (hp : p.length = t) : ∀ n a q (b : Bool) (x : Int32), a + n = t → n < q → fX3_looksAt_L6 N q σ x (bI b) (nI a) = fX3_looksAt_B165 N σ (pt (ff σ0 tl) (fun j => p.getD j 0) n a x) (bI (b && cm1 (ff σ0 tl) (fun j => p.getD j 0) n a)) (nI k) := by
  intro n
  have ht := Z.2.1.1
  have hn := Z.1.1.1
  have hn2 := Z.1.1.2.1
  induction n with
  | zero =>
    intro a q b x ha hq
    obtain ⟨q, rfl⟩ : ∃ j, q = j + 1 := ⟨q - 1, by omega⟩
    have : a = t := by omega
    subst this
    rw [fX3_looksAt_L6, H.s30 Z, if_pos ((s_le _ _ (by omega) (by omega)).mpr (Nat.le_refl _)), H.2.1]
    unfold cm1 pt
    rw [Bool.and_true]
    cases b with
    | false => rw [if_pos (show bI false = 0 from rfl)]; rfl
    | true => rw [if_neg (show ¬ bI true = 0 by decide)]; rfl
  | succ n ih =>
    intro a q b x ha hq
    obtain ⟨q, rfl⟩ : ∃ j, q = j + 1 := ⟨q - 1, by omega⟩
    have hc := Z.2.1.2.1 a (by omega)
    rw [fX3_looksAt_L6, H.s30 Z, if_neg (fun h => by rw [s_le _ _ (by omega) (by omega)] at h; omega), H.a27 Z (show a < t by omega), ev_b, m_rd1 _ _ _ (by omega), ev_b, MM.a28 Z R (by omega) (show a < p.length by omega), ev_b, H.fit Z (R a (by omega)).2 (show a < t by omega), ev_b, s_n0, look_in H Z R hp (show a < t by omega) _ _ a 0 N b (by omega) (by omega), ih (a + 1) q _ _ (by omega) (by omega), Bool.and_assoc]
    rfl
/-- the row is taken over -/
theorem look_cp {N : Nat} (Z : M0 nS nC nH σ0 t tl sl) : ∀ n a q (σ : gm_S), a + n = t → n < q → gs σ 30 = nI t → ∃ σ', fX3_looksAt_L211 N q σ (nI a) = some σ' ∧ Mf [] [29] σ σ' ∧ (∀ j, j < a → ga σ' 29 j = ga σ 29 j) ∧ ∀ j, a ≤ j → j < t → ga σ' 29 j = ga σ 28 j := by
  intro n
  have ht := Z.2.1.1
  induction n with
  | zero =>
    intro a q σ ha hq h30
    obtain ⟨q, rfl⟩ : ∃ j, q = j + 1 := ⟨q - 1, by omega⟩
    have : a = t := by omega
    subst this
    rw [fX3_looksAt_L211, h30, if_pos ((s_le _ _ (by omega) (by omega)).mpr (Nat.le_refl _))]
    exact ⟨σ, rfl, Mf.refl, fun _ _ => rfl, fun j h1 h2 => by omega⟩
  | succ n ih =>
    intro a q σ ha hq h30
    obtain ⟨q, rfl⟩ : ∃ j, q = j + 1 := ⟨q - 1, by omega⟩
    rw [fX3_looksAt_L211, h30, if_neg (fun h => by rw [s_le _ _ (by omega) (by omega)] at h; omega), m_rd σ (k := 28) (show a < 6 by omega) (by omega), ev_b, m_wr σ (k := 29) _ (show a < 6 by omega) (by omega), ev_b, s_a1]
    obtain ⟨σ', g, M, e1, e2⟩ := ih (a + 1) q (gm_sta σ 29 a (ga σ 28 a)) (by omega) (by omega) h30
    refine ⟨σ', g, (Mf.refl.sta _ _ _ (by decide)).trans M, fun j hj => ?_, fun j h1 h2 => ?_⟩
    · rw [e1 j (by omega), ga_sta, if_neg (by omega)]
    · by_cases c : j = a
      · subst c; rw [e1 j (by omega), ga_sta, if_pos ⟨rfl, rfl⟩]
      · rw [e2 j (by omega) h2, ga_sta, if_neg (by omega)]
theorem look_rl {N : Nat} (Z : M0 nS nC nH σ0 t tl sl) (h30 : gs σ 30 = nI t) {b : List Nat} (hp : p.length = t) (hb : b.length = t) (R : MW nS p σ) (B : ∀ j, j < t → ga σ 29 j = nI (b.getD j 0) ∧ b.getD j 0 < nS) : ∀ n a q, a + n = t → n < q → fX3_isRowLess_L2 N σ q (nI a) = some (bI (rl (p.drop a) (b.drop a))) := by
  intro n
  have ht := Z.2.1.1
  have hn := Z.1.1.1
  induction n with
  | zero =>
    intro a q ha hq
    obtain ⟨q, rfl⟩ : ∃ j, q = j + 1 := ⟨q - 1, by omega⟩
    have : a = t := by omega
    subst this
    rw [fX3_isRowLess_L2, h30, if_pos ((s_le _ _ (by omega) (by omega)).mpr (Nat.le_refl _)), List.drop_of_length_le (by omega), List.drop_of_length_le (by omega)]
    rfl
  | succ n ih =>
    intro a q ha hq
    obtain ⟨q, rfl⟩ : ∃ j, q = j + 1 := ⟨q - 1, by omega⟩
    have r1 := R a (by omega)
    have r2 := B a (by omega)
    have ep : p.drop a = p.getD a 0 :: p.drop (a + 1) := by rw [List.drop_eq_getElem_cons (by omega), List.getD_eq_getElem?_getD, List.getElem?_eq_getElem (by omega)]; rfl
    have eb : b.drop a = b.getD a 0 :: b.drop (a + 1) := by rw [List.drop_eq_getElem_cons (by omega), List.getD_eq_getElem?_getD, List.getElem?_eq_getElem (by omega)]; rfl
    rw [fX3_isRowLess_L2, h30, if_neg (fun h => by rw [s_le _ _ (by omega) (by omega)] at h; omega), m_rd σ (k := 28) (show a < 6 by omega) (by omega), ev_b, m_rd σ (k := 29) (show a < 6 by omega) (by omega), ev_b, ev_b, ev_b, r1.1, r2.1, s_a1, ih (a + 1) q (by omega) (by omega), ep, eb, rl_cc]
    by_cases c : p.getD a 0 = b.getD a 0
    · rw [if_pos (by rw [c]), if_pos c]
    · rw [if_neg (fun h => c ((s_eq _ _ (by omega) (by omega)).mp h)), if_neg c]
      by_cases c' : p.getD a 0 < b.getD a 0
      · rw [if_neg (fun h => by rw [s_le _ _ (by omega) (by omega)] at h; omega), decide_eq_true c']; rfl
      · rw [if_pos ((s_le _ _ (by omega) (by omega)).mpr (by omega)), decide_eq_false c']; rfl
end
end
section
/-! STAGE 2: sharing out, the reference's side: the search -/
def MO (nS nC nH : Nat) (σ0 : gm_S) (t : Nat) (tl : Nat → Nat) (p : List Nat) (s : Option (List Nat)) (k : Nat) (L : List (List Nat)) (σ' : gm_S) : Prop :=
  MM nS nC nH σ0 t tl (L.foldl (bst (PT (ff σ0 tl))) s) (k + L.countP (CM (ff σ0 tl))) σ' ∧ MW nS p σ'
section
variable {nS nC nH : Nat} {σ0 σ σ' : gm_S} {t k : Nat} {tl sl : Nat → Nat} {s : Option (List Nat)} {p : List Nat}
theorem MO.cat {σ'' : gm_S} {L L' : List (List Nat)} (h : MO nS nC nH σ0 t tl p (L.foldl (bst (PT (ff σ0 tl))) s) (k + L.countP (CM (ff σ0 tl))) L' σ'') : MO nS nC nH σ0 t tl p s k (L ++ L') σ'' := by
  unfold MO at h ⊢
  rw [List.foldl_append, List.countP_append, ← Nat.add_assoc]
  exact h
theorem part_take {N : Nat} (hN : 10 ≤ N) (Z : M0 nS nC nH σ0 t tl sl) (hp : p.length = t) (M : Mf [31, 32, 33] [28, 29] σ0 σ) (h33 : gs σ 33 = nI k) (R : MW nS p σ) : ∃ σ', fX3_looksAt_B199 N σ (PT (ff σ0 tl) p) = some σ' ∧ MM nS nC nH σ0 t tl (some p) k σ' ∧ MW nS p σ' := by
  unfold fX3_looksAt_B199
  have ht := Z.2.1.1
  rw [m_pz (.inr rfl), ev_b, m_pt, ev_b, s_n0]
  have M1 : Mf [31, 32, 33] [28, 29] σ0 (gm_set (gm_set σ 32 1) 31 (PT (ff σ0 tl) p)) := (M.set _ _ (by decide)).set _ _ (by decide)
  have g31 : gs (gm_set (gm_set σ 32 1) 31 (PT (ff σ0 tl) p)) 31 = PT (ff σ0 tl) p := by rw [gs_set, if_pos rfl]
  have g32 : gs (gm_set (gm_set σ 32 1) 31 (PT (ff σ0 tl) p)) 32 = 1 := by rw [gs_set, if_neg (by decide), gs_set, if_pos rfl]
  have g33 : gs (gm_set (gm_set σ 32 1) 31 (PT (ff σ0 tl) p)) 33 = nI k := by rw [gs_set, if_neg (by decide), gs_set, if_neg (by decide), h33]
  have R1 : MW nS p (gm_set (gm_set σ 32 1) 31 (PT (ff σ0 tl) p)) := R
  generalize gm_set (gm_set σ 32 1) 31 (PT (ff σ0 tl) p) = σ1 at *
  obtain ⟨σ2, g, M2, -, e2⟩ := look_cp (N := N) Z t 0 N σ1 (by omega) (by omega) ((M1.1 30 (by decide)).trans Z.2.2.1)
  refine ⟨σ2, g, ⟨M1.trans (M2.mono (by simp) (by simp)), (M2.1 33 (by simp)).trans g33, fun h => (by cases h), fun b hb => ?_⟩, fun j hj => ⟨(M2.2 28 (by decide) j).trans (R1 j hj).1, (R1 j hj).2⟩⟩
  cases hb
  exact ⟨(M2.1 32 (by simp)).trans g32, (M2.1 31 (by simp)).trans g31, hp, fun j hj => ⟨by rw [e2 j (by omega) hj]; exact (R1 j (by omega)).1, (R1 j (by omega)).2⟩⟩
theorem part_leaf {N : Nat} (hN : 10 ≤ N) (H : MM nS nC nH σ0 t tl s k σ) (Z : M0 nS nC nH σ0 t tl sl) (R : MW nS p σ) (hp : p.length = t) : ∃ σ', fX3_looksAt N σ = some σ' ∧ MM nS nC nH σ0 t tl (bst (PT (ff σ0 tl)) s p) (k + if CM (ff σ0 tl) p = true then 1 else 0) σ' ∧ MW nS p σ' := by
  have ht := Z.2.1.1
  unfold fX3_looksAt
  have hl := look_out (N := N) hN H Z R hp t 0 N true 0 (by omega) (by omega)
  have b1 : bI true = 1 := rfl
  rw [b1, Bool.true_and, ← s_n0] at hl
  rw [hl]
  have eP : pt (ff σ0 tl) (fun j => p.getD j 0) t 0 0 = PT (ff σ0 tl) p := by unfold PT; rw [hp]
  have eC : cm1 (ff σ0 tl) (fun j => p.getD j 0) t 0 = CM (ff σ0 tl) p := by unfold CM; rw [hp]
  rw [eP, eC]
  have e33 : nI k + bI (CM (ff σ0 tl) p) = nI (k + if CM (ff σ0 tl) p = true then 1 else 0) := by
    unfold bI
    split
    · exact s_a1 k
    · exact Int32.add_zero _
  unfold fX3_looksAt_B165
  rw [m_pt, ev_b, e33]
  generalize (k + if CM (ff σ0 tl) p = true then 1 else 0) = k'
  have M1 : Mf [31, 32, 33] [28, 29] σ0 (gm_set σ 33 (nI k')) := H.1.set _ _ (by decide)
  have g33 : gs (gm_set σ 33 (nI k')) 33 = nI k' := by rw [gs_set, if_pos rfl]
  have g32 : gs (gm_set σ 33 (nI k')) 32 = gs σ 32 := by rw [gs_set, if_neg (by decide)]
  have g31 : gs (gm_set σ 33 (nI k')) 31 = gs σ 31 := by rw [gs_set, if_neg (by decide)]
  have R1 : MW nS p (gm_set σ 33 (nI k')) := R
  have a29 : ∀ j, ga (gm_set σ 33 (nI k')) 29 j = ga σ 29 j := fun _ => rfl
  have h30 : gs (gm_set σ 33 (nI k')) 30 = nI t := (M1.1 30 (by decide)).trans Z.2.2.1
  generalize gm_set σ 33 (nI k') = σ1 at *
  have TK := part_take (N := N) hN Z hp M1 g33 R1
  cases s with
  | none =>
    rw [if_pos (g32.trans (H.2.2.1 rfl))]
    exact TK
  | some b =>
    obtain ⟨b1, b2, b3, b4⟩ := H.2.2.2 b rfl
    have KP : MM nS nC nH σ0 t tl (some b) k' σ1 := ⟨M1, g33, fun h => (by cases h), fun b' hb => by
      cases hb
      exact ⟨g32.trans b1, g31.trans b2, b3, fun j hj => ⟨(a29 j).trans (b4 j hj).1, (b4 j hj).2⟩⟩⟩
    have es : bst (PT (ff σ0 tl)) (some b) p = if PT (ff σ0 tl) b < PT (ff σ0 tl) p ∨ (PT (ff σ0 tl) b = PT (ff σ0 tl) p ∧ rl p b = true) then some p else some b := rfl
    rw [if_neg (by rw [g32, b1]; decide), g31, b2, es]
    by_cases c : PT (ff σ0 tl) b < PT (ff σ0 tl) p
    · rw [if_pos c, if_pos (.inl c)]; exact TK
    · rw [if_neg c]
      by_cases c' : PT (ff σ0 tl) p = PT (ff σ0 tl) b
      · rw [if_pos c']
        unfold fX3_isRowLess
        have hr := look_rl (N := N) Z h30 hp b3 R1 (fun j hj => ⟨(a29 j).trans (b4 j hj).1, (b4 j hj).2⟩) t 0 N (by omega) (by omega)
        rw [List.drop_zero, List.drop_zero] at hr
        rw [s_n0, hr, ev_b]
        cases r : rl p b with
        | true => 
          rw [if_neg (show ¬ bI true = nI 0 by decide), if_pos (.inr ⟨c'.symm, rfl⟩)]; exact TK
        | false =>
          rw [if_pos (show bI false = nI 0 from rfl), if_neg (fun h => by rcases h with h | h; exact c h; cases h.2)]
          exact ⟨σ1, rfl, KP, R1⟩
      · rw [if_neg c', if_neg (fun h => by rcases h with h | h; exact c h; exact c' h.1.symm)]
        exact ⟨σ1, rfl, KP, R1⟩
/-- the choices -/
theorem part_in {N d : Nat} (F : gm_S → Int32 → Int32 → Option gm_S) (Z : M0 nS nC nH σ0 t tl sl) (o : List Nat)
    (hF : ∀ (u : Int32) p' σ s k, p'.length = p.length + 1 → MM nS nC nH σ0 t tl s k σ → MW nS p' σ → ∃ σ', F σ (nI p'.length) u = some σ' ∧ MO nS nC nH σ0 t tl p' s k (en sl o d p' u) σ')
    (hp : p.length < t) (u : Int32) : ∀ n i q (σ : gm_S) (s : Option (List Nat)) (k : Nat), i + n = t → n < q → MM nS nC nH σ0 t tl s k σ → MW nS p σ →
    ∃ σ', fX3_parts_L15 F N q σ (nI p.length) u (nI i) = some σ' ∧ MO nS nC nH σ0 t tl p s k ((List.range' i n).flatMap fun i => if bt u i = 1 then [] else en sl o d (p ++ [sl i]) (u ||| ((1 : Int32) <<< (nI i &&& 31)))) σ' := by
  intro n
  have ht := Z.2.1.1
  have hn := Z.1.1.1
  have hn2 := Z.1.1.2.1
  induction n with
  | zero =>
    intro i q σ s k hi hq H R
    obtain ⟨q, rfl⟩ : ∃ j, q = j + 1 := ⟨q - 1, by omega⟩
    have : i = t := by omega
    subst this
    rw [fX3_parts_L15, H.s30 Z, if_pos ((s_le _ _ (by omega) (by omega)).mpr (Nat.le_refl _))]
    exact ⟨σ, rfl, H, R⟩
  | succ n ih =>
    intro i q σ s k hi hq H R
    obtain ⟨q, rfl⟩ : ∃ j, q = j + 1 := ⟨q - 1, by omega⟩
    have si := Z.2.1.2.2.1 i (by omega)
    have hc := Z.2.1.2.1 i (by omega)
    rw [fX3_parts_L15, H.s30 Z, if_neg (fun h => by rw [s_le _ _ (by omega) (by omega)] at h; omega), List.range'_succ, List.flatMap_cons]
    unfold fX3_parts_B64
    have ea : nI i + 1 = nI (i + 1) := s_a1 i
    rw [ea]
    rcases bt01 (u >>> (nI i &&& 31)) with b | b
    · rw [if_pos b, if_neg (show ¬ bt u i = 1 by unfold bt; rw [b]; decide), H.a27 Z (show i < t by omega), ev_b, m_rd1 _ _ _ (by omega), ev_b, m_wr σ (k := 28) _ (show p.length < 6 by omega) (by omega), ev_b, s_a1]
      have e178 : ga σ 1 (178 + tl i) = nI (sl i) := by rw [H.g1]; exact Z.2.1.2.2.2.1 i (by omega)
      rw [e178]
      have R1 : MW nS (p ++ [sl i]) (gm_sta σ 28 p.length (nI (sl i))) := by
        intro j hj
        rw [List.length_append, List.length_singleton] at hj
        rw [ga_sta]
        by_cases c' : j = p.length
        · rw [if_pos ⟨rfl, c'⟩]
          have : (p ++ [sl i]).getD j 0 = sl i := by rw [c']; simp [List.getD_eq_getElem?_getD]
          rw [this]; exact ⟨rfl, si⟩
        · rw [if_neg (fun h => c' h.2)]
          have : (p ++ [sl i]).getD j 0 = p.getD j 0 := by simp only [List.getD_eq_getElem?_getD]; rw [List.getElem?_append_left (by omega)]
          rw [this]; exact R j (by omega)
      have H1 : MM nS nC nH σ0 t tl s k (gm_sta σ 28 p.length (nI (sl i))) := by
        obtain ⟨M, g33, n0, b0⟩ := id H
        refine ⟨M.sta _ _ _ (by decide), g33, n0, fun b hb => ?_⟩
        obtain ⟨b1, b2, b3, b4⟩ := b0 b hb
        exact ⟨b1, b2, b3, fun j hj => ⟨by rw [ga_sta, if_neg (by omega)]; exact (b4 j hj).1, (b4 j hj).2⟩⟩
      generalize gm_sta σ 28 p.length (nI (sl i)) = σ1 at *
      have e2 : nI (p.length + 1) = nI (p ++ [sl i]).length := by rw [List.length_append, List.length_singleton]
      obtain ⟨σ2, g1, G1, R2⟩ := hF (u ||| ((1 : Int32) <<< (nI i &&& 31))) (p ++ [sl i]) σ1 s k (by rw [List.length_append, List.length_singleton]) H1 R1
      rw [e2, g1, ev_b]
      have R3 : MW nS p σ2 := fun j hj => by
        have := R2 j (by rw [List.length_append, List.length_singleton]; omega)
        have e3 : (p ++ [sl i]).getD j 0 = p.getD j 0 := by simp only [List.getD_eq_getElem?_getD]; rw [List.getElem?_append_left (by omega)]
        rw [e3] at this; exact this
      obtain ⟨σ3, g3, G3⟩ := ih (i + 1) q σ2 _ _ (by omega) (by omega) G1 R3
      exact ⟨σ3, g3, MO.cat G3⟩
    · rw [if_neg (by rw [b]; decide), if_pos (show bt u i = 1 from b), List.nil_append]
      exact ih (i + 1) q σ s k (by omega) (by omega) H R
theorem part_all {N : Nat} (hN : 30 ≤ N) (Z : M0 nS nC nH σ0 t tl sl) : ∀ d p D (u : Int32) (σ : gm_S) (s : Option (List Nat)) (k : Nat), p.length + d = t → d < D → MM nS nC nH σ0 t tl s k σ → MW nS p σ → ∃ σ', fX3_parts N D σ (nI p.length) u = some σ' ∧ MO nS nC nH σ0 t tl p s k (en sl (List.range t) d p u) σ' := by
  intro d
  have ht := Z.2.1.1
  induction d with
  | zero =>
    intro p D u σ s k hp hD H R
    obtain ⟨D, rfl⟩ : ∃ j, D = j + 1 := ⟨D - 1, by omega⟩
    obtain ⟨σ', g1, G, R'⟩ := part_leaf (N := N) (by omega) H Z R (by omega)
    rw [fX3_parts, fX3_partsB, H.s30 Z, if_pos (by rw [show p.length = t by omega]), g1, ev_b]
    refine ⟨σ', rfl, ?_, R'⟩
    unfold en
    rw [List.foldl_cons, List.foldl_nil, List.countP_cons, List.countP_nil, Nat.zero_add]
    exact G
  | succ d ih =>
    intro p D u σ s k hp hD H R
    obtain ⟨D, rfl⟩ : ∃ j, D = j + 1 := ⟨D - 1, by omega⟩
    rw [fX3_parts, fX3_partsB, H.s30 Z, if_neg (fun h => by rw [s_eq _ _ (by omega) (by omega)] at h; omega), s_n0]
    obtain ⟨σ', g1, G⟩ := part_in (N := N) (fX3_parts N D) Z (List.range t) (fun u p' σ s k hp' H' R' => ih p' D u σ s k (by omega) (by omega) H' R') (by omega) u t 0 N σ s k (by omega) (by omega) H R
    refine ⟨σ', g1, ?_⟩
    unfold en
    rw [← List.range_eq_range' (n := t)] at G
    exact G
end
end
