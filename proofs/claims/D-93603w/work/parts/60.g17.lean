set_option maxRecDepth 16384
section
/-! STAGE 2: the start state (gen/mkd5.py) -/
abbrev tR : Type := Nat × List (Nat × Int32) × List (Nat × Option Nat) × Nat × List (Nat × Int32) × List (Nat × Option Nat)
def lk {α : Type} (d : α) : List (Nat × α) → Nat → α
  | [], _ => d
  | p :: l, f => if f = p.1 then p.2 else lk d l f
/-- a heap whose new cells, from n0 on, are given by a table -/
def Ht (n0 : Nat) (D : Nat × Option Nat × Option Nat × Nat) (T : Nat → tR) (m s : Nat) : xk_C :=
  (fun b => if b < n0 then (if b = D.1 then 34 else 0) else if b < n0 + m then (T (b - n0)).1 else 0, fun f b => if b < n0 then 0 else lk 0 (T (b - n0)).2.1 f, fun f b => if b < n0 then none else lk none (T (b - n0)).2.2.1 f, fun b => if b < n0 then 0 else (T (b - n0)).2.2.2.1, fun b j => if b < n0 then 0 else lk 0 (T (b - n0)).2.2.2.2.1 j, fun b j => if b < n0 then none else lk none (T (b - n0)).2.2.2.2.2 j, (n0 + m, s), D)
def uT (T : Nat → tR) (o : Nat) (r : tR) : Nat → tR := fun p => if p = o then r else T p
theorem uT_s (T : Nat → tR) (o : Nat) (r : tR) : uT T o r o = r := if_pos rfl
theorem uT_n (T : Nat → tR) {o p : Nat} (r : tR) (h : p ≠ o) : uT T o r p = T p := if_neg h
section
variable {n0 : Nat} {D : Nat × Option Nat × Option Nat × Nat} {T : Nat → tR} {m s : Nat}
theorem h_n : xk_n (Ht n0 D T m s) = n0 + m := rfl
theorem h_k {o : Nat} (h : o < m) : xk_k (Ht n0 D T m s) (n0 + o) = (T o).1 := by
  show (if n0 + o < n0 then _ else if n0 + o < n0 + m then (T (n0 + o - n0)).1 else 0) = _
  rw [if_neg (by omega), if_pos (by omega), Nat.add_sub_cancel_left]
theorem h_i {o f : Nat} : xk_i (Ht n0 D T m s) f (n0 + o) = lk 0 (T o).2.1 f := by
  show (if n0 + o < n0 then _ else lk 0 (T (n0 + o - n0)).2.1 f) = _
  rw [if_neg (by omega), Nat.add_sub_cancel_left]
theorem h_r {o f : Nat} : xk_r (Ht n0 D T m s) f (n0 + o) = lk none (T o).2.2.1 f := by
  show (if n0 + o < n0 then _ else lk none (T (n0 + o - n0)).2.2.1 f) = _
  rw [if_neg (by omega), Nat.add_sub_cancel_left]
theorem h_l {o : Nat} : xk_l (Ht n0 D T m s) (n0 + o) = (T o).2.2.2.1 := by
  show (if n0 + o < n0 then _ else (T (n0 + o - n0)).2.2.2.1) = _
  rw [if_neg (by omega), Nat.add_sub_cancel_left]
theorem h_e {o j : Nat} : xk_e (Ht n0 D T m s) (n0 + o) j = lk 0 (T o).2.2.2.2.1 j := by
  show (if n0 + o < n0 then _ else lk 0 (T (n0 + o - n0)).2.2.2.2.1 j) = _
  rw [if_neg (by omega), Nat.add_sub_cancel_left]
theorem h_q {o j : Nat} : xk_q (Ht n0 D T m s) (n0 + o) j = lk none (T o).2.2.2.2.2 j := by
  show (if n0 + o < n0 then _ else lk none (T (n0 + o - n0)).2.2.2.2.2 j) = _
  rw [if_neg (by omega), Nat.add_sub_cancel_left]
theorem sp {b n0 o : Nat} (h : ¬ b < n0) (h2 : b ≠ n0 + o) : b - n0 ≠ o := by omega
theorem h_mk (k l z : Nat) : xk_mk (Ht n0 D T m s) k l z = Ht n0 D (uT T m (k, [], [], l, [], [])) (m + 1) (s + z) := by
  have e : n0 + m - n0 = m := Nat.add_sub_cancel_left _ _
  refine Prod.ext (funext fun b => ?_) (Prod.ext (funext fun f => funext fun b => ?_) (Prod.ext (funext fun f => funext fun b => ?_) (Prod.ext (funext fun b => ?_) (Prod.ext (funext fun b => funext fun j => ?_) (Prod.ext (funext fun b => funext fun j => ?_) rfl)))))
  · show (if b = n0 + m then k else if b < n0 then (if b = D.1 then 34 else 0) else if b < n0 + m then (T (b - n0)).1 else 0) = (if b < n0 then (if b = D.1 then 34 else 0) else if b < n0 + (m + 1) then (uT T m (k, [], [], l, [], []) (b - n0)).1 else 0)
    by_cases q : b = n0 + m
    · subst q; rw [if_pos rfl, if_neg (by omega), if_pos (by omega), e, uT_s]
    · rw [if_neg q]
      by_cases c : b < n0
      · rw [if_pos c, if_pos c]
      · rw [if_neg c, if_neg c]
        by_cases c2 : b < n0 + m
        · rw [if_pos c2, if_pos (by omega), uT_n _ _ (sp c q)]
        · rw [if_neg c2, if_neg (by omega)]
  · show (if b = n0 + m then 0 else if b < n0 then 0 else lk 0 (T (b - n0)).2.1 f) = (if b < n0 then 0 else lk 0 (uT T m (k, [], [], l, [], []) (b - n0)).2.1 f)
    by_cases q : b = n0 + m
    · subst q; rw [if_pos rfl, if_neg (by omega), e, uT_s]; rfl
    · rw [if_neg q]
      by_cases c : b < n0
      · rw [if_pos c, if_pos c]
      · rw [if_neg c, if_neg c, uT_n _ _ (sp c q)]
  · show (if b = n0 + m then none else if b < n0 then none else lk none (T (b - n0)).2.2.1 f) = (if b < n0 then none else lk none (uT T m (k, [], [], l, [], []) (b - n0)).2.2.1 f)
    by_cases q : b = n0 + m
    · subst q; rw [if_pos rfl, if_neg (by omega), e, uT_s]; rfl
    · rw [if_neg q]
      by_cases c : b < n0
      · rw [if_pos c, if_pos c]
      · rw [if_neg c, if_neg c, uT_n _ _ (sp c q)]
  · show (if b = n0 + m then l else if b < n0 then 0 else (T (b - n0)).2.2.2.1) = (if b < n0 then 0 else (uT T m (k, [], [], l, [], []) (b - n0)).2.2.2.1)
    by_cases q : b = n0 + m
    · subst q; rw [if_pos rfl, if_neg (by omega), e, uT_s]
    · rw [if_neg q]
      by_cases c : b < n0
      · rw [if_pos c, if_pos c]
      · rw [if_neg c, if_neg c, uT_n _ _ (sp c q)]
  · show (if b = n0 + m then 0 else if b < n0 then 0 else lk 0 (T (b - n0)).2.2.2.2.1 j) = (if b < n0 then 0 else lk 0 (uT T m (k, [], [], l, [], []) (b - n0)).2.2.2.2.1 j)
    by_cases q : b = n0 + m
    · subst q; rw [if_pos rfl, if_neg (by omega), e, uT_s]; rfl
    · rw [if_neg q]
      by_cases c : b < n0
      · rw [if_pos c, if_pos c]
      · rw [if_neg c, if_neg c, uT_n _ _ (sp c q)]
  · show (if b = n0 + m then none else if b < n0 then none else lk none (T (b - n0)).2.2.2.2.2 j) = (if b < n0 then none else lk none (uT T m (k, [], [], l, [], []) (b - n0)).2.2.2.2.2 j)
    by_cases q : b = n0 + m
    · subst q; rw [if_pos rfl, if_neg (by omega), e, uT_s]; rfl
    · rw [if_neg q]
      by_cases c : b < n0
      · rw [if_pos c, if_pos c]
      · rw [if_neg c, if_neg c, uT_n _ _ (sp c q)]

theorem h_si (o f : Nat) (v : Int32) : xk_si (Ht n0 D T m s) f (n0 + o) v = Ht n0 D (uT T o ((T o).1, (f, v) :: (T o).2.1, (T o).2.2)) m s := by
  have e : n0 + o - n0 = o := Nat.add_sub_cancel_left _ _
  refine Prod.ext (funext fun b => ?_) (Prod.ext (funext fun g => funext fun b => ?_) (Prod.ext (funext fun g => funext fun b => ?_) (Prod.ext (funext fun b => ?_) (Prod.ext (funext fun b => funext fun i => ?_) (Prod.ext (funext fun b => funext fun i => ?_) rfl)))))
  · show (if b < n0 then (if b = D.1 then 34 else 0) else if b < n0 + m then (T (b - n0)).1 else 0) = (if b < n0 then (if b = D.1 then 34 else 0) else if b < n0 + m then (uT T o ((T o).1, (f, v) :: (T o).2.1, (T o).2.2) (b - n0)).1 else 0)
    by_cases q : b = n0 + o
    · subst q; rw [e, uT_s]
    · skip
      by_cases c : b < n0
      · rw [if_pos c, if_pos c]
      · rw [if_neg c, if_neg c, uT_n _ _ (sp c q)]
  · show (if g = f ∧ b = n0 + o then v else (if b < n0 then 0 else lk 0 (T (b - n0)).2.1 g)) = (if b < n0 then 0 else lk 0 (uT T o ((T o).1, (f, v) :: (T o).2.1, (T o).2.2) (b - n0)).2.1 g)
    by_cases q : b = n0 + o
    · subst q; rw [e, uT_s]
      have nl : ¬ n0 + o < n0 := by omega
      by_cases w : g = f
      · rw [if_pos ⟨w, rfl⟩, if_neg nl]; show _ = (if g = f then _ else _); rw [if_pos w]
      · rw [if_neg (fun z => w z.1), if_neg nl, if_neg nl]; show _ = (if g = f then _ else _); rw [if_neg w]
    · rw [if_neg (fun z => q z.2)]
      by_cases c : b < n0
      · rw [if_pos c, if_pos c]
      · rw [if_neg c, if_neg c, uT_n _ _ (sp c q)]
  · show (if b < n0 then none else lk none (T (b - n0)).2.2.1 g) = (if b < n0 then none else lk none (uT T o ((T o).1, (f, v) :: (T o).2.1, (T o).2.2) (b - n0)).2.2.1 g)
    by_cases q : b = n0 + o
    · subst q; rw [e, uT_s]
    · skip
      by_cases c : b < n0
      · rw [if_pos c, if_pos c]
      · rw [if_neg c, if_neg c, uT_n _ _ (sp c q)]
  · show (if b < n0 then 0 else (T (b - n0)).2.2.2.1) = (if b < n0 then 0 else (uT T o ((T o).1, (f, v) :: (T o).2.1, (T o).2.2) (b - n0)).2.2.2.1)
    by_cases q : b = n0 + o
    · subst q; rw [e, uT_s]
    · skip
      by_cases c : b < n0
      · rw [if_pos c, if_pos c]
      · rw [if_neg c, if_neg c, uT_n _ _ (sp c q)]
  · show (if b < n0 then 0 else lk 0 (T (b - n0)).2.2.2.2.1 i) = (if b < n0 then 0 else lk 0 (uT T o ((T o).1, (f, v) :: (T o).2.1, (T o).2.2) (b - n0)).2.2.2.2.1 i)
    by_cases q : b = n0 + o
    · subst q; rw [e, uT_s]
    · skip
      by_cases c : b < n0
      · rw [if_pos c, if_pos c]
      · rw [if_neg c, if_neg c, uT_n _ _ (sp c q)]
  · show (if b < n0 then none else lk none (T (b - n0)).2.2.2.2.2 i) = (if b < n0 then none else lk none (uT T o ((T o).1, (f, v) :: (T o).2.1, (T o).2.2) (b - n0)).2.2.2.2.2 i)
    by_cases q : b = n0 + o
    · subst q; rw [e, uT_s]
    · skip
      by_cases c : b < n0
      · rw [if_pos c, if_pos c]
      · rw [if_neg c, if_neg c, uT_n _ _ (sp c q)]
theorem h_sr (o f : Nat) (v : Option Nat) : xk_sr (Ht n0 D T m s) f (n0 + o) v = Ht n0 D (uT T o ((T o).1, (T o).2.1, (f, v) :: (T o).2.2.1, (T o).2.2.2)) m s := by
  have e : n0 + o - n0 = o := Nat.add_sub_cancel_left _ _
  refine Prod.ext (funext fun b => ?_) (Prod.ext (funext fun g => funext fun b => ?_) (Prod.ext (funext fun g => funext fun b => ?_) (Prod.ext (funext fun b => ?_) (Prod.ext (funext fun b => funext fun i => ?_) (Prod.ext (funext fun b => funext fun i => ?_) rfl)))))
  · show (if b < n0 then (if b = D.1 then 34 else 0) else if b < n0 + m then (T (b - n0)).1 else 0) = (if b < n0 then (if b = D.1 then 34 else 0) else if b < n0 + m then (uT T o ((T o).1, (T o).2.1, (f, v) :: (T o).2.2.1, (T o).2.2.2) (b - n0)).1 else 0)
    by_cases q : b = n0 + o
    · subst q; rw [e, uT_s]
    · skip
      by_cases c : b < n0
      · rw [if_pos c, if_pos c]
      · rw [if_neg c, if_neg c, uT_n _ _ (sp c q)]
  · show (if b < n0 then 0 else lk 0 (T (b - n0)).2.1 g) = (if b < n0 then 0 else lk 0 (uT T o ((T o).1, (T o).2.1, (f, v) :: (T o).2.2.1, (T o).2.2.2) (b - n0)).2.1 g)
    by_cases q : b = n0 + o
    · subst q; rw [e, uT_s]
    · skip
      by_cases c : b < n0
      · rw [if_pos c, if_pos c]
      · rw [if_neg c, if_neg c, uT_n _ _ (sp c q)]
  · show (if g = f ∧ b = n0 + o then v else (if b < n0 then none else lk none (T (b - n0)).2.2.1 g)) = (if b < n0 then none else lk none (uT T o ((T o).1, (T o).2.1, (f, v) :: (T o).2.2.1, (T o).2.2.2) (b - n0)).2.2.1 g)
    by_cases q : b = n0 + o
    · subst q; rw [e, uT_s]
      have nl : ¬ n0 + o < n0 := by omega
      by_cases w : g = f
      · rw [if_pos ⟨w, rfl⟩, if_neg nl]; show _ = (if g = f then _ else _); rw [if_pos w]
      · rw [if_neg (fun z => w z.1), if_neg nl, if_neg nl]; show _ = (if g = f then _ else _); rw [if_neg w]
    · rw [if_neg (fun z => q z.2)]
      by_cases c : b < n0
      · rw [if_pos c, if_pos c]
      · rw [if_neg c, if_neg c, uT_n _ _ (sp c q)]
  · show (if b < n0 then 0 else (T (b - n0)).2.2.2.1) = (if b < n0 then 0 else (uT T o ((T o).1, (T o).2.1, (f, v) :: (T o).2.2.1, (T o).2.2.2) (b - n0)).2.2.2.1)
    by_cases q : b = n0 + o
    · subst q; rw [e, uT_s]
    · skip
      by_cases c : b < n0
      · rw [if_pos c, if_pos c]
      · rw [if_neg c, if_neg c, uT_n _ _ (sp c q)]
  · show (if b < n0 then 0 else lk 0 (T (b - n0)).2.2.2.2.1 i) = (if b < n0 then 0 else lk 0 (uT T o ((T o).1, (T o).2.1, (f, v) :: (T o).2.2.1, (T o).2.2.2) (b - n0)).2.2.2.2.1 i)
    by_cases q : b = n0 + o
    · subst q; rw [e, uT_s]
    · skip
      by_cases c : b < n0
      · rw [if_pos c, if_pos c]
      · rw [if_neg c, if_neg c, uT_n _ _ (sp c q)]
  · show (if b < n0 then none else lk none (T (b - n0)).2.2.2.2.2 i) = (if b < n0 then none else lk none (uT T o ((T o).1, (T o).2.1, (f, v) :: (T o).2.2.1, (T o).2.2.2) (b - n0)).2.2.2.2.2 i)
    by_cases q : b = n0 + o
    · subst q; rw [e, uT_s]
    · skip
      by_cases c : b < n0
      · rw [if_pos c, if_pos c]
      · rw [if_neg c, if_neg c, uT_n _ _ (sp c q)]
theorem h_se (o j : Nat) (v : Int32) : xk_se (Ht n0 D T m s) (n0 + o) j v = Ht n0 D (uT T o ((T o).1, (T o).2.1, (T o).2.2.1, (T o).2.2.2.1, (j, v) :: (T o).2.2.2.2.1, (T o).2.2.2.2.2)) m s := by
  have e : n0 + o - n0 = o := Nat.add_sub_cancel_left _ _
  refine Prod.ext (funext fun b => ?_) (Prod.ext (funext fun g => funext fun b => ?_) (Prod.ext (funext fun g => funext fun b => ?_) (Prod.ext (funext fun b => ?_) (Prod.ext (funext fun b => funext fun i => ?_) (Prod.ext (funext fun b => funext fun i => ?_) rfl)))))
  · show (if b < n0 then (if b = D.1 then 34 else 0) else if b < n0 + m then (T (b - n0)).1 else 0) = (if b < n0 then (if b = D.1 then 34 else 0) else if b < n0 + m then (uT T o ((T o).1, (T o).2.1, (T o).2.2.1, (T o).2.2.2.1, (j, v) :: (T o).2.2.2.2.1, (T o).2.2.2.2.2) (b - n0)).1 else 0)
    by_cases q : b = n0 + o
    · subst q; rw [e, uT_s]
    · skip
      by_cases c : b < n0
      · rw [if_pos c, if_pos c]
      · rw [if_neg c, if_neg c, uT_n _ _ (sp c q)]
  · show (if b < n0 then 0 else lk 0 (T (b - n0)).2.1 g) = (if b < n0 then 0 else lk 0 (uT T o ((T o).1, (T o).2.1, (T o).2.2.1, (T o).2.2.2.1, (j, v) :: (T o).2.2.2.2.1, (T o).2.2.2.2.2) (b - n0)).2.1 g)
    by_cases q : b = n0 + o
    · subst q; rw [e, uT_s]
    · skip
      by_cases c : b < n0
      · rw [if_pos c, if_pos c]
      · rw [if_neg c, if_neg c, uT_n _ _ (sp c q)]
  · show (if b < n0 then none else lk none (T (b - n0)).2.2.1 g) = (if b < n0 then none else lk none (uT T o ((T o).1, (T o).2.1, (T o).2.2.1, (T o).2.2.2.1, (j, v) :: (T o).2.2.2.2.1, (T o).2.2.2.2.2) (b - n0)).2.2.1 g)
    by_cases q : b = n0 + o
    · subst q; rw [e, uT_s]
    · skip
      by_cases c : b < n0
      · rw [if_pos c, if_pos c]
      · rw [if_neg c, if_neg c, uT_n _ _ (sp c q)]
  · show (if b < n0 then 0 else (T (b - n0)).2.2.2.1) = (if b < n0 then 0 else (uT T o ((T o).1, (T o).2.1, (T o).2.2.1, (T o).2.2.2.1, (j, v) :: (T o).2.2.2.2.1, (T o).2.2.2.2.2) (b - n0)).2.2.2.1)
    by_cases q : b = n0 + o
    · subst q; rw [e, uT_s]
    · skip
      by_cases c : b < n0
      · rw [if_pos c, if_pos c]
      · rw [if_neg c, if_neg c, uT_n _ _ (sp c q)]
  · show (if b = n0 + o ∧ i = j then v else (if b < n0 then 0 else lk 0 (T (b - n0)).2.2.2.2.1 i)) = (if b < n0 then 0 else lk 0 (uT T o ((T o).1, (T o).2.1, (T o).2.2.1, (T o).2.2.2.1, (j, v) :: (T o).2.2.2.2.1, (T o).2.2.2.2.2) (b - n0)).2.2.2.2.1 i)
    by_cases q : b = n0 + o
    · subst q; rw [e, uT_s]
      have nl : ¬ n0 + o < n0 := by omega
      by_cases w : i = j
      · rw [if_pos ⟨rfl, w⟩, if_neg nl]; show _ = (if i = j then _ else _); rw [if_pos w]
      · rw [if_neg (fun z => w z.2), if_neg nl, if_neg nl]; show _ = (if i = j then _ else _); rw [if_neg w]
    · rw [if_neg (fun z => q z.1)]
      by_cases c : b < n0
      · rw [if_pos c, if_pos c]
      · rw [if_neg c, if_neg c, uT_n _ _ (sp c q)]
  · show (if b < n0 then none else lk none (T (b - n0)).2.2.2.2.2 i) = (if b < n0 then none else lk none (uT T o ((T o).1, (T o).2.1, (T o).2.2.1, (T o).2.2.2.1, (j, v) :: (T o).2.2.2.2.1, (T o).2.2.2.2.2) (b - n0)).2.2.2.2.2 i)
    by_cases q : b = n0 + o
    · subst q; rw [e, uT_s]
    · skip
      by_cases c : b < n0
      · rw [if_pos c, if_pos c]
      · rw [if_neg c, if_neg c, uT_n _ _ (sp c q)]
theorem h_sq (o j : Nat) (v : Option Nat) : xk_sq (Ht n0 D T m s) (n0 + o) j v = Ht n0 D (uT T o ((T o).1, (T o).2.1, (T o).2.2.1, (T o).2.2.2.1, (T o).2.2.2.2.1, (j, v) :: (T o).2.2.2.2.2)) m s := by
  have e : n0 + o - n0 = o := Nat.add_sub_cancel_left _ _
  refine Prod.ext (funext fun b => ?_) (Prod.ext (funext fun g => funext fun b => ?_) (Prod.ext (funext fun g => funext fun b => ?_) (Prod.ext (funext fun b => ?_) (Prod.ext (funext fun b => funext fun i => ?_) (Prod.ext (funext fun b => funext fun i => ?_) rfl)))))
  · show (if b < n0 then (if b = D.1 then 34 else 0) else if b < n0 + m then (T (b - n0)).1 else 0) = (if b < n0 then (if b = D.1 then 34 else 0) else if b < n0 + m then (uT T o ((T o).1, (T o).2.1, (T o).2.2.1, (T o).2.2.2.1, (T o).2.2.2.2.1, (j, v) :: (T o).2.2.2.2.2) (b - n0)).1 else 0)
    by_cases q : b = n0 + o
    · subst q; rw [e, uT_s]
    · skip
      by_cases c : b < n0
      · rw [if_pos c, if_pos c]
      · rw [if_neg c, if_neg c, uT_n _ _ (sp c q)]
  · show (if b < n0 then 0 else lk 0 (T (b - n0)).2.1 g) = (if b < n0 then 0 else lk 0 (uT T o ((T o).1, (T o).2.1, (T o).2.2.1, (T o).2.2.2.1, (T o).2.2.2.2.1, (j, v) :: (T o).2.2.2.2.2) (b - n0)).2.1 g)
    by_cases q : b = n0 + o
    · subst q; rw [e, uT_s]
    · skip
      by_cases c : b < n0
      · rw [if_pos c, if_pos c]
      · rw [if_neg c, if_neg c, uT_n _ _ (sp c q)]
  · show (if b < n0 then none else lk none (T (b - n0)).2.2.1 g) = (if b < n0 then none else lk none (uT T o ((T o).1, (T o).2.1, (T o).2.2.1, (T o).2.2.2.1, (T o).2.2.2.2.1, (j, v) :: (T o).2.2.2.2.2) (b - n0)).2.2.1 g)
    by_cases q : b = n0 + o
    · subst q; rw [e, uT_s]
    · skip
      by_cases c : b < n0
      · rw [if_pos c, if_pos c]
      · rw [if_neg c, if_neg c, uT_n _ _ (sp c q)]
  · show (if b < n0 then 0 else (T (b - n0)).2.2.2.1) = (if b < n0 then 0 else (uT T o ((T o).1, (T o).2.1, (T o).2.2.1, (T o).2.2.2.1, (T o).2.2.2.2.1, (j, v) :: (T o).2.2.2.2.2) (b - n0)).2.2.2.1)
    by_cases q : b = n0 + o
    · subst q; rw [e, uT_s]
    · skip
      by_cases c : b < n0
      · rw [if_pos c, if_pos c]
      · rw [if_neg c, if_neg c, uT_n _ _ (sp c q)]
  · show (if b < n0 then 0 else lk 0 (T (b - n0)).2.2.2.2.1 i) = (if b < n0 then 0 else lk 0 (uT T o ((T o).1, (T o).2.1, (T o).2.2.1, (T o).2.2.2.1, (T o).2.2.2.2.1, (j, v) :: (T o).2.2.2.2.2) (b - n0)).2.2.2.2.1 i)
    by_cases q : b = n0 + o
    · subst q; rw [e, uT_s]
    · skip
      by_cases c : b < n0
      · rw [if_pos c, if_pos c]
      · rw [if_neg c, if_neg c, uT_n _ _ (sp c q)]
  · show (if b = n0 + o ∧ i = j then v else (if b < n0 then none else lk none (T (b - n0)).2.2.2.2.2 i)) = (if b < n0 then none else lk none (uT T o ((T o).1, (T o).2.1, (T o).2.2.1, (T o).2.2.2.1, (T o).2.2.2.2.1, (j, v) :: (T o).2.2.2.2.2) (b - n0)).2.2.2.2.2 i)
    by_cases q : b = n0 + o
    · subst q; rw [e, uT_s]
      have nl : ¬ n0 + o < n0 := by omega
      by_cases w : i = j
      · rw [if_pos ⟨rfl, w⟩, if_neg nl]; show _ = (if i = j then _ else _); rw [if_pos w]
      · rw [if_neg (fun z => w z.2), if_neg nl, if_neg nl]; show _ = (if i = j then _ else _); rw [if_neg w]
    · rw [if_neg (fun z => q z.1)]
      by_cases c : b < n0
      · rw [if_pos c, if_pos c]
      · rw [if_neg c, if_neg c, uT_n _ _ (sp c q)]
variable {β : Type} {k : xk_C → Option β} {R : β}
theorem n_nw (ci : Nat) (kk : k (Ht n0 D (uT T m (ci + 1, [], [], 0, [], [])) (m + 1) (s + xk_N ci)) = some R) : (xk_nw (Ht n0 D T m s) ci).bind k = some R := by
  unfold xk_nw; rw [h_mk]; exact kk
theorem n_na (t l : Nat) (hl : l ≤ 1000000) (kk : k (Ht n0 D (uT T m (30 + t, [], [], l, [], [])) (m + 1) (s + l)) = some R) : (xk_na (Ht n0 D T m s) t (nI l)).bind k = some R := by
  rw [p_na hl, h_mk]; exact kk
theorem n_pr (o f : Nat) {v : Option Nat} (r r' : tR) (ho : o < m) (hr : T o = r) (hf : xk_has r.1 f = true) (hr' : (r.1, r.2.1, (f, v) :: r.2.2.1, r.2.2.2) = r') (kk : k (Ht n0 D (uT T o r') m s) = some R) : (xk_pr (Ht n0 D T m s) f (some (n0 + o)) v).bind k = some R := by
  subst hr hr'
  rw [p_r (h_k ho) hf, h_sr]; exact kk
theorem n_pi (o f : Nat) {v : Int32} (r r' : tR) (ho : o < m) (hr : T o = r) (hf : xk_has r.1 f = true) (hr' : (r.1, (f, v) :: r.2.1, r.2.2) = r') (kk : k (Ht n0 D (uT T o r') m s) = some R) : (xk_pi (Ht n0 D T m s) f (some (n0 + o)) v).bind k = some R := by
  subst hr hr'
  rw [p_i (h_k ho) hf, h_si]; exact kk
theorem n_st (o t j : Nat) {v u : Int32} (r r' : tR) (ho : o < m) (hr : T o = r) (hk : r.1 = 30 + t) (hj : j < r.2.2.2.1) (hl : j < 2147483648) (hu : xk_nr t v = u) (hr' : (r.1, r.2.1, r.2.2.1, r.2.2.2.1, (j, u) :: r.2.2.2.2.1, r.2.2.2.2.2) = r') (kk : k (Ht n0 D (uT T o r') m s) = some R) : (xk_st (Ht n0 D T m s) t (some (n0 + o)) (nI j) v).bind k = some R := by
  subst hr hr'
  unfold xk_st
  rw [g_ok ((h_k ho).trans hk) (by rw [h_l]; exact hj) hl]
  dsimp only
  rw [s_tn j hl, hu, h_se]; exact kk
theorem n_sa (o t j p kp : Nat) (r r' : tR) (ho : o < m) (hr : T o = r) (hk : r.1 = 30 + t) (hj : j < r.2.2.2.1) (hl : j < 2147483648) (hp : p < m) (hkp : (T p).1 = kp) (hh : xk_hold t kp = true) (hr' : (r.1, r.2.1, r.2.2.1, r.2.2.2.1, r.2.2.2.2.1, (j, some (n0 + p)) :: r.2.2.2.2.2) = r') (kk : k (Ht n0 D (uT T o r') m s) = some R) : (xk_sa (Ht n0 D T m s) t (some (n0 + o)) (nI j) (some (n0 + p))).bind k = some R := by
  subst hr hr' hkp
  rw [p_sa ((h_k ho).trans hk) (by rw [h_l]; exact hj) hl (by show xk_hold t (xk_k _ (n0 + p)) = true; rw [h_k hp]; exact hh), h_sq]; exact kk
theorem n_J2 (o : Nat) {k : xk_C × Unit → Option β} (ho : o < m) (hk : T o = (21, [], [], 0, [], [])) (kk : k (Ht n0 D (uT T o (21, [(101, 0)], [(102, some D.1)], 0, [], [])) m s, ()) = some R) : (fJ2_init (n0 + o) (Ht n0 D T m s)).bind k = some R := by
  unfold fJ2_init fJ1_init
  show ((((xk_pi (Ht n0 D T m s) 101 (some (n0 + o)) 0).bind fun σ2 => some (σ2, ())).bind _).bind k) = some R
  have hk1 : xk_k (Ht n0 D T m s) (n0 + o) = 21 := (h_k ho).trans (by rw [hk])
  rw [p_i hk1 rfl, h_si, ev_b, ev_b, p_r (f := 102) (k := 21) (by rw [h_k ho, uT_s, hk]) rfl, ev_b, ev_b]
  dsimp only
  rw [h_sr, uT_s, hk]
  have e : ∀ r1 r2, uT (uT T o r1) o r2 = uT T o r2 := fun r1 r2 => by
    funext p
    by_cases q : p = o
    · subst q; rw [uT_s, uT_s]
    · rw [uT_n _ _ q, uT_n _ _ q, uT_n _ _ q]
  rw [e]; exact kk
end
section
variable {n0 : Nat} {D : Nat × Option Nat × Option Nat × Nat}
theorem n_X1 {β : Type} {k : Unit → Option β} {R : β} {a : Nat} {C : xk_C} (kk : k () = some R) : (fX1_init a C).bind k = some R := kk
theorem n_gr {T : Nat → tR} {m s : Nat} {β : Type} {k : Option Nat → Option β} {R : β} (o f : Nat) {v : Option Nat} (ho : o < m) (hf : xk_has (T o).1 f = true) (hv : lk none (T o).2.2.1 f = v) (kk : k v = some R) : (xk_gr (Ht n0 D T m s) f (some (n0 + o))).bind k = some R := by
  rw [g_r (h_k ho) hf, h_r, hv]; exact kk
def X2T (n0 : Nat) (T : Nat → tR) : Nat → tR := fun o => match o with
  | 8 => (3, [], [(32, some (n0 + 9)), (36, some (n0 + 0))], 0, [], [])
  | 9 => (39, [], [], 4, [], [(3, some (n0 + 13)), (2, some (n0 + 12)), (1, some (n0 + 11)), (0, some (n0 + 10))])
  | 10 => (32, [], [], 4, [(3, 101), (2, 107), (1, 97), (0, 116)], [])
  | 11 => (32, [], [], 5, [(4, 107), (3, 99), (2, 111), (1, 110), (0, 107)], [])
  | 12 => (32, [], [], 4, [(3, 101), (2, 118), (1, 105), (0, 103)], [])
  | 13 => (32, [], [], 4, [(3, 116), (2, 105), (1, 97), (0, 119)], [])
  | o => T o
theorem t_X2u (T : Nat → tR) (s : Nat) : fX2_init (n0 + 8) (Ht n0 D (uT T 8 (3, [], [], 0, [], [])) 9 s) (some n0) = some (Ht n0 D (X2T n0 T) 14 (s + 21), ()) := by
  have e2 : ∀ T3 : Nat → tR, T3 = X2T n0 T → some (Ht n0 D T3 14 (s + 21), ()) = some (Ht n0 D (X2T n0 T) 14 (s + 21), ()) := fun T3 h => by rw [h]
  refine Eq.trans (b := some (Ht n0 D ?T3 14 (s + 21), ())) ?h (e2 _ ?g)
  case h =>
    unfold fX2_init
    refine n_pr (v := some (n0 + 0)) 8 36 (3, [], [], 0, [], []) (3, [], [(36, some (n0 + 0))], 0, [], []) (by decide) rfl rfl rfl ?_
    refine n_na (m := 9) 9 4 (by decide) ?_
    refine n_na (m := 10) 2 4 (by decide) ?_
    refine n_st (v := nI 116) (u := 116) 10 2 0 (32, [], [], 4, [], []) (32, [], [], 4, [(0, 116)], []) (by decide) rfl rfl (by decide) (by decide) (by decide) rfl ?_
    refine n_st (v := nI 97) (u := 97) 10 2 1 (32, [], [], 4, [(0, 116)], []) (32, [], [], 4, [(1, 97), (0, 116)], []) (by decide) rfl rfl (by decide) (by decide) (by decide) rfl ?_
    refine n_st (v := nI 107) (u := 107) 10 2 2 (32, [], [], 4, [(1, 97), (0, 116)], []) (32, [], [], 4, [(2, 107), (1, 97), (0, 116)], []) (by decide) rfl rfl (by decide) (by decide) (by decide) rfl ?_
    refine n_st (v := nI 101) (u := 101) 10 2 3 (32, [], [], 4, [(2, 107), (1, 97), (0, 116)], []) (32, [], [], 4, [(3, 101), (2, 107), (1, 97), (0, 116)], []) (by decide) rfl rfl (by decide) (by decide) (by decide) rfl ?_
    refine n_sa 9 9 0 10 32 (39, [], [], 4, [], []) (39, [], [], 4, [], [(0, some (n0 + 10))]) (by decide) rfl rfl (Nat.le_of_ble_eq_true rfl) (by decide) (by decide) rfl rfl rfl ?_
    refine n_na (m := 11) 2 5 (by decide) ?_
    refine n_st (v := nI 107) (u := 107) 11 2 0 (32, [], [], 5, [], []) (32, [], [], 5, [(0, 107)], []) (by decide) rfl rfl (by decide) (by decide) (by decide) rfl ?_
    refine n_st (v := nI 110) (u := 110) 11 2 1 (32, [], [], 5, [(0, 107)], []) (32, [], [], 5, [(1, 110), (0, 107)], []) (by decide) rfl rfl (by decide) (by decide) (by decide) rfl ?_
    refine n_st (v := nI 111) (u := 111) 11 2 2 (32, [], [], 5, [(1, 110), (0, 107)], []) (32, [], [], 5, [(2, 111), (1, 110), (0, 107)], []) (by decide) rfl rfl (by decide) (by decide) (by decide) rfl ?_
    refine n_st (v := nI 99) (u := 99) 11 2 3 (32, [], [], 5, [(2, 111), (1, 110), (0, 107)], []) (32, [], [], 5, [(3, 99), (2, 111), (1, 110), (0, 107)], []) (by decide) rfl rfl (by decide) (by decide) (by decide) rfl ?_
    refine n_st (v := nI 107) (u := 107) 11 2 4 (32, [], [], 5, [(3, 99), (2, 111), (1, 110), (0, 107)], []) (32, [], [], 5, [(4, 107), (3, 99), (2, 111), (1, 110), (0, 107)], []) (by decide) rfl rfl (by decide) (by decide) (by decide) rfl ?_
    refine n_sa 9 9 1 11 32 (39, [], [], 4, [], [(0, some (n0 + 10))]) (39, [], [], 4, [], [(1, some (n0 + 11)), (0, some (n0 + 10))]) (by decide) rfl rfl (Nat.le_of_ble_eq_true rfl) (by decide) (by decide) rfl rfl rfl ?_
    refine n_na (m := 12) 2 4 (by decide) ?_
    refine n_st (v := nI 103) (u := 103) 12 2 0 (32, [], [], 4, [], []) (32, [], [], 4, [(0, 103)], []) (by decide) rfl rfl (by decide) (by decide) (by decide) rfl ?_
    refine n_st (v := nI 105) (u := 105) 12 2 1 (32, [], [], 4, [(0, 103)], []) (32, [], [], 4, [(1, 105), (0, 103)], []) (by decide) rfl rfl (by decide) (by decide) (by decide) rfl ?_
    refine n_st (v := nI 118) (u := 118) 12 2 2 (32, [], [], 4, [(1, 105), (0, 103)], []) (32, [], [], 4, [(2, 118), (1, 105), (0, 103)], []) (by decide) rfl rfl (by decide) (by decide) (by decide) rfl ?_
    refine n_st (v := nI 101) (u := 101) 12 2 3 (32, [], [], 4, [(2, 118), (1, 105), (0, 103)], []) (32, [], [], 4, [(3, 101), (2, 118), (1, 105), (0, 103)], []) (by decide) rfl rfl (by decide) (by decide) (by decide) rfl ?_
    refine n_sa 9 9 2 12 32 (39, [], [], 4, [], [(1, some (n0 + 11)), (0, some (n0 + 10))]) (39, [], [], 4, [], [(2, some (n0 + 12)), (1, some (n0 + 11)), (0, some (n0 + 10))]) (by decide) rfl rfl (Nat.le_of_ble_eq_true rfl) (by decide) (by decide) rfl rfl rfl ?_
    refine n_na (m := 13) 2 4 (by decide) ?_
    refine n_st (v := nI 119) (u := 119) 13 2 0 (32, [], [], 4, [], []) (32, [], [], 4, [(0, 119)], []) (by decide) rfl rfl (by decide) (by decide) (by decide) rfl ?_
    refine n_st (v := nI 97) (u := 97) 13 2 1 (32, [], [], 4, [(0, 119)], []) (32, [], [], 4, [(1, 97), (0, 119)], []) (by decide) rfl rfl (by decide) (by decide) (by decide) rfl ?_
    refine n_st (v := nI 105) (u := 105) 13 2 2 (32, [], [], 4, [(1, 97), (0, 119)], []) (32, [], [], 4, [(2, 105), (1, 97), (0, 119)], []) (by decide) rfl rfl (by decide) (by decide) (by decide) rfl ?_
    refine n_st (v := nI 116) (u := 116) 13 2 3 (32, [], [], 4, [(2, 105), (1, 97), (0, 119)], []) (32, [], [], 4, [(3, 116), (2, 105), (1, 97), (0, 119)], []) (by decide) rfl rfl (by decide) (by decide) (by decide) rfl ?_
    refine n_sa 9 9 3 13 32 (39, [], [], 4, [], [(2, some (n0 + 12)), (1, some (n0 + 11)), (0, some (n0 + 10))]) (39, [], [], 4, [], [(3, some (n0 + 13)), (2, some (n0 + 12)), (1, some (n0 + 11)), (0, some (n0 + 10))]) (by decide) rfl rfl (Nat.le_of_ble_eq_true rfl) (by decide) (by decide) rfl rfl rfl ?_
    refine n_pr (v := some (n0 + 9)) 8 32 (3, [], [(36, some (n0 + 0))], 0, [], []) (3, [], [(32, some (n0 + 9)), (36, some (n0 + 0))], 0, [], []) (by decide) rfl rfl rfl ?_
    exact rfl
  case g =>
    funext p
    by_cases q : p < 14
    · exact match p, q with
      | 0, _ => rfl
      | 1, _ => rfl
      | 2, _ => rfl
      | 3, _ => rfl
      | 4, _ => rfl
      | 5, _ => rfl
      | 6, _ => rfl
      | 7, _ => rfl
      | 8, _ => rfl
      | 9, _ => rfl
      | 10, _ => rfl
      | 11, _ => rfl
      | 12, _ => rfl
      | 13, _ => rfl
      | p + 14, h => absurd h (by omega)
    · obtain ⟨p, rfl⟩ : ∃ r, p = r + 14 := ⟨p - 14, by omega⟩
      show _ = T (p + 14)
      simp only [uT]
      repeat rw [if_neg (by omega)]
theorem t_X2 (T : Nat → tR) (s : Nat) (h8 : T 8 = (3, [], [], 0, [], [])) : fX2_init (n0 + 8) (Ht n0 D T 9 s) (some n0) = some (Ht n0 D (X2T n0 T) 14 (s + 21), ()) := by
  have e : uT T 8 (3, [], [], 0, [], []) = T := by
    funext p; by_cases q : p = 8
    · rw [q, uT_s, h8]
    · rw [uT_n _ _ q]
  have h := t_X2u (n0 := n0) (D := D) T s
  rw [e] at h
  exact h
theorem n_X2 {T : Nat → tR} {s : Nat} {β : Type} {k : xk_C × Unit → Option β} {R : β} (h8 : T 8 = (3, [], [], 0, [], [])) (kk : k (Ht n0 D (X2T n0 T) 14 (s + 21), ()) = some R) : (fX2_init (n0 + 8) (Ht n0 D T 9 s) (some n0)).bind k = some R := by
  rw [t_X2 T s h8]; exact kk
theorem t_X0 (s : Nat) : ∃ T z, fX0_init n0 (Ht n0 D (fun _ => (1, [], [], 0, [], [])) 1 s) = some (Ht n0 D T 19 z, ()) ∧ z ≤ s + 1000 ∧ T 0 = (1, [(5, 1)], [(23, some (n0 + 18)), (19, some (n0 + 17)), (18, some (n0 + 16)), (17, some (n0 + 15)), (13, some (n0 + 14)), (12, some (n0 + 8)), (11, some (n0 + 7)), (10, some (n0 + 6)), (8, some (n0 + 5)), (7, some (n0 + 4)), (3, some (n0 + 3)), (2, some (n0 + 2)), (0, some (n0 + 1))], 0, [], []) ∧ T 1 = (21, [(101, 0)], [(102, some D.1)], 0, [], []) ∧ T 2 = (30, [], [], 20, [], []) ∧ T 3 = (21, [(101, 0)], [(102, some D.1)], 0, [], []) ∧ T 4 = (30, [], [], 3, [], []) ∧ T 5 = (31, [], [], 120, [], []) ∧ T 6 = (2, [], [], 0, [], []) ∧ T 7 = (21, [(101, 0)], [(102, some D.1)], 0, [], []) ∧ T 8 = (3, [], [(32, some (n0 + 9)), (36, some (n0 + 0))], 0, [], []) ∧ T 9 = (39, [], [], 4, [], [(3, some (n0 + 13)), (2, some (n0 + 12)), (1, some (n0 + 11)), (0, some (n0 + 10))]) ∧ T 10 = (32, [], [], 4, [(3, 101), (2, 107), (1, 97), (0, 116)], []) ∧ T 11 = (32, [], [], 5, [(4, 107), (3, 99), (2, 111), (1, 110), (0, 107)], []) ∧ T 12 = (32, [], [], 4, [(3, 101), (2, 118), (1, 105), (0, 103)], []) ∧ T 13 = (32, [], [], 4, [(3, 116), (2, 105), (1, 97), (0, 119)], []) ∧ T 14 = (30, [], [], 12, [], []) ∧ T 15 = (36, [], [], 6, [], []) ∧ T 16 = (37, [], [], 6, [], []) ∧ T 17 = (37, [], [], 6, [], []) ∧ T 18 = (21, [(101, 0)], [(102, some D.1)], 0, [], []) := by
  refine ⟨?T, ?z, ?h, ?le, ?r⟩
  case h =>
    unfold fX0_init
    refine n_nw (m := 1) 20 ?_
    refine n_J2 1 (by decide) rfl ?_
    refine n_pr (v := some (n0 + 1)) 0 0 (1, [], [], 0, [], []) (1, [], [(0, some (n0 + 1))], 0, [], []) (by decide) rfl rfl rfl ?_
    refine n_na (m := 2) 0 20 (by decide) ?_
    refine n_pr (v := some (n0 + 2)) 0 2 (1, [], [(0, some (n0 + 1))], 0, [], []) (1, [], [(2, some (n0 + 2)), (0, some (n0 + 1))], 0, [], []) (by decide) rfl rfl rfl ?_
    refine n_nw (m := 3) 20 ?_
    refine n_J2 3 (by decide) rfl ?_
    refine n_pr (v := some (n0 + 3)) 0 3 (1, [], [(2, some (n0 + 2)), (0, some (n0 + 1))], 0, [], []) (1, [], [(3, some (n0 + 3)), (2, some (n0 + 2)), (0, some (n0 + 1))], 0, [], []) (by decide) rfl rfl rfl ?_
    refine n_pi (v := 1) 0 5 (1, [], [(3, some (n0 + 3)), (2, some (n0 + 2)), (0, some (n0 + 1))], 0, [], []) (1, [(5, 1)], [(3, some (n0 + 3)), (2, some (n0 + 2)), (0, some (n0 + 1))], 0, [], []) (by decide) rfl rfl rfl ?_
    refine n_na (m := 4) 0 3 (by decide) ?_
    refine n_pr (v := some (n0 + 4)) 0 7 (1, [(5, 1)], [(3, some (n0 + 3)), (2, some (n0 + 2)), (0, some (n0 + 1))], 0, [], []) (1, [(5, 1)], [(7, some (n0 + 4)), (3, some (n0 + 3)), (2, some (n0 + 2)), (0, some (n0 + 1))], 0, [], []) (by decide) rfl rfl rfl ?_
    refine n_na (m := 5) 1 120 (by decide) ?_
    refine n_pr (v := some (n0 + 5)) 0 8 (1, [(5, 1)], [(7, some (n0 + 4)), (3, some (n0 + 3)), (2, some (n0 + 2)), (0, some (n0 + 1))], 0, [], []) (1, [(5, 1)], [(8, some (n0 + 5)), (7, some (n0 + 4)), (3, some (n0 + 3)), (2, some (n0 + 2)), (0, some (n0 + 1))], 0, [], []) (by decide) rfl rfl rfl ?_
    refine n_nw (m := 6) 1 ?_
    refine n_X1 ?_
    refine n_pr (v := some (n0 + 6)) 0 10 (1, [(5, 1)], [(8, some (n0 + 5)), (7, some (n0 + 4)), (3, some (n0 + 3)), (2, some (n0 + 2)), (0, some (n0 + 1))], 0, [], []) (1, [(5, 1)], [(10, some (n0 + 6)), (8, some (n0 + 5)), (7, some (n0 + 4)), (3, some (n0 + 3)), (2, some (n0 + 2)), (0, some (n0 + 1))], 0, [], []) (by decide) rfl rfl rfl ?_
    refine n_nw (m := 7) 20 ?_
    refine n_J2 7 (by decide) rfl ?_
    refine n_pr (v := some (n0 + 7)) 0 11 (1, [(5, 1)], [(10, some (n0 + 6)), (8, some (n0 + 5)), (7, some (n0 + 4)), (3, some (n0 + 3)), (2, some (n0 + 2)), (0, some (n0 + 1))], 0, [], []) (1, [(5, 1)], [(11, some (n0 + 7)), (10, some (n0 + 6)), (8, some (n0 + 5)), (7, some (n0 + 4)), (3, some (n0 + 3)), (2, some (n0 + 2)), (0, some (n0 + 1))], 0, [], []) (by decide) rfl rfl rfl ?_
    refine n_nw (m := 8) 2 ?_
    refine n_X2 rfl ?_
    refine n_pr (v := some (n0 + 8)) 0 12 (1, [(5, 1)], [(11, some (n0 + 7)), (10, some (n0 + 6)), (8, some (n0 + 5)), (7, some (n0 + 4)), (3, some (n0 + 3)), (2, some (n0 + 2)), (0, some (n0 + 1))], 0, [], []) (1, [(5, 1)], [(12, some (n0 + 8)), (11, some (n0 + 7)), (10, some (n0 + 6)), (8, some (n0 + 5)), (7, some (n0 + 4)), (3, some (n0 + 3)), (2, some (n0 + 2)), (0, some (n0 + 1))], 0, [], []) (by decide) rfl rfl rfl ?_
    refine n_na (m := 14) 0 12 (by decide) ?_
    refine n_pr (v := some (n0 + 14)) 0 13 (1, [(5, 1)], [(12, some (n0 + 8)), (11, some (n0 + 7)), (10, some (n0 + 6)), (8, some (n0 + 5)), (7, some (n0 + 4)), (3, some (n0 + 3)), (2, some (n0 + 2)), (0, some (n0 + 1))], 0, [], []) (1, [(5, 1)], [(13, some (n0 + 14)), (12, some (n0 + 8)), (11, some (n0 + 7)), (10, some (n0 + 6)), (8, some (n0 + 5)), (7, some (n0 + 4)), (3, some (n0 + 3)), (2, some (n0 + 2)), (0, some (n0 + 1))], 0, [], []) (by decide) rfl rfl rfl ?_
    refine n_na (m := 15) 6 6 (by decide) ?_
    refine n_pr (v := some (n0 + 15)) 0 17 (1, [(5, 1)], [(13, some (n0 + 14)), (12, some (n0 + 8)), (11, some (n0 + 7)), (10, some (n0 + 6)), (8, some (n0 + 5)), (7, some (n0 + 4)), (3, some (n0 + 3)), (2, some (n0 + 2)), (0, some (n0 + 1))], 0, [], []) (1, [(5, 1)], [(17, some (n0 + 15)), (13, some (n0 + 14)), (12, some (n0 + 8)), (11, some (n0 + 7)), (10, some (n0 + 6)), (8, some (n0 + 5)), (7, some (n0 + 4)), (3, some (n0 + 3)), (2, some (n0 + 2)), (0, some (n0 + 1))], 0, [], []) (by decide) rfl rfl rfl ?_
    refine n_na (m := 16) 7 6 (by decide) ?_
    refine n_pr (v := some (n0 + 16)) 0 18 (1, [(5, 1)], [(17, some (n0 + 15)), (13, some (n0 + 14)), (12, some (n0 + 8)), (11, some (n0 + 7)), (10, some (n0 + 6)), (8, some (n0 + 5)), (7, some (n0 + 4)), (3, some (n0 + 3)), (2, some (n0 + 2)), (0, some (n0 + 1))], 0, [], []) (1, [(5, 1)], [(18, some (n0 + 16)), (17, some (n0 + 15)), (13, some (n0 + 14)), (12, some (n0 + 8)), (11, some (n0 + 7)), (10, some (n0 + 6)), (8, some (n0 + 5)), (7, some (n0 + 4)), (3, some (n0 + 3)), (2, some (n0 + 2)), (0, some (n0 + 1))], 0, [], []) (by decide) rfl rfl rfl ?_
    refine n_na (m := 17) 7 6 (by decide) ?_
    refine n_pr (v := some (n0 + 17)) 0 19 (1, [(5, 1)], [(18, some (n0 + 16)), (17, some (n0 + 15)), (13, some (n0 + 14)), (12, some (n0 + 8)), (11, some (n0 + 7)), (10, some (n0 + 6)), (8, some (n0 + 5)), (7, some (n0 + 4)), (3, some (n0 + 3)), (2, some (n0 + 2)), (0, some (n0 + 1))], 0, [], []) (1, [(5, 1)], [(19, some (n0 + 17)), (18, some (n0 + 16)), (17, some (n0 + 15)), (13, some (n0 + 14)), (12, some (n0 + 8)), (11, some (n0 + 7)), (10, some (n0 + 6)), (8, some (n0 + 5)), (7, some (n0 + 4)), (3, some (n0 + 3)), (2, some (n0 + 2)), (0, some (n0 + 1))], 0, [], []) (by decide) rfl rfl rfl ?_
    refine n_nw (m := 18) 20 ?_
    refine n_J2 18 (by decide) rfl ?_
    refine n_pr (v := some (n0 + 18)) 0 23 (1, [(5, 1)], [(19, some (n0 + 17)), (18, some (n0 + 16)), (17, some (n0 + 15)), (13, some (n0 + 14)), (12, some (n0 + 8)), (11, some (n0 + 7)), (10, some (n0 + 6)), (8, some (n0 + 5)), (7, some (n0 + 4)), (3, some (n0 + 3)), (2, some (n0 + 2)), (0, some (n0 + 1))], 0, [], []) (1, [(5, 1)], [(23, some (n0 + 18)), (19, some (n0 + 17)), (18, some (n0 + 16)), (17, some (n0 + 15)), (13, some (n0 + 14)), (12, some (n0 + 8)), (11, some (n0 + 7)), (10, some (n0 + 6)), (8, some (n0 + 5)), (7, some (n0 + 4)), (3, some (n0 + 3)), (2, some (n0 + 2)), (0, some (n0 + 1))], 0, [], []) (by decide) rfl rfl rfl ?_
    exact rfl
  case le =>
    have a1 : xk_N 20 = 3 := rfl
    have a2 : xk_N 1 = 5 := rfl
    have a3 : xk_N 2 = 5 := rfl
    omega
  case r => exact ⟨rfl, rfl, rfl, rfl, rfl, rfl, rfl, rfl, rfl, rfl, rfl, rfl, rfl, rfl, rfl, rfl, rfl, rfl, rfl⟩
theorem t_X3u (T : Nat → tR) (s : Nat) : ∃ T3 z, fX3_init (n0 + 19) (Ht n0 D (uT T 19 (4, [], [], 0, [], [])) 20 s) = some (Ht n0 D T3 36 z, ()) ∧ z ≤ s + 4000 ∧ (∀ o, o < 19 → T3 o = T o) ∧ T3 19 = (4, [(126, (-1)), (124, (-1))], [(138, some (n0 + 35)), (133, some (n0 + 34)), (132, some (n0 + 33)), (131, some (n0 + 32)), (127, some (n0 + 31)), (123, some (n0 + 30)), (122, some (n0 + 29)), (121, some (n0 + 28)), (120, some (n0 + 27)), (115, some (n0 + 26)), (114, some (n0 + 25)), (113, some (n0 + 24)), (112, some (n0 + 23)), (107, some (n0 + 22)), (106, some (n0 + 21)), (105, some (n0 + 20))], 0, [], []) ∧ T3 20 = (30, [], [], 240, [(3, 1)], []) ∧ T3 21 = (30, [], [], 240, [], []) ∧ T3 22 = (30, [], [], 240, [], []) ∧ T3 23 = (30, [], [], 120, [], []) ∧ T3 24 = (30, [], [], 960, [], []) ∧ T3 25 = (30, [], [], 8, [], []) ∧ T3 26 = (30, [], [], 280, [], []) ∧ T3 27 = (30, [], [], 5, [], []) ∧ T3 28 = (30, [], [], 1120, [], []) ∧ T3 29 = (30, [], [], 8, [], []) ∧ T3 30 = (33, [], [], 64, [], []) ∧ T3 31 = (30, [], [], 12, [], []) ∧ T3 32 = (30, [], [], 6, [], []) ∧ T3 33 = (30, [], [], 6, [], []) ∧ T3 34 = (30, [], [], 6, [], []) ∧ T3 35 = (30, [], [], 20, [], []) := by
  refine ⟨?T, ?z, ?h, ?le, ?a, ?r⟩
  case h =>
    unfold fX3_init
    refine n_na (m := 20) 0 240 (by decide) ?_
    refine n_pr (v := some (n0 + 20)) 19 105 (4, [], [], 0, [], []) (4, [], [(105, some (n0 + 20))], 0, [], []) (by decide) rfl rfl rfl ?_
    refine n_na (m := 21) 0 240 (by decide) ?_
    refine n_pr (v := some (n0 + 21)) 19 106 (4, [], [(105, some (n0 + 20))], 0, [], []) (4, [], [(106, some (n0 + 21)), (105, some (n0 + 20))], 0, [], []) (by decide) rfl rfl rfl ?_
    refine n_na (m := 22) 0 240 (by decide) ?_
    refine n_pr (v := some (n0 + 22)) 19 107 (4, [], [(106, some (n0 + 21)), (105, some (n0 + 20))], 0, [], []) (4, [], [(107, some (n0 + 22)), (106, some (n0 + 21)), (105, some (n0 + 20))], 0, [], []) (by decide) rfl rfl rfl ?_
    refine n_na (m := 23) 0 120 (by decide) ?_
    refine n_pr (v := some (n0 + 23)) 19 112 (4, [], [(107, some (n0 + 22)), (106, some (n0 + 21)), (105, some (n0 + 20))], 0, [], []) (4, [], [(112, some (n0 + 23)), (107, some (n0 + 22)), (106, some (n0 + 21)), (105, some (n0 + 20))], 0, [], []) (by decide) rfl rfl rfl ?_
    refine n_na (m := 24) 0 960 (by decide) ?_
    refine n_pr (v := some (n0 + 24)) 19 113 (4, [], [(112, some (n0 + 23)), (107, some (n0 + 22)), (106, some (n0 + 21)), (105, some (n0 + 20))], 0, [], []) (4, [], [(113, some (n0 + 24)), (112, some (n0 + 23)), (107, some (n0 + 22)), (106, some (n0 + 21)), (105, some (n0 + 20))], 0, [], []) (by decide) rfl rfl rfl ?_
    refine n_na (m := 25) 0 8 (by decide) ?_
    refine n_pr (v := some (n0 + 25)) 19 114 (4, [], [(113, some (n0 + 24)), (112, some (n0 + 23)), (107, some (n0 + 22)), (106, some (n0 + 21)), (105, some (n0 + 20))], 0, [], []) (4, [], [(114, some (n0 + 25)), (113, some (n0 + 24)), (112, some (n0 + 23)), (107, some (n0 + 22)), (106, some (n0 + 21)), (105, some (n0 + 20))], 0, [], []) (by decide) rfl rfl rfl ?_
    refine n_na (m := 26) 0 280 (by decide) ?_
    refine n_pr (v := some (n0 + 26)) 19 115 (4, [], [(114, some (n0 + 25)), (113, some (n0 + 24)), (112, some (n0 + 23)), (107, some (n0 + 22)), (106, some (n0 + 21)), (105, some (n0 + 20))], 0, [], []) (4, [], [(115, some (n0 + 26)), (114, some (n0 + 25)), (113, some (n0 + 24)), (112, some (n0 + 23)), (107, some (n0 + 22)), (106, some (n0 + 21)), (105, some (n0 + 20))], 0, [], []) (by decide) rfl rfl rfl ?_
    refine n_na (m := 27) 0 5 (by decide) ?_
    refine n_pr (v := some (n0 + 27)) 19 120 (4, [], [(115, some (n0 + 26)), (114, some (n0 + 25)), (113, some (n0 + 24)), (112, some (n0 + 23)), (107, some (n0 + 22)), (106, some (n0 + 21)), (105, some (n0 + 20))], 0, [], []) (4, [], [(120, some (n0 + 27)), (115, some (n0 + 26)), (114, some (n0 + 25)), (113, some (n0 + 24)), (112, some (n0 + 23)), (107, some (n0 + 22)), (106, some (n0 + 21)), (105, some (n0 + 20))], 0, [], []) (by decide) rfl rfl rfl ?_
    refine n_na (m := 28) 0 1120 (by decide) ?_
    refine n_pr (v := some (n0 + 28)) 19 121 (4, [], [(120, some (n0 + 27)), (115, some (n0 + 26)), (114, some (n0 + 25)), (113, some (n0 + 24)), (112, some (n0 + 23)), (107, some (n0 + 22)), (106, some (n0 + 21)), (105, some (n0 + 20))], 0, [], []) (4, [], [(121, some (n0 + 28)), (120, some (n0 + 27)), (115, some (n0 + 26)), (114, some (n0 + 25)), (113, some (n0 + 24)), (112, some (n0 + 23)), (107, some (n0 + 22)), (106, some (n0 + 21)), (105, some (n0 + 20))], 0, [], []) (by decide) rfl rfl rfl ?_
    refine n_na (m := 29) 0 8 (by decide) ?_
    refine n_pr (v := some (n0 + 29)) 19 122 (4, [], [(121, some (n0 + 28)), (120, some (n0 + 27)), (115, some (n0 + 26)), (114, some (n0 + 25)), (113, some (n0 + 24)), (112, some (n0 + 23)), (107, some (n0 + 22)), (106, some (n0 + 21)), (105, some (n0 + 20))], 0, [], []) (4, [], [(122, some (n0 + 29)), (121, some (n0 + 28)), (120, some (n0 + 27)), (115, some (n0 + 26)), (114, some (n0 + 25)), (113, some (n0 + 24)), (112, some (n0 + 23)), (107, some (n0 + 22)), (106, some (n0 + 21)), (105, some (n0 + 20))], 0, [], []) (by decide) rfl rfl rfl ?_
    refine n_na (m := 30) 3 64 (by decide) ?_
    refine n_pr (v := some (n0 + 30)) 19 123 (4, [], [(122, some (n0 + 29)), (121, some (n0 + 28)), (120, some (n0 + 27)), (115, some (n0 + 26)), (114, some (n0 + 25)), (113, some (n0 + 24)), (112, some (n0 + 23)), (107, some (n0 + 22)), (106, some (n0 + 21)), (105, some (n0 + 20))], 0, [], []) (4, [], [(123, some (n0 + 30)), (122, some (n0 + 29)), (121, some (n0 + 28)), (120, some (n0 + 27)), (115, some (n0 + 26)), (114, some (n0 + 25)), (113, some (n0 + 24)), (112, some (n0 + 23)), (107, some (n0 + 22)), (106, some (n0 + 21)), (105, some (n0 + 20))], 0, [], []) (by decide) rfl rfl rfl ?_
    refine n_pi (v := (-1)) 19 124 (4, [], [(123, some (n0 + 30)), (122, some (n0 + 29)), (121, some (n0 + 28)), (120, some (n0 + 27)), (115, some (n0 + 26)), (114, some (n0 + 25)), (113, some (n0 + 24)), (112, some (n0 + 23)), (107, some (n0 + 22)), (106, some (n0 + 21)), (105, some (n0 + 20))], 0, [], []) (4, [(124, (-1))], [(123, some (n0 + 30)), (122, some (n0 + 29)), (121, some (n0 + 28)), (120, some (n0 + 27)), (115, some (n0 + 26)), (114, some (n0 + 25)), (113, some (n0 + 24)), (112, some (n0 + 23)), (107, some (n0 + 22)), (106, some (n0 + 21)), (105, some (n0 + 20))], 0, [], []) (by decide) rfl rfl rfl ?_
    refine n_pi (v := (-1)) 19 126 (4, [(124, (-1))], [(123, some (n0 + 30)), (122, some (n0 + 29)), (121, some (n0 + 28)), (120, some (n0 + 27)), (115, some (n0 + 26)), (114, some (n0 + 25)), (113, some (n0 + 24)), (112, some (n0 + 23)), (107, some (n0 + 22)), (106, some (n0 + 21)), (105, some (n0 + 20))], 0, [], []) (4, [(126, (-1)), (124, (-1))], [(123, some (n0 + 30)), (122, some (n0 + 29)), (121, some (n0 + 28)), (120, some (n0 + 27)), (115, some (n0 + 26)), (114, some (n0 + 25)), (113, some (n0 + 24)), (112, some (n0 + 23)), (107, some (n0 + 22)), (106, some (n0 + 21)), (105, some (n0 + 20))], 0, [], []) (by decide) rfl rfl rfl ?_
    refine n_na (m := 31) 0 12 (by decide) ?_
    refine n_pr (v := some (n0 + 31)) 19 127 (4, [(126, (-1)), (124, (-1))], [(123, some (n0 + 30)), (122, some (n0 + 29)), (121, some (n0 + 28)), (120, some (n0 + 27)), (115, some (n0 + 26)), (114, some (n0 + 25)), (113, some (n0 + 24)), (112, some (n0 + 23)), (107, some (n0 + 22)), (106, some (n0 + 21)), (105, some (n0 + 20))], 0, [], []) (4, [(126, (-1)), (124, (-1))], [(127, some (n0 + 31)), (123, some (n0 + 30)), (122, some (n0 + 29)), (121, some (n0 + 28)), (120, some (n0 + 27)), (115, some (n0 + 26)), (114, some (n0 + 25)), (113, some (n0 + 24)), (112, some (n0 + 23)), (107, some (n0 + 22)), (106, some (n0 + 21)), (105, some (n0 + 20))], 0, [], []) (by decide) rfl rfl rfl ?_
    refine n_na (m := 32) 0 6 (by decide) ?_
    refine n_pr (v := some (n0 + 32)) 19 131 (4, [(126, (-1)), (124, (-1))], [(127, some (n0 + 31)), (123, some (n0 + 30)), (122, some (n0 + 29)), (121, some (n0 + 28)), (120, some (n0 + 27)), (115, some (n0 + 26)), (114, some (n0 + 25)), (113, some (n0 + 24)), (112, some (n0 + 23)), (107, some (n0 + 22)), (106, some (n0 + 21)), (105, some (n0 + 20))], 0, [], []) (4, [(126, (-1)), (124, (-1))], [(131, some (n0 + 32)), (127, some (n0 + 31)), (123, some (n0 + 30)), (122, some (n0 + 29)), (121, some (n0 + 28)), (120, some (n0 + 27)), (115, some (n0 + 26)), (114, some (n0 + 25)), (113, some (n0 + 24)), (112, some (n0 + 23)), (107, some (n0 + 22)), (106, some (n0 + 21)), (105, some (n0 + 20))], 0, [], []) (by decide) rfl rfl rfl ?_
    refine n_na (m := 33) 0 6 (by decide) ?_
    refine n_pr (v := some (n0 + 33)) 19 132 (4, [(126, (-1)), (124, (-1))], [(131, some (n0 + 32)), (127, some (n0 + 31)), (123, some (n0 + 30)), (122, some (n0 + 29)), (121, some (n0 + 28)), (120, some (n0 + 27)), (115, some (n0 + 26)), (114, some (n0 + 25)), (113, some (n0 + 24)), (112, some (n0 + 23)), (107, some (n0 + 22)), (106, some (n0 + 21)), (105, some (n0 + 20))], 0, [], []) (4, [(126, (-1)), (124, (-1))], [(132, some (n0 + 33)), (131, some (n0 + 32)), (127, some (n0 + 31)), (123, some (n0 + 30)), (122, some (n0 + 29)), (121, some (n0 + 28)), (120, some (n0 + 27)), (115, some (n0 + 26)), (114, some (n0 + 25)), (113, some (n0 + 24)), (112, some (n0 + 23)), (107, some (n0 + 22)), (106, some (n0 + 21)), (105, some (n0 + 20))], 0, [], []) (by decide) rfl rfl rfl ?_
    refine n_na (m := 34) 0 6 (by decide) ?_
    refine n_pr (v := some (n0 + 34)) 19 133 (4, [(126, (-1)), (124, (-1))], [(132, some (n0 + 33)), (131, some (n0 + 32)), (127, some (n0 + 31)), (123, some (n0 + 30)), (122, some (n0 + 29)), (121, some (n0 + 28)), (120, some (n0 + 27)), (115, some (n0 + 26)), (114, some (n0 + 25)), (113, some (n0 + 24)), (112, some (n0 + 23)), (107, some (n0 + 22)), (106, some (n0 + 21)), (105, some (n0 + 20))], 0, [], []) (4, [(126, (-1)), (124, (-1))], [(133, some (n0 + 34)), (132, some (n0 + 33)), (131, some (n0 + 32)), (127, some (n0 + 31)), (123, some (n0 + 30)), (122, some (n0 + 29)), (121, some (n0 + 28)), (120, some (n0 + 27)), (115, some (n0 + 26)), (114, some (n0 + 25)), (113, some (n0 + 24)), (112, some (n0 + 23)), (107, some (n0 + 22)), (106, some (n0 + 21)), (105, some (n0 + 20))], 0, [], []) (by decide) rfl rfl rfl ?_
    refine n_na (m := 35) 0 20 (by decide) ?_
    refine n_pr (v := some (n0 + 35)) 19 138 (4, [(126, (-1)), (124, (-1))], [(133, some (n0 + 34)), (132, some (n0 + 33)), (131, some (n0 + 32)), (127, some (n0 + 31)), (123, some (n0 + 30)), (122, some (n0 + 29)), (121, some (n0 + 28)), (120, some (n0 + 27)), (115, some (n0 + 26)), (114, some (n0 + 25)), (113, some (n0 + 24)), (112, some (n0 + 23)), (107, some (n0 + 22)), (106, some (n0 + 21)), (105, some (n0 + 20))], 0, [], []) (4, [(126, (-1)), (124, (-1))], [(138, some (n0 + 35)), (133, some (n0 + 34)), (132, some (n0 + 33)), (131, some (n0 + 32)), (127, some (n0 + 31)), (123, some (n0 + 30)), (122, some (n0 + 29)), (121, some (n0 + 28)), (120, some (n0 + 27)), (115, some (n0 + 26)), (114, some (n0 + 25)), (113, some (n0 + 24)), (112, some (n0 + 23)), (107, some (n0 + 22)), (106, some (n0 + 21)), (105, some (n0 + 20))], 0, [], []) (by decide) rfl rfl rfl ?_
    refine n_gr (v := some (n0 + 20)) 19 105 (by decide) rfl rfl ?_
    refine n_st (v := 1) (u := 1) 20 0 3 (30, [], [], 240, [], []) (30, [], [], 240, [(3, 1)], []) (by decide) rfl rfl (by decide) (by decide) (by decide) rfl ?_
    exact rfl
  case le => omega
  case a => exact fun o ho => match o, ho with
    | 0, _ => rfl
    | 1, _ => rfl
    | 2, _ => rfl
    | 3, _ => rfl
    | 4, _ => rfl
    | 5, _ => rfl
    | 6, _ => rfl
    | 7, _ => rfl
    | 8, _ => rfl
    | 9, _ => rfl
    | 10, _ => rfl
    | 11, _ => rfl
    | 12, _ => rfl
    | 13, _ => rfl
    | 14, _ => rfl
    | 15, _ => rfl
    | 16, _ => rfl
    | 17, _ => rfl
    | 18, _ => rfl
    | o + 19, h => absurd h (by omega)
  case r => exact ⟨rfl, rfl, rfl, rfl, rfl, rfl, rfl, rfl, rfl, rfl, rfl, rfl, rfl, rfl, rfl, rfl, rfl⟩
end
end
