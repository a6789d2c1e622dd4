set_option maxRecDepth 100000
def xk_fd : List (String × String × String × Bool) := [("ShellBeach", "shells", "Ljava/util/ArrayList;", true), ("ShellBeach", "ran", "I", false), ("ShellBeach", "bodies", "[I", true), ("ShellBeach", "crabs", "Ljava/util/ArrayList;", true), ("ShellBeach", "tick", "I", false), ("ShellBeach", "move", "I", false), ("ShellBeach", "grow", "I", false), ("ShellBeach", "exchanged", "[I", true), ("ShellBeach", "tape", "[B", true), ("ShellBeach", "taped", "I", false), ("ShellBeach", "asked", "LShellBeach$Case;", true), ("ShellBeach", "habits", "Ljava/util/ArrayList;", true), ("ShellBeach", "reader", "LShellBeach$Reader;", true), ("ShellBeach", "chained", "[I", true), ("ShellBeach", "chainMany", "I", false), ("ShellBeach", "chainPoints", "I", false), ("ShellBeach", "chainEnd", "LShellBeach$Shell;", false), ("ShellBeach", "told", "[LShellBeach$Crab;", true), ("ShellBeach", "parted", "[LShellBeach$Shell;", true), ("ShellBeach", "bestParted", "[LShellBeach$Shell;", true), ("ShellBeach", "toldMany", "I", false), ("ShellBeach", "bestPoints", "I", false), ("ShellBeach", "calmMany", "I", false), ("ShellBeach", "films", "Ljava/util/ArrayList;", true), ("ShellBeach", "mendChange", "I", false), ("ShellBeach", "mendTest", "I", false), ("ShellBeach", "image", "LShellBeach$Image;", false), ("ShellBeach$Case", "f", "I", false), ("ShellBeach$Case", "g", "I", false), ("ShellBeach$Case", "s", "I", false), ("ShellBeach$Case", "o", "I", false), ("ShellBeach$Case", "n", "I", false), ("ShellBeach$Reader", "words", "[[C", true), ("ShellBeach$Reader", "at", "I", false), ("ShellBeach$Reader", "open", "I", false), ("ShellBeach$Reader", "habit", "LShellBeach$Habit;", false), ("ShellBeach$Reader", "this$0", "LShellBeach;", true), ("ShellBeach$Shell", "number", "I", true), ("ShellBeach$Shell", "room", "I", true), ("ShellBeach$Shell", "weight", "I", true), ("ShellBeach$Shell", "holes", "I", true), ("ShellBeach$Shell", "cell", "I", false), ("ShellBeach$Shell", "state", "I", false), ("ShellBeach$Shell", "of", "LShellBeach$Crab;", false), ("ShellBeach$Crab", "number", "I", true), ("ShellBeach$Crab", "ways", "[LShellBeach$Way;", true), ("ShellBeach$Crab", "cell", "I", false), ("ShellBeach$Crab", "size", "I", false), ("ShellBeach$Crab", "left", "I", false), ("ShellBeach$Crab", "knocks", "I", false), ("ShellBeach$Crab", "isDead", "Z", false), ("ShellBeach$Crab", "waits", "Z", false), ("ShellBeach$Crab", "hasKnocked", "Z", false), ("ShellBeach$Crab", "shell", "LShellBeach$Shell;", false), ("ShellBeach$Crab", "at", "LShellBeach$Crab;", false), ("ShellBeach$Crab", "habit", "LShellBeach$Habit;", false), ("ShellBeach$Crab", "this$0", "LShellBeach;", true), ("ShellBeach$Way", "crab", "LShellBeach$Crab;", true), ("ShellBeach$Way", "this$0", "LShellBeach;", true), ("ShellBeach$Housed", "this$0", "LShellBeach;", true), ("ShellBeach$Bare", "this$0", "LShellBeach;", true), ("ShellBeach$Waiting", "this$0", "LShellBeach;", true), ("ShellBeach$Rowed", "this$0", "LShellBeach;", true), ("ShellBeach$Knocking", "this$0", "LShellBeach;", true), ("ShellBeach$Dead", "this$0", "LShellBeach;", true), ("ShellBeach$Habit", "number", "I", true), ("ShellBeach$Habit", "tests", "Ljava/util/ArrayList;", true), ("ShellBeach$Habit", "words", "[I", true), ("ShellBeach$Habit", "facts", "Ljava/util/ArrayList;", true), ("ShellBeach$Habit", "this$0", "LShellBeach;", true), ("java/lang/Throwable", "cause", "Ljava/lang/Throwable;", false), ("java/lang/Throwable", "stackTrace", "[Ljava/lang/StackTraceElement;", false), ("java/lang/Throwable", "suppressedExceptions", "Ljava/util/List;", false), ("java/lang/Throwable", "detailMessage", "Ljava/lang/String;", false), ("java/lang/Throwable", "backtrace", "Ljava/lang/Object;", false), ("java/lang/Throwable", "depth", "I", false), ("ShellBeach$Wrong", "place", "I", true), ("ShellBeach$Not", "of", "LShellBeach$Test;", true), ("ShellBeach$Fact", "letter", "I", true), ("ShellBeach$Fact", "op", "I", true), ("ShellBeach$Fact", "number", "I", false), ("ShellBeach$Two", "first", "LShellBeach$Test;", true), ("ShellBeach$Two", "second", "LShellBeach$Test;", true), ("ShellBeach$Two", "both", "Z", true), ("ShellBeach$Film", "word", "I", true), ("ShellBeach$Film", "f", "I", true), ("ShellBeach$Film", "g", "I", true), ("ShellBeach$Film", "s", "I", true), ("ShellBeach$Film", "o", "I", true), ("ShellBeach$Film", "n", "I", true), ("ShellBeach$Film", "seen", "I", true), ("ShellBeach$Image", "shellsWere", "I", true), ("ShellBeach$Image", "crabsWere", "I", true), ("ShellBeach$Image", "tickWas", "I", true), ("ShellBeach$Image", "moveWas", "I", true), ("ShellBeach$Image", "growWas", "I", true), ("ShellBeach$Image", "exchangedWere", "[I", true), ("ShellBeach$Image", "shellRow", "[I", true), ("ShellBeach$Image", "crabRow", "[I", true), ("ShellBeach$Image", "habitsWere", "[LShellBeach$Habit;", true), ("ShellBeach$Image", "this$0", "LShellBeach;", true), ("java/util/AbstractList", "modCount", "I", false), ("java/util/ArrayList", "elementData", "[Ljava/lang/Object;", false), ("java/util/ArrayList", "size", "I", false), ("ShellBeachModel", "thrown", "I", false), ("ShellBeachModel", "s", "[I", true), ("ShellBeachModel", "image", "[I", true), ("ShellBeachModel", "kept", "[I", true), ("ShellBeachModel", "hasImage", "Z", false), ("ShellBeachModel", "habits", "I", false), ("ShellBeachModel", "films", "I", false), ("ShellBeachModel", "taped", "I", false), ("ShellBeachModel", "tape", "[I", true), ("ShellBeachModel", "texts", "[I", true), ("ShellBeachModel", "longs", "[I", true), ("ShellBeachModel", "film", "[I", true), ("ShellBeachModel", "act", "I", false), ("ShellBeachModel", "spot", "I", false), ("ShellBeachModel", "isWrong", "Z", false), ("ShellBeachModel", "open", "I", false), ("ShellBeachModel", "stands", "[I", true), ("ShellBeachModel", "steps", "[I", true), ("ShellBeachModel", "stepMany", "[I", true), ("ShellBeachModel", "truths", "[Z", true), ("ShellBeachModel", "changed", "I", false), ("ShellBeachModel", "change", "I", false), ("ShellBeachModel", "changedIn", "I", false), ("ShellBeachModel", "moved", "[I", true), ("ShellBeachModel", "moves", "I", false), ("ShellBeachModel", "gainedAll", "I", false), ("ShellBeachModel", "leftShell", "I", false), ("ShellBeachModel", "crabs", "[I", true), ("ShellBeachModel", "shells", "[I", true), ("ShellBeachModel", "bestShells", "[I", true), ("ShellBeachModel", "told", "I", false), ("ShellBeachModel", "bestFit", "I", false), ("ShellBeachModel", "hasBest", "Z", false), ("ShellBeachModel", "calms", "I", false), ("ShellBeachModel", "bodies", "[I", true), ("ShellBeachModel", "ran", "I", false), ("ShellBeachModel", "kind", "I", false), ("ShellBeachModel", "who", "I", false), ("ShellBeachModel", "sizeNow", "I", false)]
def xk_fdt (f : Nat) : String × String × String × Bool := xk_fd.getD f ("", "", "", false)
def xk_eq4 (a b : String × String × String × Bool) : Bool := a.1 == b.1 && a.2.1 == b.2.1 && a.2.2.1 == b.2.2.1 && a.2.2.2 == b.2.2.2
theorem xk_eq4S {a b : String × String × String × Bool} (h : xk_eq4 a b = true) : a = b := by
  obtain ⟨a1, a2, a3, a4⟩ := a
  obtain ⟨b1, b2, b3, b4⟩ := b
  simp [xk_eq4] at h
  obtain ⟨⟨⟨h1, h2⟩, h3⟩, h4⟩ := h
  rw [h1, h2, h3, h4]
/-- a check of every class and field -/
def xk_all (f : Nat → Nat → Bool) : Bool := (List.range 21).all fun ci => ci == 99 || (List.range (xk_cl ci).2.2).all fun k => f ci k
theorem xk_allS {f : Nat → Nat → Bool} (h : xk_all f = true) {ci k : Nat} (hci : ci < 21) (h3 : ci ≠ 99) (hk : k < (xk_cl ci).2.2) : f ci k = true := by
  unfold xk_all at h
  rw [List.all_eq_true] at h
  have h1 := h ci (List.mem_range.mpr hci)
  rw [Bool.or_eq_true] at h1
  rcases h1 with q | q
  · exact absurd (by simpa using q) h3
  · rw [List.all_eq_true] at q
    exact q k (List.mem_range.mpr hk)
theorem xk_fdc0 : xk_all (fun ci k => xk_eq4 ((xk_cl ci).2.1 k) (xk_fdt (xk_f ci k))) = true := by decide +kernel
theorem xk_fdc : ∀ ci, ci < 21 → ci ≠ 99 → ∀ k, k < (xk_cl ci).2.2 → (xk_cl ci).2.1 k = xk_fdt (xk_f ci k) := fun _ hci h3 _ hk => xk_eq4S (xk_allS xk_fdc0 hci h3 hk)
theorem xk_nod : ∀ ci, ci < 21 → ci ≠ 99 → ∀ j, j < (xk_cl ci).2.2 → ∀ k, k < (xk_cl ci).2.2 → xk_f ci j = xk_f ci k → j = k := by decide +kernel
def xk_tyB (t : FieldType) (b : Bool) : Bool := match t with | .object _ => b | .array _ => b | .int => !b | .boolean => !b | _ => false
theorem xk_tyr0 : xk_all (fun ci k => xk_tyB (xk_ty ci k) (xk_isr (xk_f ci k))) = true := by decide +kernel
def xk_apB (a b : String × String × String × Bool) : Bool := !(a.2.1 == b.2.1) || (a.2.2.2 && b.2.2.2 && !(a.1 == b.1))
theorem xk_apd0 : xk_all (fun ci j => (List.range (xk_cl ci).2.2).all fun k => j == k || xk_apB ((xk_cl ci).2.1 j) ((xk_cl ci).2.1 k)) = true := by decide +kernel
theorem xk_apd : ∀ ci, ci < 21 → ci ≠ 99 → ∀ j, j < (xk_cl ci).2.2 → ∀ k, k < (xk_cl ci).2.2 → j ≠ k → ((xk_cl ci).2.1 j).2.1 ≠ ((xk_cl ci).2.1 k).2.1 ∨ (((xk_cl ci).2.1 j).2.2.2 = true ∧ ((xk_cl ci).2.1 k).2.2.2 = true ∧ ((xk_cl ci).2.1 j).1 ≠ ((xk_cl ci).2.1 k).1) := fun ci hci h3 j hj k hk hne => by
  have h := xk_allS xk_apd0 hci h3 hj
  rw [List.all_eq_true] at h
  have h1 := h k (List.mem_range.mpr hk)
  rw [Bool.or_eq_true] at h1
  rcases h1 with q | q
  · exact absurd (by simpa using q) hne
  · simp [xk_apB] at q
    rcases q with q | ⟨⟨q1, q2⟩, q3⟩
    · exact Or.inl q
    · exact Or.inr ⟨q1, q2, q3⟩
theorem xk_hasS {kd f : Nat} (h : xk_has kd f = true) : ∃ ci k, kd = ci + 1 ∧ ci < 21 ∧ ci ≠ 99 ∧ k < (xk_cl ci).2.2 ∧ xk_f ci k = f := by
  unfold xk_has at h
  rw [Bool.and_eq_true, decide_eq_true_eq, List.contains_iff_mem] at h
  obtain ⟨h0, h1⟩ := h
  obtain ⟨k, hk, e⟩ := List.getElem_of_mem h1
  have hci : kd - 1 < 21 := by
    rcases Nat.lt_or_ge (kd - 1) 21 with q | q
    · exact q
    · have e0 : xk_ft.getD (kd - 1) [] = [] := by rw [List.getD_eq_getElem?_getD, List.getElem?_eq_none (by exact q)]; rfl
      rw [e0] at hk
      exact absurd hk (Nat.not_lt_zero _)
  have h3 : kd - 1 ≠ 99 := by omega
  refine ⟨kd - 1, k, by omega, hci, h3, ?_, ?_⟩
  · rw [xk_Neq _ hci h3]; exact hk
  · unfold xk_f; rw [List.getD_eq_getElem?_getD, List.getElem?_eq_getElem hk]; exact e
/-- an array of references; the empty one of the start may bear any monitor -/
def xk_aq (w : gw_W) (C : xk_C) (H : Heap) (a t : Nat) : Prop := H[a]? = some (arrV (gw_dA w t) (xk_l C a) (fun j => va_rf (xk_q C a j))) ∨ (xk_l C a = 0 ∧ ∃ cell : Cell, H[a]? = some cell ∧ cell.cls = gw_dA w t ∧ cell.slots.size = 0 ∧ cell.vm ≠ .unknown ∧ cell.vm.isStatics = false)
theorem xk_aq.len {w : gw_W} {C : xk_C} {H : Heap} {a t : Nat} (h : xk_aq w C H a t) (hl : 0 < xk_l C a) : H[a]? = some (arrV (gw_dA w t) (xk_l C a) (fun j => va_rf (xk_q C a j))) := by
  rcases h with h | ⟨h, -⟩
  · exact h
  · omega
theorem xk_aq.cell {w : gw_W} {C : xk_C} {H : Heap} {a t : Nat} (h : xk_aq w C H a t) : ∃ cell : Cell, H[a]? = some cell ∧ cell.cls = gw_dA w t ∧ cell.slots.size = xk_l C a ∧ cell.vm ≠ .unknown ∧ cell.vm.isStatics = false := by
  rcases h with h | ⟨h, cell, h1, h2, h3, h4⟩
  · exact ⟨_, h, rfl, arrV_size _ _ _, (fun q => by cases q), rfl⟩
  · exact ⟨cell, h1, h2, by rw [h3, h], h4⟩
theorem xk_aq.kept {w : gw_W} {C C' : xk_C} {H H' : Heap} {a t : Nat} (h : xk_aq w C H a t) (e : H'[a]? = H[a]?) (el : xk_l C' a = xk_l C a) (eq : ∀ j, xk_q C' a j = xk_q C a j) : xk_aq w C' H' a t := by
  have eq' : xk_q C' a = xk_q C a := funext eq
  unfold xk_aq at h ⊢
  rw [e, el, eq']
  exact h
/-- the picture -/
def xk_P (A : Nat → Prop) (w : gw_W) (C : xk_C) (H : Heap) : Prop :=
  H.size = xk_n C ∧ (xk_d C = gw_d0 w ∧ xk_u1 C = gw_u1 w ∧ xk_u2 C = gw_u2 w ∧ xk_mi C = gw_mi w) ∧ (∀ q, xk_n C ≤ q → A q) ∧ (∀ a, xk_k C a ≠ 0 → A a ∨ 30 ≤ xk_k C a ∧ xk_l C a = 0) ∧
  (∀ a ci, ci < 21 → ci ≠ 99 → xk_k C a = ci + 1 → t_OB a ((gw_D w).1 ci) (xk_cl ci).2.2 ((gw_D w).2 ci) H (fun k => xk_V C (xk_f ci k) a)) ∧
  (∀ a t, t < 4 → xk_k C a = 30 + t → H[a]? = some (arrV (gw_dA w t) (xk_l C a) (fun j => .int (xk_e C a j)))) ∧
  (∀ a t, 4 ≤ t → t < 10 → xk_k C a = 30 + t → xk_aq w C H a t)
theorem xk_V_si {C : xk_C} {f a g b : Nat} {v : Int32} (h : ¬ (g = f ∧ b = a)) : xk_V (xk_si C f a v) g b = xk_V C g b := by
  unfold xk_V xk_si xk_i xk_r
  simp [h]
theorem xk_V_sr {C : xk_C} {f a g b : Nat} {v : Option Nat} (h : ¬ (g = f ∧ b = a)) : xk_V (xk_sr C f a v) g b = xk_V C g b := by
  unfold xk_V xk_sr xk_i xk_r
  simp [h]
theorem xk_P.seti {A : Nat → Prop} {w : gw_W} {C : xk_C} {H H' : Heap} (hP : xk_P A w C H) {a f ci k : Nat} {v : Int32} (hci : ci < 21) (h3 : ci ≠ 99) (hk : xk_k C a = ci + 1) (hkN : k < (xk_cl ci).2.2) (hf : xk_f ci k = f) (hr : xk_isr f = false) (e1 : t_OB a ((gw_D w).1 ci) (xk_cl ci).2.2 ((gw_D w).2 ci) H' (updV (fun k => xk_V C (xk_f ci k) a) k (.int v))) (e2 : H'.size = H.size) (e3 : ∀ q, q ≠ a → H'[q]? = H[q]?) : xk_P A w (xk_si C f a v) H' := by
  obtain ⟨p1, p2, p3, p4, p5, p6, p7⟩ := hP
  refine ⟨e2.trans p1, p2, p3, p4, fun b cj hcj hj3 hkb => ?_, fun b t ht hkb => ?_, fun b t ht ht2 hkb => ?_⟩
  · by_cases hb : b = a
    · subst hb
      have hcc : cj = ci := by
        have : xk_k C b = cj + 1 := hkb
        omega
      subst hcc
      refine e1.to (fun j hj => ?_)
      unfold updV
      by_cases hjk : j = k
      · subst hjk
        rw [if_pos rfl, hf]
        unfold xk_V xk_si xk_i
        simp [hr]
      · rw [if_neg hjk]
        exact (xk_V_si (fun q => hjk (xk_nod _ hcj hj3 j hj k hkN (q.1.trans hf.symm)))).symm
    · refine ((p5 b cj hcj hj3 hkb).kept (e3 b hb)).to (fun j hj => ?_)
      exact (xk_V_si (fun q => hb q.2)).symm
  · have hb : b ≠ a := by
      intro q
      subst q
      have : xk_k C b = 30 + t := hkb
      omega
    rw [e3 b hb]
    exact p6 b t ht hkb
  · have hb : b ≠ a := by
      intro q
      subst q
      have : xk_k C b = 30 + t := hkb
      omega
    exact (p7 b t ht ht2 hkb).kept (e3 b hb) rfl (fun _ => rfl)
theorem xk_P.setr {A : Nat → Prop} {w : gw_W} {C : xk_C} {H H' : Heap} (hP : xk_P A w C H) {a f ci k : Nat} {v : Option Nat} (hci : ci < 21) (h3 : ci ≠ 99) (hk : xk_k C a = ci + 1) (hkN : k < (xk_cl ci).2.2) (hf : xk_f ci k = f) (hr : xk_isr f = true) (e1 : t_OB a ((gw_D w).1 ci) (xk_cl ci).2.2 ((gw_D w).2 ci) H' (updV (fun k => xk_V C (xk_f ci k) a) k (va_rf v))) (e2 : H'.size = H.size) (e3 : ∀ q, q ≠ a → H'[q]? = H[q]?) : xk_P A w (xk_sr C f a v) H' := by
  obtain ⟨p1, p2, p3, p4, p5, p6, p7⟩ := hP
  refine ⟨e2.trans p1, p2, p3, p4, fun b cj hcj hj3 hkb => ?_, fun b t ht hkb => ?_, fun b t ht ht2 hkb => ?_⟩
  · by_cases hb : b = a
    · subst hb
      have hcc : cj = ci := by
        have : xk_k C b = cj + 1 := hkb
        omega
      subst hcc
      refine e1.to (fun j hj => ?_)
      unfold updV
      by_cases hjk : j = k
      · subst hjk
        rw [if_pos rfl, hf]
        unfold xk_V xk_sr xk_r
        simp [hr]
      · rw [if_neg hjk]
        exact (xk_V_sr (fun q => hjk (xk_nod _ hcj hj3 j hj k hkN (q.1.trans hf.symm)))).symm
    · refine ((p5 b cj hcj hj3 hkb).kept (e3 b hb)).to (fun j hj => ?_)
      exact (xk_V_sr (fun q => hb q.2)).symm
  · have hb : b ≠ a := by
      intro q
      subst q
      have : xk_k C b = 30 + t := hkb
      omega
    rw [e3 b hb]
    exact p6 b t ht hkb
  · have hb : b ≠ a := by
      intro q
      subst q
      have : xk_k C b = 30 + t := hkb
      omega
    exact (p7 b t ht ht2 hkb).kept (e3 b hb) rfl (fun _ => rfl)
/-- a new cell at the heap's end -/
theorem xk_P.grow {A : Nat → Prop} {w : gw_W} {C : xk_C} {H H' : Heap} (hP : xk_P A w C H) {k len z : Nat} (e1 : H'.size = xk_n C + 1) (e2 : ∀ q, q < xk_n C → H'[q]? = H[q]?)
    (eo : ∀ ci, ci < 21 → ci ≠ 99 → k = ci + 1 → t_OB (xk_n C) ((gw_D w).1 ci) (xk_cl ci).2.2 ((gw_D w).2 ci) H' (fun j => if xk_isr (xk_f ci j) = true then .null else .int 0))
    (ei : ∀ t, t < 4 → k = 30 + t → H'[xk_n C]? = some (arrV (gw_dA w t) len (fun _ => .int 0))) (eq : ∀ t, 4 ≤ t → t < 10 → k = 30 + t → H'[xk_n C]? = some (arrV (gw_dA w t) len (fun _ => .null))) : xk_P A w (xk_mk C k len z) H' := by
  obtain ⟨p1, p2, p3, p4, p5, p6, p7⟩ := hP
  have hn : ∀ b, b ≠ xk_n C → xk_k (xk_mk C k len z) b = xk_k C b := fun b hb => by unfold xk_mk xk_k; simp [hb]
  have hk0 : xk_k (xk_mk C k len z) (xk_n C) = k := by unfold xk_mk xk_k; simp
  have hV : ∀ g b, b ≠ xk_n C → xk_V (xk_mk C k len z) g b = xk_V C g b := fun g b hb => by unfold xk_V xk_mk xk_i xk_r; simp [hb]
  have hV0 : ∀ g, xk_V (xk_mk C k len z) g (xk_n C) = if xk_isr g = true then .null else .int 0 := fun g => by unfold xk_V xk_mk xk_i xk_r; simp [va_rf]
  have hsm : ∀ b, (∃ c : Cell, H[b]? = some c) → b < xk_n C := fun b hb => by
    obtain ⟨c, hc⟩ := hb
    rw [← p1]
    exact (Array.getElem?_eq_some_iff.mp hc).1
  refine ⟨e1, p2, fun q hq => p3 q (Nat.le_trans (Nat.le_succ _) hq), fun b hb => ?_, fun b cj hcj hj3 hkb => ?_, fun b t ht hkb => ?_, fun b t ht ht2 hkb => ?_⟩
  · by_cases h : b = xk_n C
    · subst h
      exact Or.inl (p3 _ (Nat.le_refl _))
    · rw [hn b h] at hb ⊢
      rcases p4 b hb with q | q
      · exact Or.inl q
      · refine Or.inr ⟨q.1, ?_⟩
        unfold xk_mk xk_l
        simp [h]
        exact q.2
  · by_cases h : b = xk_n C
    · subst h
      rw [hk0] at hkb
      exact (eo cj hcj hj3 hkb).to (fun j _ => (hV0 _).symm)
    · rw [hn b h] at hkb
      have h5 := p5 b cj hcj hj3 hkb
      have hlt := hsm b (by obtain ⟨c, hc, -⟩ := h5; exact ⟨c, hc⟩)
      exact (h5.kept (e2 b hlt)).to (fun j _ => (hV _ b h).symm)
  · by_cases h : b = xk_n C
    · subst h
      rw [hk0] at hkb
      rw [ei t ht hkb]
      unfold xk_mk xk_l xk_e
      simp
    · rw [hn b h] at hkb
      have h6 := p6 b t ht hkb
      rw [e2 b (hsm b ⟨_, h6⟩), h6]
      unfold xk_mk xk_l xk_e
      simp [h]
  · by_cases h : b = xk_n C
    · subst h
      rw [hk0] at hkb
      refine Or.inl ?_
      rw [eq t ht ht2 hkb]
      unfold xk_mk xk_l xk_q
      simp [va_rf]
    · rw [hn b h] at hkb
      have h7 := p7 b t ht ht2 hkb
      exact h7.kept (e2 b (hsm b (by obtain ⟨c, hc, -⟩ := h7.cell; exact ⟨c, hc⟩))) (by unfold xk_mk xk_l; simp [h]) (fun j => by unfold xk_mk xk_q; simp [h])
/-- an element is stored -/
theorem xk_P.sete {A : Nat → Prop} {w : gw_W} {C : xk_C} {H H' : Heap} (hP : xk_P A w C H) {a t j : Nat} {v : Int32} (ht : t < 4) (hk : xk_k C a = 30 + t) (e1 : H'[a]? = some (arrV (gw_dA w t) (xk_l C a) (updV (fun j => .int (xk_e C a j)) j (.int v)))) (e2 : H'.size = H.size) (e3 : ∀ q, q ≠ a → H'[q]? = H[q]?) : xk_P A w (xk_se C a j v) H' := by
  obtain ⟨p1, p2, p3, p4, p5, p6, p7⟩ := hP
  refine ⟨e2.trans p1, p2, p3, p4, fun b cj hcj hj3 hkb => ?_, fun b t2 ht2 hkb => ?_, fun b t2 ht2 ht3 hkb => ?_⟩
  · have hb : b ≠ a := by
      intro q
      subst q
      have : xk_k C b = cj + 1 := hkb
      omega
    exact (p5 b cj hcj hj3 hkb).kept (e3 b hb)
  · by_cases hb : b = a
    · subst hb
      have htt : t2 = t := by
        have : xk_k C b = 30 + t2 := hkb
        omega
      subst htt
      rw [e1]
      unfold xk_se xk_l xk_e updV
      congr 2
      funext q
      by_cases hq : q = j <;> simp [hq]
    · rw [e3 b hb, p6 b t2 ht2 hkb]
      unfold xk_se xk_l xk_e
      simp [hb]
  · have hb : b ≠ a := by
      intro q
      subst q
      have : xk_k C b = 30 + t2 := hkb
      omega
    exact (p7 b t2 ht2 ht3 hkb).kept (e3 b hb) rfl (fun _ => rfl)
theorem xk_P.setq {A : Nat → Prop} {w : gw_W} {C : xk_C} {H H' : Heap} (hP : xk_P A w C H) {a t j : Nat} {v : Option Nat} (ht4 : 4 ≤ t) (ht : t < 10) (hk : xk_k C a = 30 + t) (e1 : H'[a]? = some (arrV (gw_dA w t) (xk_l C a) (updV (fun j => va_rf (xk_q C a j)) j (va_rf v)))) (e2 : H'.size = H.size) (e3 : ∀ q, q ≠ a → H'[q]? = H[q]?) : xk_P A w (xk_sq C a j v) H' := by
  obtain ⟨p1, p2, p3, p4, p5, p6, p7⟩ := hP
  refine ⟨e2.trans p1, p2, p3, p4, fun b cj hcj hj3 hkb => ?_, fun b t2 ht2 hkb => ?_, fun b t2 ht2 ht3 hkb => ?_⟩
  · have hb : b ≠ a := by
      intro q
      subst q
      have : xk_k C b = cj + 1 := hkb
      omega
    exact (p5 b cj hcj hj3 hkb).kept (e3 b hb)
  · have hb : b ≠ a := by
      intro q
      subst q
      have : xk_k C b = 30 + t2 := hkb
      omega
    rw [e3 b hb]
    exact p6 b t2 ht2 hkb
  · by_cases hb : b = a
    · subst hb
      have htt : t2 = t := by
        have : xk_k C b = 30 + t2 := hkb
        omega
      subst htt
      refine Or.inl ?_
      rw [e1]
      unfold xk_sq xk_l xk_q updV
      congr 2
      funext q
      by_cases hq : q = j <;> simp [hq]
    · exact (p7 b t2 ht2 ht3 hkb).kept (e3 b hb) rfl (fun j => by unfold xk_sq xk_q; simp [hb])
