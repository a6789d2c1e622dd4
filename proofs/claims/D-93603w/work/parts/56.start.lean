set_option maxRecDepth 100000
/-! THE START: what the tables and the old heap say (gw_I) -/
theorem lx_inst {s : State} {args : Array Value} (ha : ∀ w ∈ lw_all, w.before args s = true) (ci : Nat) (h : ci < 21) : (Cond.instantiable (xk_cl ci).1 (xk_N ci)).before args s = true := match ci, h with
  | 0, _ => ha _ q122
  | 1, _ => ha _ q156
  | 2, _ => ha _ q180
  | 3, _ => ha _ q1337
  | 4, _ => ha _ q318
  | 5, _ => ha _ q451
  | 6, _ => ha _ q458
  | 7, _ => ha _ q471
  | 8, _ => ha _ q483
  | 9, _ => ha _ q495
  | 10, _ => ha _ q508
  | 11, _ => ha _ q522
  | 12, _ => ha _ q535
  | 13, _ => ha _ q730
  | 14, _ => ha _ q772
  | 15, _ => ha _ q855
  | 16, _ => ha _ q865
  | 17, _ => ha _ q887
  | 18, _ => ha _ q1079
  | 19, _ => ha _ q1136
  | 20, _ => ha _ q130
  | n + 21, h => absurd h (by omega)
theorem lx_D {s : State} {args : Array Value} (hts : ∀ w ∈ lw_tbl, w.before args s = true) : ∃ D : va_G, ∀ (c : Nat) (q : vw_C), gw_cl[c]? = some q → u_Kn s q.1 q.2.1 q.2.2 (D.1 c) (D.2 c) := by
  have ha : ∀ w ∈ lw_all, w.before args s = true := fun w h => hts w (lw_all_tbl h)
  have h : ∀ ci, ∃ (cC : ClassId) (iS : Nat → Nat), ci < 21 → u_Kn s (xk_cl ci).1 (xk_cl ci).2.1 (xk_cl ci).2.2 cC iS := by
    intro ci
    by_cases hci : ci < 21
    · obtain ⟨cC, iS, h⟩ := u_known ha (xk_in ci hci) (n := xk_N ci) (lx_inst ha ci hci)
      exact ⟨cC, iS, fun _ => h⟩
    · exact ⟨default, fun _ => 0, fun h => absurd h hci⟩
  refine ⟨(fun ci => Classical.choose (h ci), fun ci => Classical.choose (Classical.choose_spec (h ci))), fun c q hq => ?_⟩
  have hc : c < 21 := (List.getElem?_eq_some_iff.mp hq).1
  have h2 := Classical.choose_spec (Classical.choose_spec (h c)) hc
  rw [xk_at c hc] at hq
  cases hq
  exact h2
