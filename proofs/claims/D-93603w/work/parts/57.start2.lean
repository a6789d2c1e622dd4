set_option maxRecDepth 100000
theorem lx_ao {s : State} {args : Array Value} {C : String} (h : (Cond.arrayOver (.object C)).before args s = true) : ∃ cA, ArrOfT s cA (.object C) ∧ va_RA s cA (.object C) := by
  obtain ⟨comp, c, k, h1, h2, h3, h4, h5⟩ := Cond.arrayOver_spec h
  exact ⟨c, fun N z => ⟨(fun k h => by cases h), k, h3, comp, h4⟩, k, comp, h3, h4, h1, h5⟩
theorem lx_ac {s : State} {args : Array Value} {ty : FieldType} (h : (Cond.arrayClass ty).before args s = true) : ∃ cA, ArrOfT s cA ty ∧ s.vm.findClass ("[" ++ ty.toString) = some cA := by
  unfold Cond.before Cond.holds at h
  simp only [Cond.value, beq_iff_eq] at h
  obtain ⟨k, hk, h2⟩ := Option.map_eq_some_iff.mp h
  obtain ⟨c, hc, hk2⟩ := Option.bind_eq_some_iff.mp hk
  cases hkd : k.kind with
  | array comp t2 =>
    rw [hkd] at h2
    simp at h2
    subst h2
    exact ⟨c, fun N z => ⟨(fun k h => by cases h), k, hk2, comp, hkd⟩, hc⟩
  | _ => rw [hkd] at h2; simp at h2
theorem lx_aoc {s : State} (h : gw_AOC s) : ∃ cA, ArrOfT s cA (.array .char) ∧ va_RA s cA (.array .char) := by
  obtain ⟨comp, c, k, h1, h2, h3, h4, h5⟩ := gw_AOC.spec h
  exact ⟨c, fun N z => ⟨(fun k h => by cases h), k, h3, comp, h4⟩, h5⟩
/-- the ten array classes -/
theorem lx_arrs {s : State} {args : Array Value} (hts : ∀ w ∈ lw_tbl, w.before args s = true) : ∃ dA : Nat → ClassId, ∀ t, t < 10 → ArrOfT s (dA t) (xk_at9 t) ∧ va_RA s (dA t) (xk_at9 t) := by
  have ha : ∀ w ∈ lw_all, w.before args s = true := fun w h => hts w (lw_all_tbl h)
  have h : ∀ t, ∃ cA : ClassId, t < 10 → ArrOfT s cA (xk_at9 t) ∧ va_RA s cA (xk_at9 t) := by
    intro t
    by_cases ht : t < 10
    · have h10 : ∃ cA, ArrOfT s cA (xk_at9 t) ∧ va_RA s cA (xk_at9 t) := match t, ht with
        | 0, _ => lx_ac (ha _ q177)
        | 1, _ => lx_ac (ha _ q178)
        | 2, _ => lx_ac (ha _ q203)
        | 3, _ => lx_ac (ha _ q1459)
        | 4, _ => lx_ao (hts _ q415)
        | 5, _ => lx_ao (hts _ q457)
        | 6, _ => lx_ao (hts _ q205)
        | 7, _ => lx_ao (hts _ q207)
        | 8, _ => lx_ao (hts _ q1150)
        | 9, _ => lx_aoc (hts _ q186)
        | n + 10, h => absurd h (by omega)
      obtain ⟨cA, h10⟩ := h10
      exact ⟨cA, fun _ => h10⟩
    · exact ⟨default, fun h => absurd h ht⟩
  exact ⟨fun t => Classical.choose (h t), fun t ht => Classical.choose_spec (h t) ht⟩
