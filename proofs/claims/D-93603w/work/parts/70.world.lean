set_option maxRecDepth 100000
/-! THE START: the world (gw_I) out of the tables and what the Statement gives -/
theorem lx_nw {s : State} {args : Array Value} (hts : ∀ w ∈ lw_tbl, w.before args s = true) : ∀ c ∈ gw_xw, va_Nw c s := fun c hc => by
  obtain ⟨h1, h2⟩ := List.mem_filter.mp hc
  refine va_Nw.of ?_ (hts c h1)
  cases c <;> first | rfl | (simp [gw_xk] at h2; done)
theorem lx_ref {s : State} {args : Array Value} {t : Term} (h : (Cond.isRef t).before args s = true) : ∃ o : Option Nat, t.eval args s none [] s = some (va_rf o) := by
  obtain ⟨v, hv, hr⟩ := Cond.isRef_spec (args := args) (first := s) (o := none) (s := s) (idx := []) h
  cases v <;> first | exact ⟨none, hv⟩ | exact ⟨some _, hv⟩ | cases hr
/-- the lists' empty array -/
abbrev lx_tD : Term := .static "java/util/ArrayList" "DEFAULTCAPACITY_EMPTY_ELEMENTDATA" "[Ljava/lang/Object;"
theorem lx_d0 {s : State} {args : Array Value} (h1 : (Cond.exactly lx_tD "[Ljava/lang/Object;").before args s = true) (h2 : (Cond.eq (.length lx_tD) (.int 0)).before args s = true) : ∃ (d : Nat) (c : ClassId) (cell : Cell), lx_tD.eval args s none [] s = some (.ref d) ∧ s.vm.findClass "[Ljava/lang/Object;" = some c ∧ s.heap[d]? = some cell ∧ cell.cls = c ∧ cell.slots.size = 0 ∧ cell.vm ≠ .unknown ∧ cell.vm.isStatics = false := by
  obtain ⟨a, c, cell, k, q1, q2, q3, q4, q5, q6, -⟩ := Cond.exactly_spec (args := args) (first := s) (o := none) (s := s) (idx := []) (t := lx_tD) (cls := "[Ljava/lang/Object;") h1
  cases hv : (Term.length lx_tD).eval args s none [] s with
  | none => simp [Cond.before, Cond.holds, Cond.value, hv] at h2
  | some v =>
    obtain ⟨a', cell', e1, e2, e3⟩ := Term.length_spec hv
    cases q1.symm.trans e1
    obtain ⟨f1, f2, f3, -⟩ := State.arrayAt?_spec e2
    cases q3.symm.trans f1
    refine ⟨a, c, cell, e1, q2, q3, q6, ?_, f2, q5⟩
    have hlt : cell.slots.size < 2147483648 := by
      by_cases hge : cell.slots.size < 2147483648
      · exact hge
      · exfalso
        generalize lx_tD = tm at hv e1
        simp [Term.eval, e1, e2, hge] at hv
    have hz : cell.slots.size.toInt32 = 0 := by
      have hz0 : (Term.int 0).eval args s none [] s = some (.int 0) := rfl
      subst e3
      simp only [Cond.before, Cond.holds, Cond.value, hv, hz0] at h2
      simpa using h2
    have h3 : nI cell.slots.size = nI 0 := hz
    rwa [s_eq _ _ hlt (by omega)] at h3
theorem lx_strs {s : State} {args : Array Value} {n0 : Nat} (hs : ∀ c ∈ flatC (Jvm.Cond.and given_1 narrow_1), c.before args s = true) (hA : ∀ a : Nat, a < s.heap.size → ¬ (n0 ≤ a)) : ∃ sK sV : Nat → Nat, vk_S 4 gw_len gw_byt sK sV (fun q => n0 ≤ q) s s.heap ∧ ∀ i : Nat, i < 4 → (Term.string "ShellBeachModel" (gw_sx.getD i (0, "")).1).eval args s none [] s = some (.ref (sK i)) := by
  refine vk_Sof (args := args) (s := s) (N := 4) (tm := fun i => .string "ShellBeachModel" (gw_sx.getD i (0, "")).1) (len := gw_len) (byt := gw_byt) (A := fun q => n0 ≤ q) (fun i hi => ?_) (fun i hi => ?_) (fun i hi => ?_) (fun i hi => ?_) (fun i hi => ?_) (fun i hi j hj => ?_) (fun i j hi hj hne => ?_) hA
  · exact match i, hi with
      | 0, _ => by decide
      | 1, _ => by decide
      | 2, _ => by decide
      | 3, _ => by decide
      | i + 4, h => absurd h (by omega)
  · exact match i, hi with
      | 0, _ => hs _ (by decide +kernel)
      | 1, _ => hs _ (by decide +kernel)
      | 2, _ => hs _ (by decide +kernel)
      | 3, _ => hs _ (by decide +kernel)
      | i + 4, h => absurd h (by omega)
  · exact match i, hi with
      | 0, _ => hs _ (by decide +kernel)
      | 1, _ => hs _ (by decide +kernel)
      | 2, _ => hs _ (by decide +kernel)
      | 3, _ => hs _ (by decide +kernel)
      | i + 4, h => absurd h (by omega)
  · exact match i, hi with
      | 0, _ => hs _ (by decide +kernel)
      | 1, _ => hs _ (by decide +kernel)
      | 2, _ => hs _ (by decide +kernel)
      | 3, _ => hs _ (by decide +kernel)
      | i + 4, h => absurd h (by omega)
  · exact match i, hi with
      | 0, _ => hs _ (by decide +kernel)
      | 1, _ => hs _ (by decide +kernel)
      | 2, _ => hs _ (by decide +kernel)
      | 3, _ => hs _ (by decide +kernel)
      | i + 4, h => absurd h (by omega)
  · exact match i, hi, hj with
      | 0, _, hj => match j, hj with
        | 0, _ => hs _ (by decide +kernel)
        | 1, _ => hs _ (by decide +kernel)
        | 2, _ => hs _ (by decide +kernel)
        | 3, _ => hs _ (by decide +kernel)
        | 4, _ => hs _ (by decide +kernel)
        | j + 5, h => absurd (show j + 5 < 5 from h) (by omega)
      | 1, _, hj => match j, hj with
        | 0, _ => hs _ (by decide +kernel)
        | 1, _ => hs _ (by decide +kernel)
        | 2, _ => hs _ (by decide +kernel)
        | 3, _ => hs _ (by decide +kernel)
        | 4, _ => hs _ (by decide +kernel)
        | 5, _ => hs _ (by decide +kernel)
        | j + 6, h => absurd (show j + 6 < 6 from h) (by omega)
      | 2, _, hj => match j, hj with
        | 0, _ => hs _ (by decide +kernel)
        | 1, _ => hs _ (by decide +kernel)
        | 2, _ => hs _ (by decide +kernel)
        | 3, _ => hs _ (by decide +kernel)
        | 4, _ => hs _ (by decide +kernel)
        | j + 5, h => absurd (show j + 5 < 5 from h) (by omega)
      | 3, _, hj => match j, hj with
        | 0, _ => hs _ (by decide +kernel)
        | 1, _ => hs _ (by decide +kernel)
        | 2, _ => hs _ (by decide +kernel)
        | 3, _ => hs _ (by decide +kernel)
        | 4, _ => hs _ (by decide +kernel)
        | j + 5, h => absurd (show j + 5 < 5 from h) (by omega)
      | i + 4, h, _ => absurd h (by omega)
  · exact match i, j, hi, hj, hne with
      | 0, 0, _, _, h => absurd rfl h
      | 0, 1, _, _, _ => Or.inl (hs _ (by decide +kernel))
      | 0, 2, _, _, _ => Or.inl (hs _ (by decide +kernel))
      | 0, 3, _, _, _ => Or.inl (hs _ (by decide +kernel))
      | 1, 0, _, _, _ => Or.inr (hs _ (by decide +kernel))
      | 1, 1, _, _, h => absurd rfl h
      | 1, 2, _, _, _ => Or.inl (hs _ (by decide +kernel))
      | 1, 3, _, _, _ => Or.inl (hs _ (by decide +kernel))
      | 2, 0, _, _, _ => Or.inr (hs _ (by decide +kernel))
      | 2, 1, _, _, _ => Or.inr (hs _ (by decide +kernel))
      | 2, 2, _, _, h => absurd rfl h
      | 2, 3, _, _, _ => Or.inl (hs _ (by decide +kernel))
      | 3, 0, _, _, _ => Or.inr (hs _ (by decide +kernel))
      | 3, 1, _, _, _ => Or.inr (hs _ (by decide +kernel))
      | 3, 2, _, _, _ => Or.inr (hs _ (by decide +kernel))
      | 3, 3, _, _, h => absurd rfl h
      | i + 4, _, h, _, _ => absurd h (by omega)
      | 0, j + 4, _, h, _ => absurd h (by omega)
      | 1, j + 4, _, h, _ => absurd h (by omega)
      | 2, j + 4, _, h, _ => absurd h (by omega)
      | 3, j + 4, _, h, _ => absurd h (by omega)
theorem lx_K9 {s : State} {dA : Nat → ClassId} (hdA : ∀ t, t < 10 → ArrOfT s (dA t) (xk_at9 t) ∧ va_RA s (dA t) (xk_at9 t)) : ∀ (k : Nat) (q : ClassId × FieldType), (gw_at.mapIdx (fun i t => (dA i, t)))[k]? = some q → ArrOfT s q.1 q.2 ∧ va_RA s q.1 q.2 := fun k q hq => by
  have hk : k < 10 := (List.getElem?_eq_some_iff.mp hq).1
  exact match k, hk, hq with
    | 0, _, h => by cases h; exact hdA 0 (by decide)
    | 1, _, h => by cases h; exact hdA 1 (by decide)
    | 2, _, h => by cases h; exact hdA 2 (by decide)
    | 3, _, h => by cases h; exact hdA 3 (by decide)
    | 4, _, h => by cases h; exact hdA 4 (by decide)
    | 5, _, h => by cases h; exact hdA 5 (by decide)
    | 6, _, h => by cases h; exact hdA 6 (by decide)
    | 7, _, h => by cases h; exact hdA 7 (by decide)
    | 8, _, h => by cases h; exact hdA 8 (by decide)
    | 9, _, h => by cases h; exact hdA 9 (by decide)
    | k + 10, h, _ => absurd h (by omega)
theorem lx_world {s : State} {args : Array Value} {n0 : Nat} (hts : ∀ w ∈ lw_tbl, w.before args s = true) (hg : (Jvm.Cond.and given_1 narrow_1).before args s = true) (hn : s.heap.size = n0) : ∃ w : gw_W, gw_I w (fun q => n0 ≤ q) s ∧ gw_mo w = n0 + 19 ∧ gw_d0 w < n0 ∧ ∃ cell : Cell, s.heap[gw_d0 w]? = some cell ∧ cell.cls = gw_dA w 4 ∧ cell.slots.size = 0 ∧ cell.vm ≠ .unknown ∧ cell.vm.isStatics = false := by
  have ha : ∀ w ∈ lw_all, w.before args s = true := fun w h => hts w (lw_all_tbl h)
  have hs := flat_of_before _ hg
  have hA : ∀ a : Nat, a < s.heap.size → ¬ (n0 ≤ a) := fun a h => by omega
  obtain ⟨D, hD⟩ := lx_D hts
  obtain ⟨dA, hdA⟩ := lx_arrs hts
  obtain ⟨d, c, cell, e1, e2, e3, e4, e5, e6, e7⟩ := lx_d0 (args := args) (s := s) (hs _ (by decide +kernel)) (hs _ (by decide +kernel))
  obtain ⟨u1, hu1⟩ := lx_ref (args := args) (s := s) (t := .static "java/lang/Throwable" "UNASSIGNED_STACK" "[Ljava/lang/StackTraceElement;") (hs _ (by decide +kernel))
  obtain ⟨u2, hu2⟩ := lx_ref (args := args) (s := s) (t := .static "java/lang/Throwable" "SUPPRESSED_SENTINEL" "Ljava/util/List;") (hs _ (by decide +kernel))
  obtain ⟨fm, hfm⟩ := lx_ref (args := args) (s := s) (t := .static "jdk/internal/util/Preconditions" "SIOOBE_FORMATTER" "Ljava/util/function/BiFunction;") (hs _ (by decide +kernel))
  obtain ⟨mi, hmi⟩ := va_Mi.of (args := args) (s := s) (C := "[Ljava/lang/Object;") (hs _ (by decide +kernel))
  obtain ⟨sK, sV, hS, hSe⟩ := lx_strs hs hA
  have hc : c = dA 4 := by
    obtain ⟨_, _, -, -, -, r4⟩ := (hdA 4 (by decide)).2
    exact Option.some.inj (e2.symm.trans r4)
  have hcs : (Term.static "java/lang/String" "COMPACT_STRINGS" "Z").eval args s none [] s = some (.int 1) := va_eqi (hs _ (by decide +kernel))
  refine ⟨(D, dA, n0 + 19, d, (u1, u2), mi, fm, sK, sV), ⟨⟨hD, lx_K9 hdA⟩, lx_nw hts, va_Zof (hts _ q142) (ha _ q89) e1 hA, va_Zof (hts _ q796) (ha _ q109) hu1 hA, va_Zof (hts _ q798) (ha _ q109) hu2 hA, hmi, va_Zof (hts _ q1584) (ha _ q115) hcs hA, va_Zof (hts _ q1600) (ha _ q99) hfm hA, fun i hi => ?_, hS, fun ci hci => ?_, va_AO.of (hts _ q415), va_AO.of (hts _ q457), va_AO.of (hts _ q205), va_AO.of (hts _ q207), va_AO.of (hts _ q1150), hts _ q186⟩, rfl, ?_, cell, e3, e4.trans hc, e5, e6, e7⟩
  · exact match i, hi with
      | 0, h => vk_R.of (hts _ q1570) (hSe 0 h)
      | 1, h => vk_R.of (hts _ q1625) (hSe 1 h)
      | 2, h => vk_R.of (hts _ q1626) (hSe 2 h)
      | 3, h => vk_R.of (hts _ q1627) (hSe 3 h)
      | i + 4, h => absurd h (by omega)
  · rcases hci with rfl | rfl | rfl
    · exact va_Fw.of (hts _ q926) (hts _ q925) (hts _ q941) (hts _ q939) (hts _ q937)
    · exact va_Fw.of (hts _ q926) (hts _ q925) (hts _ q931) (hts _ q929) (hts _ q927)
    · exact va_Fw.of (hts _ q926) (hts _ q925) (hts _ q949) (hts _ q947) (hts _ q945)
  · have := (Array.getElem?_eq_some_iff.mp e3).1
    show d < n0
    omega
