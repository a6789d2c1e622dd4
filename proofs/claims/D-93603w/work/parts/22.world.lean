set_option maxRecDepth 100000
/-! THE WORLD: classes by number, what the tables and the old heap say all through the run (gw_I) -/
abbrev gw_cl : List vw_C := [(RX0, TX0, 27), (RX1, TX1, 5), (RX2, TX2, 5), (RX3, TX3, 39), (RX4, TX4, 7), (RX5, TX5, 13), (RX6, TX6, 2), (RX7, TX7, 3), (RX8, TX8, 3), (RX9, TX9, 4), (RX10, TX10, 5), (RX11, TX11, 4), (RX12, TX12, 3), (RX13, TX13, 5), (RX14, TX14, 7), (RX15, TX15, 1), (RX16, TX16, 3), (RX17, TX17, 3), (RX18, TX18, 7), (RX19, TX19, 10), (RJ2, TJ2, 3)]
/-- array classes: 0 int, 1 byte, 2 char, 3 boolean, 4 Object, 5 Way, 6 Crab, 7 Shell, 8 Habit, 9 char[] -/
abbrev gw_at : List FieldType := [.int, .byte, .char, .boolean, .object "java/lang/Object", .object "ShellBeach$Way", .object "ShellBeach$Crab", .object "ShellBeach$Shell", .object "ShellBeach$Habit", .array .char]
/-- classes and slots, array classes, the Model's address, the empty Object[], Throwable's two statics, the mirror of Object[], the formatter, the Strings' addresses -/
abbrev gw_W : Type := va_G × (Nat → ClassId) × Nat × Nat × (Option Nat × Option Nat) × Nat × Option Nat × (Nat → Nat) × (Nat → Nat)
abbrev gw_D (w : gw_W) : va_G := w.1
abbrev gw_dA (w : gw_W) : Nat → ClassId := w.2.1
abbrev gw_mo (w : gw_W) : Nat := w.2.2.1
abbrev gw_d0 (w : gw_W) : Nat := w.2.2.2.1
abbrev gw_u1 (w : gw_W) : Option Nat := w.2.2.2.2.1.1
abbrev gw_u2 (w : gw_W) : Option Nat := w.2.2.2.2.1.2
abbrev gw_mi (w : gw_W) : Nat := w.2.2.2.2.2.1
abbrev gw_fm (w : gw_W) : Option Nat := w.2.2.2.2.2.2.1
abbrev gw_sK (w : gw_W) : Nat → Nat := w.2.2.2.2.2.2.2.1
abbrev gw_sV (w : gw_W) : Nat → Nat := w.2.2.2.2.2.2.2.2
def gw_ty (w : gw_W) : List (ClassId × FieldType) := gw_at.mapIdx (fun i t => (gw_dA w i, t))
/-- words that don't ride in the lists -/
def gw_xk : Cond → Bool
  | .fieldLinkNest .. => true
  | .methodLinkNest .. => true
  | .castable .. => true
  | .declares .. => true
  | .publicMethod .. => true
  | .unhidden .. => true
  | _ => false
def gw_xw : List Cond := lw_tbl.filter gw_xk
theorem gw_xq {c : Cond} (h : c ∈ lw_tbl) (g : gw_xk c = true) : c ∈ gw_xw := List.mem_filter.mpr ⟨h, g⟩
theorem gw_xw.warm {c : Cond} (hc : c ∈ gw_xw) {s U : State} (hW : s.WarmedH U.vm) (hZ : va_Nw c s) : va_Nw c U := by
  have hk := (List.mem_filter.mp hc).2
  cases c <;> first | exact va_Nw.warmF hW hZ | exact va_Nw.warmM hW hZ | exact va_Nw.warmC hW hZ | exact va_Nw.warmD hW hZ | exact va_tabs rfl (rfl : (s.setVm U.vm).vm = U.vm) (by rw [Cond.publicMethod_setVm hW.alike]; exact hZ) | exact va_tabs rfl (rfl : (s.setVm U.vm).vm = U.vm) (by rw [Cond.unhidden_setVm hW.alike]; exact hZ) | (simp [gw_xk] at hk; done)
def gw_len : List Nat := [5, 6, 5, 5]
def gw_byt : List (List Int32) := [[116, 97, 107, 101, 32], [107, 110, 111, 99, 107, 32], [103, 105, 118, 101, 32], [119, 97, 105, 116, 32]]
def gw_sx : List (Nat × String) := [(174, "take "), (180, "knock "), (182, "give "), (184, "wait ")]
def gw_AL : String := "java/util/ArrayList"
/-- the face of the interface's method: Test.holds -/
def gw_xT : MethodName := ⟨"ShellBeach$Test", "holds", "(LShellBeach$Case;)Z"⟩
def gw_yT : Nat → MethodName := fun ci => ⟨if ci = 15 then "ShellBeach$Not" else if ci = 16 then "ShellBeach$Fact" else "ShellBeach$Two", "holds", "(LShellBeach$Case;)Z"⟩
/-- arrays of char[] can be made -/
def gw_AOC (U : State) : Prop := (Cond.arrayOver (.array .char)).before #[] U = true
theorem gw_AOC.spec {s : State} (h : gw_AOC s) : ∃ comp c k, s.vm.findClass (FieldType.array .char).toString = some comp ∧ (s.vm.classes.findIdx? fun x => match x.kind with | .array component _ => component == comp | _ => false) = some c ∧ s.vm.classes[c]? = some k ∧ k.kind = .array comp (.array .char) ∧ s.vm.findClass ("[" ++ (FieldType.array .char).toString) = some c := by
  unfold gw_AOC Cond.before at h
  simp only [Cond.holds, Cond.value, beq_iff_eq] at h
  cases hc : s.vm.findClass (FieldType.array .char).toString with
  | none => simp [hc] at h
  | some comp =>
    rw [hc, Option.bind_some] at h
    obtain ⟨c, hi, h⟩ := Option.bind_eq_some_iff.mp h
    obtain ⟨k, hk, h⟩ := Option.map_eq_some_iff.mp h
    refine ⟨comp, c, k, rfl, hi, hk, ?_⟩
    have hp := Array.findIdx?_eq_some_iff_getElem.mp hi
    obtain ⟨hlt, hp, -⟩ := hp
    have hkk : s.vm.classes[c] = k := by
      rw [Array.getElem?_eq_getElem hlt] at hk
      exact Option.some.inj hk
    rw [hkk] at hp
    cases hkd : k.kind with
    | array c2 ty =>
      rw [hkd] at h hp
      simp at h hp
      rw [hp, h.1]
      exact ⟨rfl, h.2⟩
    | _ => rw [hkd] at h; simp at h
theorem gw_AOC.moved {u U : State} (hvm : u.vm.Alike U.vm) (h : gw_AOC u) : gw_AOC U := by
  obtain ⟨comp, c, k, h1, h2, h3, h4, h5⟩ := gw_AOC.spec h
  obtain ⟨k', hk', he⟩ := hvm.2.2 _ _ h3
  have hi : (U.vm.classes.findIdx? fun (x : Class) => match x.kind with | .array component _ => component == comp | _ => false) = some c := by
    have b1 := va_idx_bare U.vm comp
    have b2 := va_idx_bare u.vm comp
    have hb : U.vm.bare = u.vm.bare := by first | exact hvm.bare_eq | exact hvm.bare_eq.symm
    rw [hb] at b1
    exact b1.symm.trans (b2.trans h2)
  have hkind : k'.kind = .array comp (.array .char) := by rw [he]; exact h4
  have f1 : U.vm.findClass (FieldType.array .char).toString = some comp := by rw [hvm.findClass]; exact h1
  have f2 : U.vm.findClass ("[" ++ (FieldType.array .char).toString) = some c := by rw [hvm.findClass]; exact h5
  unfold gw_AOC Cond.before Cond.holds
  simp only [Cond.value]
  rw [f1, Option.bind_some]
  refine (congrArg (fun o : Option Nat => (o.bind (fun c => (U.vm.classes[c]?).map fun (k : Class) => match k.kind with | .array _ ty => decide (ty = FieldType.array .char) && decide (U.vm.findClass ("[" ++ (FieldType.array .char).toString) = some c) | _ => false) == some true)) hi).trans ?_
  simp [hk', hkind, f2]
/-- what the tables and the old heap say -/
def gw_I (w : gw_W) (A : Nat → Prop) (U : State) : Prop :=
  va_K (gw_D w) gw_cl (gw_ty w) U ∧ (∀ c ∈ gw_xw, va_Nw c U) ∧ va_Z gw_AL "DEFAULTCAPACITY_EMPTY_ELEMENTDATA" "[Ljava/lang/Object;" (.ref (gw_d0 w)) A U U.heap ∧ va_Z "java/lang/Throwable" "UNASSIGNED_STACK" "[Ljava/lang/StackTraceElement;" (va_rf (gw_u1 w)) A U U.heap ∧ va_Z "java/lang/Throwable" "SUPPRESSED_SENTINEL" "Ljava/util/List;" (va_rf (gw_u2 w)) A U U.heap ∧
  va_Mi "[Ljava/lang/Object;" (gw_mi w) U ∧ va_Z "java/lang/String" "COMPACT_STRINGS" "Z" (.int 1) A U U.heap ∧ va_Z "jdk/internal/util/Preconditions" "SIOOBE_FORMATTER" "Ljava/util/function/BiFunction;" (va_rf (gw_fm w)) A U U.heap ∧
  (∀ i, i < 4 → vk_R "ShellBeachModel" (gw_sx.getD i (0, "")).1 (gw_sx.getD i (0, "")).2 (gw_sK w i) U) ∧ vk_S 4 gw_len gw_byt (gw_sK w) (gw_sV w) A U U.heap ∧ (∀ ci, ci = 15 ∨ ci = 16 ∨ ci = 17 → va_Fw (gw_yT ci).cls gw_xT (gw_yT ci) U) ∧ va_AO "java/lang/Object" U ∧ va_AO "ShellBeach$Way" U ∧ va_AO "ShellBeach$Crab" U ∧ va_AO "ShellBeach$Shell" U ∧ va_AO "ShellBeach$Habit" U ∧ gw_AOC U
theorem gw_I.inv (w : gw_W) (A : Nat → Prop) : gx_Inv (gw_I w A) A := by
  intro u U hvm hW hq h
  obtain ⟨h1, h2, h3, h4, h5, h6, h7, h8, h9, h10, h11, a1, a2, a3, a4, a5, a6⟩ := h
  have hz : ∀ {C n d : String} {v : Value}, va_Z C n d v A u u.heap → va_Z C n d v A U U.heap := fun h => va_Z.moved hvm (va_Z.kept h hq)
  exact ⟨va_K.moved hvm h1, fun c hc => gw_xw.warm hc hW (h2 c hc), hz h3, hz h4, hz h5, va_Mi.moved hvm h6, hz h7, hz h8, fun i hi => vk_R.warm hW (h9 i hi), vk_S.moved hvm (vk_S.kept h10 hq), fun ci hi => va_Fw.moved (by decide) hvm (h11 ci hi), va_AO.moved hvm a1, va_AO.moved hvm a2, va_AO.moved hvm a3, va_AO.moved hvm a4, va_AO.moved hvm a5, gw_AOC.moved hvm a6⟩
/-- a smaller set of writable places -/
theorem gw_I.narrow {w : gw_W} {A B : Nat → Prop} {U : State} (hAB : ∀ q, B q → A q) (h : gw_I w A U) : gw_I w B U := by
  obtain ⟨h1, h2, h3, h4, h5, h6, h7, h8, h9, h10, h11⟩ := h
  exact ⟨h1, h2, h3.narrow hAB, h4.narrow hAB, h5.narrow hAB, h6, h7.narrow hAB, h8.narrow hAB, h9, h10.narrow hAB, h11⟩
