set_option maxRecDepth 100000
/-! MORE CALLS: overridden, super's, interface's words; a super's inherited method; Math.max, Math.min -/
theorem gx_gO {own : String} {idx : Nat} {C owner : String} {x y : MethodName} {b : ByteArray} {L : Nat} {r : Option FieldType} (h1 : Cond.methodLink own idx x ∈ lw_all) (h2 : Cond.sameMethod x.cls owner x.name x.desc ∈ lw_all) (h3 : Cond.instanceMethod ⟨owner, x.name, x.desc⟩ ∈ lw_all) (h4 : Cond.selects C x y ∈ lw_all) (h5 : Cond.instanceMethod y ∈ lw_all) (h6 : Cond.initialized y.cls ∈ lw_all) (h7 : Cond.code y b L r ∈ lw_all) : GoodIn lw_all (va_wsO own idx C owner x y (ws_ y b L r)) := by
  refine lw_app ?_ (lw_meth h7)
  intro w hw
  simp only [List.mem_cons, List.not_mem_nil, or_false] at hw
  rcases hw with e | e | e | e | e | e <;> rw [e] <;> assumption
theorem gx_gSU {own : String} {idx : Nat} {y : MethodName} {b : ByteArray} {L : Nat} {r : Option FieldType} (h1 : Cond.methodLink own idx y ∈ lw_all) (h2 : Cond.sameMethod y.cls y.cls y.name y.desc ∈ lw_all) (h3 : Cond.superclass own y.cls ∈ lw_all) (h4 : Cond.instanceMethod y ∈ lw_all) (h5 : Cond.initialized y.cls ∈ lw_all) (h7 : Cond.code y b L r ∈ lw_all) : GoodIn lw_all (va_wsSU own idx y (ws_ y b L r)) := by
  refine lw_app ?_ (lw_meth h7)
  intro w hw
  simp only [List.mem_cons, List.not_mem_nil, or_false] at hw
  rcases hw with e | e | e | e | e <;> rw [e] <;> assumption
theorem gx_gF {own : String} {idx : Nat} {C : String} {x y : MethodName} {b : ByteArray} {L : Nat} {r : Option FieldType} (h1 : Cond.methodLink own idx x ∈ lw_all) (h2 : Cond.selects C x y ∈ lw_all) (h4 : Cond.instanceMethod y ∈ lw_all) (h5 : Cond.initialized y.cls ∈ lw_all) (h7 : Cond.code y b L r ∈ lw_all) : GoodIn lw_all (va_wsF own idx C x y (ws_ y b L r)) := by
  refine lw_app ?_ (lw_meth h7)
  intro w hw
  simp only [List.mem_cons, List.not_mem_nil, or_false] at hw
  rcases hw with e | e | e | e <;> rw [e] <;> assumption
theorem gx_sub1 {vm : Vm} {a p : ClassId} {k kp : Class} (h : vm.classes[a]? = some k) (hs : k.super = some p) (_ : vm.classes[p]? = some kp) : vm.isSubclass a p = true := by
  have hlt : a < vm.classes.size := (Array.getElem?_eq_some_iff.mp h).1
  obtain ⟨m, hm⟩ : ∃ m, vm.classes.size = m + 1 := ⟨vm.classes.size - 1, (Nat.sub_add_cancel (Nat.lt_of_le_of_lt (Nat.zero_le a) hlt)).symm⟩
  unfold Vm.isSubclass
  rw [hm]
  simp [Vm.isSubclassAux, h, hs]
section GXC
variable {I : State → Prop} {X : gx_X} {mi : gx_M} {n dc ds : Nat} {P' : Heap → Prop} {oc : Outcome} {P : Heap → Prop} {cs ss pc : Nat} {lv : List (Option Value)} {rest st : List Value}
variable {y : MethodName} {mi2 : gx_M} {n2 mc ms index : Nat} {As : List Value} {P2 : Heap → Prop} {v : Option Value}
/-- a super's method that the super itself inherits -/
theorem gx_cSV (hX : gx_O I X mi n dc ds P' oc) {b : Nat} {C : String} {cC : ClassId} {x : MethodName} (hat : ClassAt (gx_s X) C cC) (hM : gx_T I (gx_A X) (gx_l X) y mi2 n2 (va_rf (some b) :: As) P mc ms P2 (.returned v)) (hG : GoodIn lw_all (ws_ y mi2.2.2.1 mi2.2.2.2.1 mi2.2.2.2.2)) (hq : Cond.methodLink mi.1 index x ∈ lw_all ∧ Cond.sameMethod x.cls y.cls x.name x.desc ∈ lw_all ∧ Cond.superclass mi.1 x.cls ∈ lw_all ∧ Cond.superclass x.cls y.cls ∈ lw_all ∧ Cond.instanceMethod y ∈ lw_all ∧ Cond.initialized y.cls ∈ lw_all) (hxy : x.name = y.name ∧ x.desc = y.desc) (hy : y.name ≠ "<init>" ∧ (parseMethodDescriptor y.desc).map (fun d => d.parameters.length) = some As.length) (hn : n2 + 1 ≤ n) (hL : mi2.2.2.2.1 ≤ 21) (hrec : gx_rc X P C b)
    (hst : st = As.reverse ++ va_rf (some b) :: rest) (hW : (rest.map fun v => v.category).sum ≤ 8) (hd : decode mi.2.2.1 pc = .ok (.invokespecial index, 3)) (hf : cs + mc ≤ dc ∧ ss + ms ≤ ds) (hlen : mi.2.2.2.1 = lv.length) (k : gx_G X P2 (cs + mc) (ss + ms) lv (pc + 3) (v.toList ++ rest)) : gx_G X P cs ss lv pc st := fun H locs ls hP hS hl => by
  subst hst
  have hts := hX.2.2.2.2.2.1
  have hrm := gx_room hX hn hL
  have hcw : Cond.code y mi2.2.2.1 mi2.2.2.2.1 mi2.2.2.2.2 ∈ ws_ y mi2.2.2.1 mi2.2.2.2.1 mi2.2.2.2.2 := List.mem_cons_self
  have hK : Back (gx_l X) (gx_R X) X.1 X.2.2.1 (gx_below X) (gx_s X) (gx_args X) y 3 8 (PreOf (gx_R X) mc ms (va_Pc (va_rf (some b) :: As) (fun U => I U ∧ P U.heap))) (PostOf (gx_Qc P2 (.returned v) (gx_A X)) mc ms (gx_A X)) :=
    back_of (bytes := mi2.2.2.1) (maxL := mi2.2.2.2.1) (ret := mi2.2.2.2.2) hM (gx_blind hX.2.2.2.2.2.2.2.2.2.2.2.2) rfl rfl hrm.1 hrm.2 (pay_in hts hG) hcw (fun a' U hW => word_at hW (Or.inl (by first | rfl | simp [Cond.onTables, Cond.keeps, Cond.steady])) (hts _ hq.2.2.2.2.2))
  obtain ⟨cellB, hcB, hoB, hclB⟩ := hrec H hP
  obtain ⟨hfc, kB, hkB, -⟩ := hat
  cases hfc.symm.trans hclB
  have hcode := hts _ (hG _ hcw).1
  obtain ⟨mk, methM, hnamed, hmethM, hstM, habM⟩ := Cond.instanceMethod_spec (hts _ hq.2.2.2.2.1)
  obtain ⟨methM', cM, hmethM', -, -, -, -, -, -, hsigM⟩ := Cond.code_spec hnamed hcode
  cases hmethM.symm.trans hmethM'
  obtain ⟨ps, dk, kp, hps, hdk, hkp, hsuper, -, -, hnid⟩ := Cond.superclass_spec hX.2.2.2.2.1 (hts _ hq.2.2.1)
  obtain ⟨p2, dk2, kp2, hps2, hdk2, hkp2, hsuper2, -, -, -⟩ := Cond.superclass_spec hps (hts _ hq.2.2.2.1)
  have hn0 : (gx_s X).methodNamed? ⟨y.cls, x.name, x.desc⟩ = some mk := by rw [hxy.1, hxy.2]; exact hnamed
  have hpm : p2 = mk.cls := Option.some.inj (hps2.symm.trans (findClass_of_methodNamed hnamed))
  have hsub : (gx_s X).vm.isSubclass ps mk.cls = true := by
    rw [← hpm]
    have hlt : ps < (gx_s X).vm.classes.size := (Array.getElem?_eq_some_iff.mp hdk2).1
    exact gx_sub1 hdk2 hsuper2 hkp2
  refine gx_back hX (mc := mc) (ms := ms) (P2 := P2) (v := v) (rest := rest) (a := (Value.ref b :: As).toArray) (fun T hT Y => ?_) hS hl k
  have hlA : As.length = methM.sig.parameters.length := by
    have h2 := hy.2
    rw [hsigM] at h2
    exact (Option.some.inj h2).symm
  obtain ⟨vm₁, X₁, hstep₁⟩ := Y.invokespecialUp hX.1 hX.2.2.2.2.1 (hts _ hq.1) (hts _ hq.2.1) hn0 hmethM hstM habM (by rw [hxy.1]; exact hy.1) hdk hnid hps hsuper hsub (a := b) (cell := cellB) (by rw [hT]; exact hcB)
    (fun z h => by rw [h] at hoB; cases hoB) hkB (g := F0 (gx_m X) pc ls (As.reverse ++ va_rf (some b) :: rest)) rfl (argsL := As) (rest := rest) hlA rfl (by rw [hX.2.1]; exact hd)
  obtain ⟨v', ⟨U', l2, c2, s2⟩, X', ⟨g', mk', t, L, e1, e2, hqq, h1, hL', h2, h3⟩, hsteps⟩ := hK (gx_m X) (gx_meth X) (gx_c X) ⟨T.setVm vm₁, locs, cs, ss⟩ { (F0 (gx_m X) pc ls (As.reverse ++ va_rf (some b) :: rest)) with stack := rest } (.invokespecial index) mk (Value.ref b :: As).toArray X₁ rfl (hl.1.trans (hlen.symm.trans hX.2.2.2.1.symm)) (by rw [hX.2.1]; exact hd) (by show 2 * 0 + (rest.map fun v => v.category).sum ≤ 8; omega) (X₁.named hnamed) ⟨(gx_fits hX hf).1, (gx_fits hX hf).2, rfl, gx_pre hX hP hS (U := T.setVm vm₁) hT X₁.warmed⟩
  dsimp only [Pt.U, Pt.locs, Pt.cells, Pt.slots] at X' e1 e2 h1 h2 h3
  subst h1; subst h2; subst h3
  exact ⟨v', (T.setVm vm₁).calling g' mk' (Value.ref b :: As).toArray, t, U', L, hT, X', hL', e1, e2, hqq, fun target h => hstep₁ _ (by rw [doInvoke_state]; exact hsteps.trans h)⟩
theorem gx_mmax (hX : gx_O I X mi n dc ds P' oc) (hq : Cond.methodLink mi.1 index Lib.Math.max.name ∈ lw_all ∧ Cond.static Lib.Math.max.name ∈ lw_all ∧ Cond.initialized "java/lang/Math" ∈ lw_all ∧ Cond.code Lib.Math.max.name Lib.Math.max.code 2 (some .int) ∈ lw_all) (hn : 1 ≤ n) (hW : (rest.map fun v => v.category).sum ≤ 8) (hlen : mi.2.2.2.1 = lv.length) {x y : Int32} (hd : decode mi.2.2.1 pc = .ok (.invokestatic index, 3)) (hf : cs ≤ dc ∧ ss ≤ ds) (k : gx_G X P cs ss lv (pc + 3) (.int (if x < y then y else x) :: rest)) : gx_G X P cs ss lv pc (.int y :: .int x :: rest) := fun H locs ls hP hS hl => by
  have hts := hX.2.2.2.2.2.1
  have hR := hX.2.2.2.2.2.2.2.2.2.1
  exact va_mmax hX.1 hX.2.1 (hX.2.2.2.1.trans (hlen.trans hl.1.symm)) hX.2.2.2.2.1 (hts _ hq.1) (hts _ hq.2.1) (hts _ hq.2.2.1) (hts _ hq.2.2.2) (Nat.le_trans hn hR.1) (by have h40 := hR.2.2.2; show _ ≤ (gx_R X).locals; omega) (Nat.le_trans hf.1 hR.2.1) (Nat.le_trans hf.2 hR.2.2.1) hd (k H locs ls hP hS hl)
theorem gx_mmin (hX : gx_O I X mi n dc ds P' oc) (hq : Cond.methodLink mi.1 index Lib.Math.min.name ∈ lw_all ∧ Cond.static Lib.Math.min.name ∈ lw_all ∧ Cond.initialized "java/lang/Math" ∈ lw_all ∧ Cond.code Lib.Math.min.name Lib.Math.min.code 2 (some .int) ∈ lw_all) (hn : 1 ≤ n) (hW : (rest.map fun v => v.category).sum ≤ 8) (hlen : mi.2.2.2.1 = lv.length) {x y : Int32} (hd : decode mi.2.2.1 pc = .ok (.invokestatic index, 3)) (hf : cs ≤ dc ∧ ss ≤ ds) (k : gx_G X P cs ss lv (pc + 3) (.int (if y < x then y else x) :: rest)) : gx_G X P cs ss lv pc (.int y :: .int x :: rest) := fun H locs ls hP hS hl => by
  have hts := hX.2.2.2.2.2.1
  have hR := hX.2.2.2.2.2.2.2.2.2.1
  exact va_mmin hX.1 hX.2.1 (hX.2.2.2.1.trans (hlen.trans hl.1.symm)) hX.2.2.2.2.1 (hts _ hq.1) (hts _ hq.2.1) (hts _ hq.2.2.1) (hts _ hq.2.2.2) (Nat.le_trans hn hR.1) (by have h40 := hR.2.2.2; show _ ≤ (gx_R X).locals; omega) (Nat.le_trans hf.1 hR.2.1) (Nat.le_trans hf.2 hR.2.2.1) hd (k H locs ls hP hS hl)
end GXC
theorem xk_hf0 {a c n0 a' c' s0 : Nat} (hz : a ≤ c ∧ a' ≤ c') : a - n0 ≤ c - n0 ∧ a' - s0 ≤ c' - s0 := by omega
/-- a method of a long and an int -/
theorem gx_T.ofL {I : State → Prop} {A : Nat → Prop} {l : Launch} {y : MethodName} {mi : gx_M} {n : Nat} {x0 : Nat} {x1 : Int64} {x3 : Int32} {P : Heap → Prop} {dc ds : Nat} {P' : Heap → Prop} {oc : Outcome} (hI : gx_Inv I A) (hy : plainName y.cls = true) (hm : y.cls = mi.1 ∧ y.name = mi.2.1) (hn : mi.2.2.2.1 = 5)
    (body : ∀ X : gx_X, gx_l X = l → gx_A X = A → gx_O I X mi n dc ds P' oc → gx_G X P 0 0 [some (va_rf (some x0)), some (.long x1), none, some (.int x3), none] 0 []) (hoc : ∃ v, oc = .returned v := by exact ⟨_, rfl⟩) : gx_T I A l y mi n [va_rf (some x0), .long x1, .int x3] P dc ds P' oc := by
  refine Met.ofW (cc := mi.2.2.1) (maxL := mi.2.2.2.1) (ret := mi.2.2.2.2) hy rfl ?_
  intro p e s m args below meth c s₁ B hml hv
  obtain ⟨rfl, hi, hP⟩ := hv
  have hts := atoms_spec (ws := ws_ y mi.2.2.1 mi.2.2.2.1 mi.2.2.2.2) B.pre
  rw [lg_entry_eq]
  refine gx_Wm (body (p, l, e, { frames := n, cells := dc, slots := ds, locals := 40 * n }, s, m, [va_rf (some x0), .long x1, .int x3].toArray, below, meth, c, gx_E below P' oc A s dc ds, A) rfl rfl ⟨B.exec, B.bytes, B.returns, hml, ?_, fun w h => hts w (List.mem_cons_of_mem _ h), B.notSynchronized, hi, fun _ h => h, ⟨Nat.le_refl _, Nat.le_refl _, Nat.le_refl _, Nat.le_refl _⟩, ?_, trivial, hI⟩ s.heap [] _ hP va_S.rf ?_) (fun t h => gx_MofE hoc h)
  · rw [← hm.1]
    exact findClass_of_methodNamed B.named
  · rw [← hm.2]
    exact (name_of_methodNamed B.named B.method).1
  · have h := lv_entry [va_rf (some x0), .long x1, .int x3] (n := mi.2.2.2.1) (by rw [hn]; exact Nat.le_of_ble_eq_true rfl)
    refine ⟨h.1.trans (by rw [hn]; rfl), h.2.1, fun i v hiv => ?_⟩
    have hlt : i < 5 := (List.getElem?_eq_some_iff.mp hiv).1
    match i, hlt, hiv with
    | 0, _, hiv => cases hiv; exact h.2.2 (0, va_rf (some x0)) (by simp [lv_args])
    | 1, _, hiv => cases hiv; exact h.2.2 (1, .long x1) (by simp [lv_args, va_rf, Value.category])
    | 2, _, hiv => cases hiv
    | 3, _, hiv => cases hiv; exact h.2.2 (3, .int x3) (by simp [lv_args, va_rf, Value.category])
    | 4, _, hiv => cases hiv
