set_option maxRecDepth 100000
/-! THE LAW's OWN ROWS: calls with a frame, its script -/
theorem gx_blind2 {I : State → Prop} {A : Nat → Prop} {P : Heap → Prop} (hI : gx_Inv I A) {av : List Value} : FrameBlind (va_Pc av (fun U => I U ∧ P U.heap)) := fun a U g mk q => by
  obtain ⟨q0, q1, q2⟩ := q
  exact ⟨q0, hI U (U.calling g mk a) (Vm.Alike.refl U.vm) (State.WarmedH.refl U) (fun _ _ _ => rfl) q1, q2⟩
section LX
variable {I : State → Prop} {X : gx_X} {mi : gx_M} {n dc ds : Nat} {P' : Heap → Prop} {oc : Outcome} {P P3 : Heap → Prop} {cs ss pc : Nat} {lv : List (Option Value)} {rest st : List Value}
theorem gx_backf (hX : gx_O I X mi n dc ds P' oc) {A2 : Nat → Prop} (hA2 : ∀ q, A2 q → gx_A X q) {H : Heap} {locs : List Loc} {ls : Array Slot} {mc ms : Nat} {P2 : Heap → Prop} {v : Option Value} {a : Array Value} (hr : va_Run X.1 (gx_l X) X.2.2.1 (gx_R X) (gx_s X) (gx_m X) (gx_args X) (gx_below X) (gx_meth X) (gx_c X) H locs cs ss mc ms (F0 (gx_m X) pc ls st) rest (gx_Qc P2 (.returned v) A2 a) A2) (hS : va_S (gx_A X) (gx_s X).heap H locs) (hl : gx_lh ls lv)
    (hP3 : ∀ H', P2 H' → H.size ≤ H'.size → (∀ q : Nat, q < H.size → ¬ A2 q → H'[q]? = H[q]?) → H'.size ≤ (gx_s X).heap.size + (cs + mc) → P3 H') (k : gx_G X P3 (cs + mc) (ss + ms) lv (pc + 3) (v.toList ++ rest)) : W X.1 (gx_l X) X.2.2.1 (gx_R X) (gx_s X) (gx_m X) (gx_args X) (gx_below X) (gx_meth X) (gx_c X) H locs cs ss (gx_Q X) (F0 (gx_m X) pc ls st) := by
  intro T hT Y
  obtain ⟨v', st₀, t, T', L, h0, Y', hL, e1, e2, ⟨hv, hp2, hz, hk⟩, hst⟩ := hr T hT Y
  cases hv
  rw [h0] at hz hk
  have hsz : T'.heap.size ≤ (gx_s X).heap.size + (cs + mc) := Y'.same.2.2.1
  obtain ⟨t2, a1, b1⟩ := k T'.heap (locs ++ L) ls (by rw [e1]; exact hP3 _ hp2 hz hk (by rw [← e1]; exact hsz)) ⟨Nat.le_trans hS.1 (by rw [e1]; exact hz), fun q h1 h2 => by rw [e1, hk q (Nat.lt_of_lt_of_le h1 hS.1) (fun h => h2 (hA2 q h))]; exact hS.2.1 q h1 h2, fun q hq => by
      rcases List.mem_append.mp hq with h | h
      · exact hS.2.2 q h
      · exact hA2 _ (hL q h)⟩ hl T' rfl Y'
  exact ⟨t2, hst t2 a1, b1⟩
variable {y : MethodName} {mi2 : gx_M} {n2 mc ms index : Nat} {As : List Value} {P1 P2 : Heap → Prop} {v : Option Value}
theorem gx_cVf (hX : gx_O I X mi n dc ds P' oc) {b : Nat} {C : String} {A2 : Nat → Prop} {I2 : State → Prop} (hM : gx_T I2 A2 (gx_l X) y mi2 n2 (va_rf (some b) :: As) P1 mc ms P2 (.returned v)) (hA2 : ∀ q, A2 q → gx_A X q) (hI2 : gx_Inv I2 A2 ∧ ∀ U, I U → I2 U) (hG : GoodIn lw_all (wsV mi.1 index C y (ws_ y mi2.2.2.1 mi2.2.2.2.1 mi2.2.2.2.2))) (hy : y.cls = C ∧ gx_ds y As.length) (hn : n2 + 1 ≤ n) (hL : mi2.2.2.2.1 ≤ 21) (hrec : gx_rc X P C b) (hP1 : ∀ H, P H → P1 H) (hP3 : ∀ H H', P H → P2 H' → H.size ≤ H'.size → (∀ q : Nat, q < H.size → ¬ A2 q → H'[q]? = H[q]?) → H'.size ≤ (gx_s X).heap.size + (cs + mc) → P3 H')
    (hst : st = As.reverse ++ va_rf (some b) :: rest) (hW : (rest.map fun v => v.category).sum ≤ 8) (hd : decode mi.2.2.1 pc = .ok (.invokevirtual index, 3)) (hf : cs + mc ≤ dc ∧ ss + ms ≤ ds) (hlen : mi.2.2.2.1 = lv.length) (k : gx_G X P3 (cs + mc) (ss + ms) lv (pc + 3) (v.toList ++ rest)) : gx_G X P cs ss lv pc st := fun H locs ls hP hS hl => by
  subst hst
  exact gx_backf hX hA2 (va_runV (As := As) (rest := rest) (b := b) (gx_fix hX) hM (cwV As.length hX.2.2.2.2.2.1 hG rfl rfl rfl hy (gx_room hX hn hL)) ⟨gx_blind2 hI2.1, hrec H hP, fun U hU hW => ⟨rfl, hI2.2 U (gx_pre hX hP hS hU hW).1, by rw [hU]; exact hP1 H hP⟩⟩ rfl rfl (hl.1.trans hlen.symm) rfl (by show 2 * 0 + _ ≤ 8; omega) hd (gx_fits hX hf)) hS hl (hP3 H · hP) k
end LX
section LW
variable {p : Program} {l : Launch} {e : Env} {R : Room} {s : State} {m : MethodId} {args : Array Value} {below : List Frame} {meth : Method} {c : Code} {T : State} {locs : List Loc} {cells slots : Nat}
/-- an instance method with handlers -/
theorem gx_callVW (X : Stand p l e R s m args below meth c T locs cells slots) (hexec : p.tables.exec = Jvm.exec) {own C : String} {index : Nat} {y : MethodName} {bytes : ByteArray} {maxL : Nat} {ret : Option FieldType} {hh : List (Nat × Nat × Nat × Nat)}
    (hown : s.vm.findClass own = some m.cls) (hlink : (Cond.methodLink own index y).before args s = true) (hinst : (Cond.instanceMethod y).before args s = true) (hsel : (Cond.selects C y y).before args s = true)
    (hcode : (Cond.codeWith y bytes maxL ret hh).before args s = true) (hy : y.cls ≠ "java/lang/invoke/MethodHandle" ∧ y.cls ≠ "java/lang/invoke/VarHandle")
    {W : Nat} {Pre : Pt → Array Value → Prop} {Post : Pt → Array Value → Option Value → Pt → Prop} (hK : Back l R p e below s args y 3 W Pre Post)
    {b : Addr} {cellB : Cell} (hcell : T.heap[b]? = some cellB) (hobj : cellB.vm.isStatics = false) (hcls : s.vm.findClass C = some cellB.cls)
    {g : JFrame} (hg : g.method = m) (hsize : g.locals.size = c.maxLocals) {argsL rest : List Value} (hlen : ∀ sig, parseMethodDescriptor y.desc = some sig → argsL.length = sig.parameters.length)
    (hstack : g.stack = argsL.reverse ++ .ref b :: rest) (hW : 2 * g.monitorRoom + (rest.map fun v => v.category).sum ≤ W) (hdg : decode c.code g.pc = .ok (.invokevirtual index, 3))
    (hpre : ∀ vm₁, s.WarmedH vm₁ → Pre ⟨T.setVm vm₁, locs, cells, slots⟩ (Value.ref b :: argsL).toArray) :
    ∃ (v : Option Value) (vm₁ : Vm) (B : Pt), s.WarmedH vm₁ ∧ Stand p l e R s m args below meth c B.U B.locs B.cells B.slots ∧ Post ⟨T.setVm vm₁, locs, cells, slots⟩ (Value.ref b :: argsL).toArray v B ∧
      ∀ target, Steps p.tables e below (B.U.setTop { g with pc := g.pc + 3, stack := v.toList ++ rest }) target → Steps p.tables e below (T.setTop g) target := by
  obtain ⟨mk, methM, hnamed, hmethM, hstM, habM⟩ := Cond.instanceMethod_spec hinst
  obtain ⟨m9, methM', cM, hn9, hmethM', -, -, -, -, -, -, hsigM⟩ := Cond.codeWith_spec hcode
  cases hnamed.symm.trans hn9
  cases hmethM.symm.trans hmethM'
  obtain ⟨c2, r2, m2, q1, q2, q3, q4, kP, hkP, hkPi⟩ := Cond.selects_spec hsel
  cases hcls.symm.trans q1
  cases (State.methodFound?_of_named hnamed hy).symm.trans q2
  cases hnamed.symm.trans q3
  have hselP : selectMethod e.platform s.vm cellB.cls mk = .method mk := by rw [Launch.admits_selectMethod X.admits]; exact q4
  obtain ⟨vm₁, X₁, hstep₁⟩ := X.invokevirtual hexec hown hlink hnamed hmethM hstM hkP hkPi hy (a := b) (cell := cellB) hcell
    (fun z h => by rw [h] at hobj; cases hobj) hselP hmethM habM hkP hkPi (g := g) hg (argsL := argsL) (rest := rest) (hlen _ hsigM) hstack hdg
  obtain ⟨v, B, X', hpost, hsteps⟩ := hK m meth c ⟨T.setVm vm₁, locs, cells, slots⟩ { g with stack := rest } (.invokevirtual index) mk (Value.ref b :: argsL).toArray X₁ hg hsize hdg hW (X₁.named hnamed) (hpre vm₁ X₁.warmed)
  exact ⟨v, vm₁, B, X₁.warmed, X', hpost, fun target h => hstep₁ _ fun acts => by rw [doInvoke_state]; exact hsteps.trans h⟩
end LW
section LX2
variable {I : State → Prop} {X : gx_X} {mi : gx_M} {n dc ds : Nat} {P' : Heap → Prop} {oc : Outcome} {P P3 : Heap → Prop} {cs ss pc : Nat} {lv : List (Option Value)} {rest st : List Value}
variable {y : MethodName} {mi2 : gx_M} {n2 mc ms index : Nat} {As : List Value} {P1 P2 : Heap → Prop} {v : Option Value}
theorem gx_cVfW (hX : gx_O I X mi n dc ds P' oc) {b : Nat} {C : String} {A2 : Nat → Prop} {I2 : State → Prop} {hh : List (Nat × Nat × Nat × Nat)} (hM : gx_TW I2 A2 (gx_l X) y mi2 hh n2 (va_rf (some b) :: As) P1 mc ms P2 (.returned v)) (hA2 : ∀ q, A2 q → gx_A X q) (hI2 : gx_Inv I2 A2 ∧ ∀ U, I U → I2 U) (hG : GoodIn lw_all (wsV mi.1 index C y (wsW_ y mi2.2.2.1 mi2.2.2.2.1 mi2.2.2.2.2 hh))) (hy : y.cls = C ∧ gx_ds y As.length) (hn : n2 + 1 ≤ n) (hL : mi2.2.2.2.1 ≤ 21) (hrec : gx_rc X P C b) (hP1 : ∀ H, P H → P1 H) (hP3 : ∀ H H', P H → P2 H' → H.size ≤ H'.size → (∀ q : Nat, q < H.size → ¬ A2 q → H'[q]? = H[q]?) → H'.size ≤ (gx_s X).heap.size + (cs + mc) → P3 H')
    (hst : st = As.reverse ++ va_rf (some b) :: rest) (hW : (rest.map fun v => v.category).sum ≤ 8) (hd : decode mi.2.2.1 pc = .ok (.invokevirtual index, 3)) (hf : cs + mc ≤ dc ∧ ss + ms ≤ ds) (hlen : mi.2.2.2.1 = lv.length) (k : gx_G X P3 (cs + mc) (ss + ms) lv (pc + 3) (v.toList ++ rest)) : gx_G X P cs ss lv pc st := fun H locs ls hP hS hl => by
  subst hst
  have hts := hX.2.2.2.2.2.1
  have ok : ∀ w ∈ wsV mi.1 index C y (wsW_ y mi2.2.2.1 mi2.2.2.2.1 mi2.2.2.2.2 hh), w.before (gx_args X) (gx_s X) = true := fun w h => hts w (hG w h).1
  have hGw : GoodIn lw_all (wsW_ y mi2.2.2.1 mi2.2.2.2.1 mi2.2.2.2.2 hh) := fun w h => hG w (by unfold wsV; exact List.mem_append_right _ h)
  have hcw : Cond.codeWith y mi2.2.2.1 mi2.2.2.2.1 mi2.2.2.2.2 hh ∈ wsW_ y mi2.2.2.1 mi2.2.2.2.1 mi2.2.2.2.2 hh := List.mem_cons_self
  have hrm := gx_room hX hn hL
  have hini : (Cond.initialized y.cls).before (gx_args X) (gx_s X) = true := by rw [hy.1]; exact ok (.initialized C) (by simp [wsV])
  have hK : Back (gx_l X) (gx_R X) X.1 X.2.2.1 (gx_below X) (gx_s X) (gx_args X) y 3 8 (PreOf (gx_R X) mc ms (va_Pc (va_rf (some b) :: As) (fun U => I2 U ∧ P1 U.heap))) (PostOf (gx_Qc P2 (.returned v) A2) mc ms A2) :=
    va_backW (bytes := mi2.2.2.1) (maxL := mi2.2.2.2.1) (ret := mi2.2.2.2.2) (hh := hh) hM (gx_blind2 hI2.1) rfl rfl hrm.1 hrm.2 (pay_in hts hGw) hcw (fun a' U hW => word_at hW (Or.inl (by first | rfl | simp [Cond.onTables, Cond.keeps, Cond.steady])) hini)
  obtain ⟨cellB, hcB, hoB, hclB⟩ := hrec H hP
  refine gx_backf hX hA2 (mc := mc) (ms := ms) (P2 := P2) (v := v) (rest := rest) (a := (Value.ref b :: As).toArray) (fun T hT Y => ?_) hS hl (hP3 H · hP) k
  obtain ⟨v', vm₁, ⟨U', l2, c2, s2⟩, hW₁, X', ⟨g', mk, t, L, e1, e2, hq, h1, hL', h2, h3⟩, st1⟩ := gx_callVW Y hX.1 (C := C) hX.2.2.2.2.1 (ok (.methodLink mi.1 index y) (by simp [wsV])) (ok (.instanceMethod y) (by simp [wsV])) (ok (.selects C y y) (by simp [wsV])) (hts _ (hGw _ hcw).1) ⟨hy.2.1, hy.2.2.1⟩ hK (by rw [hT]; exact hcB) hoB hclB (g := F0 (gx_m X) pc ls (As.reverse ++ va_rf (some b) :: rest)) rfl (hl.1.trans (hlen.symm.trans hX.2.2.2.1.symm)) (argsL := As) (rest := rest) (fun sig h => by
    have h2 := hy.2.2.2
    rw [h] at h2
    exact (Option.some.inj h2).symm) rfl (by show 2 * 0 + _ ≤ 8; omega) (by rw [hX.2.1]; exact hd) (fun vm₁ hW₁ => ⟨(gx_fits hX hf).1, (gx_fits hX hf).2, rfl, hI2.2 _ (gx_pre hX hP hS (U := T.setVm vm₁) hT hW₁).1, by
      show P1 T.heap
      rw [hT]
      exact hP1 H hP⟩)
  dsimp only [Pt.U, Pt.locs, Pt.cells, Pt.slots] at X' e1 e2 h1 h2 h3 st1
  subst h1; subst h2; subst h3
  exact ⟨v', (T.setVm vm₁).calling g' mk (Value.ref b :: As).toArray, t, U', L, hT, X', hL', e1, e2, hq, st1⟩
/-- the script -/
theorem lx_sld (hX : gx_O I X mi n dc ds P' oc) {b L : Nat} {xs : Nat → Int32} (hx : va_X b L xs (gx_s X) (gx_s X).heap) (hb : b < (gx_s X).heap.size ∧ ¬ gx_A X b) {i : Int32} (hin : vp_in i L) (hd : decode mi.2.2.1 pc = .ok (.iaload, 1)) (k : gx_G X P cs ss lv (pc + 1) (.int (xs i.toNatClampNeg) :: rest)) : gx_G X P cs ss lv pc (.int i :: va_rf (some b) :: rest) := fun H locs ls hP hS hl =>
  va_sld hX.1 hX.2.1 hx hb.1 hb.2 hS hin hd (k H locs ls hP hS hl)
theorem lx_slen (hX : gx_O I X mi n dc ds P' oc) {b L : Nat} {xs : Nat → Int32} (hx : va_X b L xs (gx_s X) (gx_s X).heap) (hb : b < (gx_s X).heap.size ∧ ¬ gx_A X b) (hd : decode mi.2.2.1 pc = .ok (.arraylength, 1)) (k : gx_G X P cs ss lv (pc + 1) (.int (nI L) :: rest)) : gx_G X P cs ss lv pc (va_rf (some b) :: rest) := fun H locs ls hP hS hl =>
  va_slen hX.1 hX.2.1 hx hb.1 hb.2 hS hd (k H locs ls hP hS hl)
end LX2
