set_option maxRecDepth 100000
/-! A CATCH whose class is linked at the catch itself -/
section GXK
theorem gx_goCold {e : Env} {s : State} {f : JFrame} {a : Addr} {x : ExceptionTableEntry} {t : List ExceptionTableEntry} {c : ClassId} {cell : Cell} {vm' : Vm} (hx : covers x f.pc = true) (h0 : x.catchType ≠ 0)
    (hg : (Jvm.resolveClass f.method.cls x.catchType).Gives e.toSetting s.vm (.ok c) vm') (hsz : vm'.classes.size ≤ s.vm.classes.size) (hcell : s.heap[a]? = some cell) (hobj : ∀ k, cell.vm ≠ .statics k)
    (hk : ∃ k, vm'.classes[cell.cls]? = some k) (hc : ∃ k, vm'.classes[c]? = some k) (hfit : vm'.assignable cell.cls c = true) {Q : Handler → Pre} {E : CtlPost} {d : Bool} {acts : List Action} :
    wp (findHandler.go f a (x :: t)) Q E e d acts s ↔ Q (.found x.handlerPc) d acts (s.setVm vm') := by
  simp only [covers] at hx
  obtain ⟨ha, ht⟩ := hg.op (op := VmOp.resolveClass f.method.cls x.catchType) rfl
  have hcell' : (s.setVm vm').heap[a]? = some cell := hcell
  simp [findHandler.go, hx, h0, ha, ht, hsz, hcell, hcell', hobj, hk, hc, hfit, VmOp.dirties, VmOp.acts]
theorem gx_stepCold {e : Env} {s : State} {a : Addr} {f : JFrame} {r : List Frame} {pc : Nat} {s' : State} (hfind : ∀ (Q : Handler → Pre) (E : CtlPost) (d : Bool) (acts : List Action), wp (findHandler f a) Q E e d acts s ↔ Q (.found pc) d acts s') :
    (stepThrowing e s a (.java f :: r)).Is (s'.setFrames (.java { f with pc := pc, stack := [.ref a] } :: r)) [] := by
  simp only [stepThrowing, searchFrame, vmDo]
  generalize hr : Sem.go _ e false [] s = res
  obtain ⟨as, rfl, ha⟩ := Sem.eq_ok_of hr (a := Handler.found pc) (s' := s') (acts' := []) (by simp [hfind _ _ _ _])
  exact ⟨rfl, ha⟩
theorem gx_caught {tb : Tables} [Ours tb] {e : Env} {T target : State} {g : JFrame} {c : Code} {below : List Frame} {a : Addr} (h : At T g.method c below) {pc : Nat} {vm' : Vm}
    (hfind : ∀ (Q : Handler → Pre) (E : CtlPost) (d : Bool) (acts : List Action), wp (findHandler g a) Q E e d acts ((T.setTop g).pushFrame (.throwing a)) ↔ Q (.found pc) d acts (((T.setTop g).pushFrame (.throwing a)).setVm vm'))
    (hrest : Steps tb e below ((T.setVm vm').setTop { g with pc := pc, stack := [.ref a] }) target) : Steps tb e below ((T.setTop g).pushFrame (.throwing a)) target := by
  obtain ⟨hgo, hw⟩ := h.throwing a
  refine Steps.head hgo hw ?_
  rw [stepThread_throwing (frames_entered h.top _), (gx_stepCold hfind).1]
  obtain ⟨g₀, hg⟩ := Option.isSome_iff_exists.mp h.top
  obtain ⟨r, hr⟩ := State.topJava?_eq_some.mp hg
  have hr2 : (T.setVm vm').frames = .java g₀ :: r := hr
  rw [State.setTop_of_frames _ hr2] at hrest
  have e1 : (((T.setTop g).pushFrame (.throwing a)).setVm vm').setFrames (.java { g with pc := pc, stack := [.ref a] } :: T.frames.tail) = (T.setVm vm').setFrames (.java { g with pc := pc, stack := [.ref a] } :: r) := by
    show (((T.setTop g).pushFrame (.throwing a)).setFrames (.java { g with pc := pc, stack := [.ref a] } :: T.frames.tail)).setVm vm' = (T.setFrames (.java { g with pc := pc, stack := [.ref a] } :: r)).setVm vm'
    rw [State.pushFrame, State.setFrames_setFrames, State.setTop_of_frames _ hr, State.setFrames_setFrames, hr]
    rfl
  rw [e1]
  exact hrest
end GXK
section GXL
variable {I : State → Prop} {X : gx_X} {mi : gx_M} {n dc ds : Nat} {P' : Heap → Prop} {oc : Outcome} {P : Heap → Prop} {cs ss pc : Nat} {lv : List (Option Value)} {rest st : List Value}
variable {y : MethodName} {mi2 : gx_M} {n2 mc ms index : Nat} {As : List Value} {P2 : Heap → Prop} {v : Option Value}
theorem gx_cVC (hX : gx_O I X mi n dc ds P' oc) {b x : Nat} {C : String} (hM : gx_TG I (gx_A X) (gx_l X) y mi2 n2 (va_rf (some b) :: As) P mc ms P2 (.threw x)) (hG : GoodIn lw_all (wsV mi.1 index C y (ws_ y mi2.2.2.1 mi2.2.2.2.1 mi2.2.2.2.2))) (hy : y.cls = C ∧ gx_ds y As.length) (hn : n2 + 1 ≤ n) (hL : mi2.2.2.2.1 ≤ 21) (hrec : gx_rc X P C b)
    (hst : st = As.reverse ++ va_rf (some b) :: rest) (hW : (rest.map fun v => v.category).sum ≤ 8) (hd : decode mi.2.2.1 pc = .ok (.invokevirtual index, 3)) (hf : cs + mc ≤ dc ∧ ss + ms ≤ ds) (hlen : mi.2.2.2.1 = lv.length)
    {a1 a2 hpc ct : Nat} {tl : List (Nat × Nat × Nat × Nat)} (hh : (gx_c X).exceptionTable.toList.map (fun h => (h.startPc, h.endPc, h.handlerPc, h.catchType)) = (a1, a2, hpc, ct) :: tl) (hr : a1 ≤ pc ∧ pc < a2 ∧ ct ≠ 0) {nm : String} (hlk : Cond.classLink mi.1 ct nm ∈ lw_all)
    (ho : ∀ H, P2 H → ∃ cell : Cell, H[x]? = some cell ∧ cell.vm = .none ∧ (gx_s X).vm.findClass nm = some cell.cls) (k : gx_G X P2 (cs + mc) (ss + ms) lv hpc [va_rf (some x)]) : gx_G X P cs ss lv pc st := fun H locs ls hP hS hl => by
  subst hst
  intro T hT Y
  obtain ⟨T', L, S', hp2, hS2, hstep⟩ := gx_thrown hX hM hG hy hn hL hrec hW hd hf hlen hP hS hl hT Y
  obtain ⟨cell, c1, c2, c3⟩ := ho _ hp2
  have hpl : X.2.2.1.platform.magicAccessors = ({} : Platform).magicAccessors := by rw [S'.admits.platform]
  obtain ⟨cT, hc', hcl⟩ := Cond.classLink_spec hX.2.2.2.2.1 (hX.2.2.2.2.2.1 _ hlk) X.2.2.1.platform hpl
  cases c3.symm.trans hc'
  obtain ⟨dk, _, _, kt, hdk, _, _, _, _, hkt, _, hopen⟩ := hcl.here
  have hcl₀ := S'.warmed.classLinks hcl
  have hW' : (gx_s X).WarmedH (T'.vm.noted (gx_m X).cls ct (.cls cell.cls)) := S'.warmed.noted hdk hopen (State.rightAt_cls hcl)
  obtain ⟨kt', hkt', -⟩ := hW'.alike.2.2 _ _ hkt
  have X2 := S'.noted hW'
  obtain ⟨t, b1, b2⟩ := k T'.heap (locs ++ L) ls hp2 hS2 hl (T'.setVm (T'.vm.noted (gx_m X).cls ct (.cls cell.cls))) rfl X2
  refine ⟨t, hstep t (gx_caught (g := F0 (gx_m X) pc ls rest) (pc := hpc) (vm' := T'.vm.noted (gx_m X).cls ct (.cls cell.cls)) S'.here (fun Q E d acts => ?_) b1), b2⟩
  have hvm : ((T'.setTop (F0 (gx_m X) pc ls rest)).pushFrame (.throwing x)).vm = T'.vm := Stand.throwing_vm _ _ _
  have hm9 : ((T'.setTop (F0 (gx_m X) pc ls rest)).pushFrame (.throwing x)).vm.method? (F0 (gx_m X) pc ls rest).method = some (gx_meth X) := by rw [hvm]; exact S'.method'
  rw [W.findHandler_eq hm9 S'.code]
  cases htab : (gx_c X).exceptionTable.toList with
  | nil => rw [htab] at hh; cases hh
  | cons en tl9 =>
    rw [htab, List.map_cons] at hh
    have he := (List.cons.inj hh).1
    have e1 : en.startPc = a1 := congrArg (fun q => q.1) he
    have e2 : en.endPc = a2 := congrArg (fun q => q.2.1) he
    have e3 : en.handlerPc = hpc := congrArg (fun q => q.2.2.1) he
    have e4 : en.catchType = ct := congrArg (fun q => q.2.2.2) he
    rw [← e3]
    have hcov : covers en (F0 (gx_m X) pc ls rest).pc = true := by
      show (decide (en.startPc ≤ pc) && decide (pc < en.endPc)) = true
      rw [e1, e2]
      simp [hr.1, hr.2.1]
    refine gx_goCold (cell := cell) (c := cell.cls) hcov (by rw [e4]; exact hr.2.2) ?_ ?_ ?_ (fun k h => by rw [c2] at h; cases h) ⟨kt', hkt'⟩ ⟨kt', hkt'⟩ (va_asg _ _)
    · rw [hvm, e4]
      exact resolveClass_links X.2.2.1.toSetting hcl₀
    · rw [hvm]
      no_record
    · rw [Stand.throwing_heap]
      exact c1
/-- a contract of a method with handlers -/
def gx_TW (I : State → Prop) (A : Nat → Prop) (l : Launch) (y : MethodName) (mi : gx_M) (hh : List (Nat × Nat × Nat × Nat)) (n : Nat) (av : List Value) (P : Heap → Prop) (dc ds : Nat) (P' : Heap → Prop) (oc : Outcome) : Prop :=
  Met l y (wsW_ y mi.2.2.1 mi.2.2.2.1 mi.2.2.2.2 hh) { frames := n, cells := dc, slots := ds, locals := 40 * n } (va_Pc av (fun U => I U ∧ P U.heap)) (gx_Qc P' oc A) dc ds A
theorem gx_TW.of {A : Nat → Prop} {l : Launch} {av : List Value} {hh : List (Nat × Nat × Nat × Nat)} (hI : gx_Inv I A) (hy : plainName y.cls = true) (hm : y.cls = mi.1 ∧ y.name = mi.2.1) (hc : ∀ v ∈ av, v.category = 1) (hn : av.length ≤ mi.2.2.2.1)
    (body : ∀ X : gx_X, gx_l X = l → gx_A X = A → gx_O I X mi n dc ds P' oc → (gx_c X).exceptionTable.toList.map (fun h => (h.startPc, h.endPc, h.handlerPc, h.catchType)) = hh → gx_G X P 0 0 (gx_en mi.2.2.2.1 av) 0 []) (hoc : ∃ v, oc = .returned v := by exact ⟨_, rfl⟩) : gx_TW I A l y mi hh n av P dc ds P' oc := by
  refine va_MetW (cc := mi.2.2.1) (maxL := mi.2.2.2.1) (ret := mi.2.2.2.2) (hh := hh) hy rfl ?_
  intro p e s m args below meth c s₁ B hml hv
  obtain ⟨rfl, hi, hP⟩ := hv
  have hts := atoms_spec (ws := wsW_ y mi.2.2.1 mi.2.2.2.1 mi.2.2.2.2 hh) B.pre
  obtain ⟨m9, meth9, c9, hn9, h1, h2, h3, h4, h7, h5, h6, -⟩ := Cond.codeWith_spec (hts _ List.mem_cons_self)
  cases hn9.symm.trans B.named
  cases h1.symm.trans B.method
  cases h2.symm.trans (Stand.of_body B).code
  rw [lg_entry_eq]
  refine gx_Wm (body (p, l, e, { frames := n, cells := dc, slots := ds, locals := 40 * n }, s, m, av.toArray, below, meth, c, gx_E below P' oc A s dc ds, A) rfl rfl ⟨B.exec, B.bytes, B.returns, hml, ?_, fun w h => hts w (List.mem_cons_of_mem _ h), B.notSynchronized, hi, fun _ h => h, ⟨Nat.le_refl _, Nat.le_refl _, Nat.le_refl _, Nat.le_refl _⟩, ?_, trivial, hI⟩ h7 s.heap [] _ hP va_S.rf (gx_entry av _ hc hn)) (fun t h => gx_MofE hoc h)
  · rw [← hm.1]
    exact findClass_of_methodNamed B.named
  · rw [← hm.2]
    exact (name_of_methodNamed B.named B.method).1
end GXL
