set_option maxRecDepth 100000
/-! THE WALK'S OWN LAYER: gx_G, a method's walk with its locals as a list by places, its heap by a picture P; one row an instruction -/
/-- what stays fixed in a walk: program, launch, environment, room, start, method, arguments, frames below, method, code, goal, writable addresses -/
abbrev gx_X : Type := Program × Launch × Env × Room × State × MethodId × Array Value × List Frame × Method × Code × (State → Prop) × (Nat → Prop)
abbrev gx_l (X : gx_X) : Launch := X.2.1
abbrev gx_R (X : gx_X) : Room := X.2.2.2.1
abbrev gx_s (X : gx_X) : State := X.2.2.2.2.1
abbrev gx_m (X : gx_X) : MethodId := X.2.2.2.2.2.1
abbrev gx_args (X : gx_X) : Array Value := X.2.2.2.2.2.2.1
abbrev gx_below (X : gx_X) : List Frame := X.2.2.2.2.2.2.2.1
abbrev gx_meth (X : gx_X) : Method := X.2.2.2.2.2.2.2.2.1
abbrev gx_c (X : gx_X) : Code := X.2.2.2.2.2.2.2.2.2.1
abbrev gx_Q (X : gx_X) : State → Prop := X.2.2.2.2.2.2.2.2.2.2.1
abbrev gx_A (X : gx_X) : Nat → Prop := X.2.2.2.2.2.2.2.2.2.2.2
/-- the locals by their places -/
def gx_lh (ls : Array Slot) (lv : List (Option Value)) : Prop := ls.size = lv.length ∧ lv_wf ls ∧ ∀ (i : Nat) (v : Value), lv[i]? = some (some v) → ls[i]? = some (.val v)
theorem gx_store {ls : Array Slot} {lv : List (Option Value)} {i : Nat} {v : Value} (h : gx_lh ls lv) (hi : i < lv.length) (hc : v.category = 1) (hp : ∀ w, lv[i - 1]? = some (some w) → w.category = 1) : ∃ ls', storeLocals ls i v = some ls' ∧ gx_lh ls' (lv.set i (some v)) := by
  obtain ⟨ls', e, h'⟩ := lv_store1 (nL := lv.length) (l := []) (v := v) ⟨h.1, h.2.1, fun q hq => by cases hq⟩ hi hc
  refine ⟨ls', e, by rw [List.length_set]; exact h'.1, h'.2.1, fun j w hj => ?_⟩
  by_cases hji : j = i
  · subst hji
    rw [List.getElem?_set_self hi] at hj
    cases hj
    exact h'.2.2 (j, v) List.mem_cons_self
  · rw [List.getElem?_set_ne (Ne.symm hji)] at hj
    obtain ⟨l2, e2, h2⟩ := lv_store1 (nL := lv.length) (l := [(j, w)]) (v := v) ⟨h.1, h.2.1, fun q hq => by rw [List.mem_singleton.mp hq]; exact h.2.2 j w hj⟩ hi hc
    cases e.symm.trans e2
    refine h2.2.2 (j, w) (List.mem_cons_of_mem _ (List.mem_filter.mpr ⟨List.mem_singleton.mpr rfl, ?_⟩))
    by_cases hj1 : j + 1 = i
    · have hw := hp w (by rw [← hj1]; exact hj)
      simp [hji, hw]
    · simp [hji, hj1]
/-- fewer locals known -/
theorem gx_lh.less {ls : Array Slot} {lv lv' : List (Option Value)} (h : gx_lh ls lv) (hl : lv'.length = lv.length) (hv : ∀ (i : Nat) (v : Value), lv'[i]? = some (some v) → lv[i]? = some (some v)) : gx_lh ls lv' := ⟨h.1.trans hl.symm, h.2.1, fun i v hi => h.2.2 i v (hv i v hi)⟩
def gx_le : List (Option Value) → List (Option Value) → Prop
  | [], [] => True
  | a :: l, b :: l' => (a = none ∨ a = b) ∧ gx_le l l'
  | _, _ => False
theorem gx_le.spec : ∀ {l l' : List (Option Value)}, gx_le l l' → l.length = l'.length ∧ ∀ (i : Nat) (v : Value), l[i]? = some (some v) → l'[i]? = some (some v)
  | [], [], _ => ⟨rfl, fun i v h => by simp at h⟩
  | a :: l, b :: l', ⟨h1, h2⟩ => by
    obtain ⟨e1, e2⟩ := gx_le.spec h2
    refine ⟨by simp [e1], fun i v h => ?_⟩
    cases i with
    | zero =>
      rw [List.getElem?_cons_zero] at h ⊢
      rcases h1 with rfl | rfl
      · cases h
      · exact h
    | succ i =>
      rw [List.getElem?_cons_succ] at h ⊢
      exact e2 i v h
/-- the walk -/
def gx_G (X : gx_X) (P : Heap → Prop) (cs ss : Nat) (lv : List (Option Value)) (pc : Nat) (st : List Value) : Prop :=
  ∀ (H : Heap) (locs : List Loc) (ls : Array Slot), P H → va_S (gx_A X) (gx_s X).heap H locs → gx_lh ls lv → W X.1 (gx_l X) X.2.2.1 (gx_R X) (gx_s X) (gx_m X) (gx_args X) (gx_below X) (gx_meth X) (gx_c X) H locs cs ss (gx_Q X) (F0 (gx_m X) pc ls st)
/-- a method's name for the walk: its class, its name, its code, its locals, its answer -/
abbrev gx_M : Type := String × String × ByteArray × Nat × Option FieldType
/-- the end of a contract -/
def gx_Qc (P' : Heap → Prop) (oc : Outcome) (A : Nat → Prop) : Array Value → State → Outcome → State → Prop := fun _ st o t => o = oc ∧ P' t.heap ∧ va_F A st t
/-- the tables' knowledge that goes with every contract: a set of predicates of a state, kept by warming and by writes inside A -/
def gx_Inv (I : State → Prop) (A : Nat → Prop) : Prop := (∀ (u U : State), u.vm.Alike U.vm → u.WarmedH U.vm → (∀ q : Nat, q < u.heap.size → ¬ A q → U.heap[q]? = u.heap[q]?) → I u → I U)
/-- how a walk ends: what it answers or throws, its heap, what it made -/
def gx_E (below : List Frame) (P' : Heap → Prop) (oc : Outcome) (A : Nat → Prop) (s : State) (dc ds : Nat) : State → Prop := fun t =>
  t.status = .running ∧ Ended t below oc ∧ P' t.heap ∧ va_F A s t ∧ ∃ L, (s.WarmedH t.vm ∧ s.sameButNew ({ t with vm := s.vm } : State) L dc ds) ∧ ∀ q ∈ L, A q.base
theorem gx_EofM {below : List Frame} {P' : Heap → Prop} {oc : Outcome} {A : Nat → Prop} {a : Array Value} {s : State} {dc ds : Nat} {t : State} (h : MQ below (gx_Qc P' oc A) a s dc ds A t) : gx_E below P' oc A s dc ds t := by
  obtain ⟨o, h1, h2, ⟨rfl, h3, h4⟩, L, ⟨-, h5⟩, h6⟩ := h
  exact ⟨h1, h2, h3, h4, L, h5, h6⟩
theorem gx_MofE {below : List Frame} {P' : Heap → Prop} {oc : Outcome} {A : Nat → Prop} {a : Array Value} {s : State} {dc ds : Nat} {t : State} (hoc : ∃ v, oc = .returned v) (h : gx_E below P' oc A s dc ds t) : MQ below (gx_Qc P' oc A) a s dc ds A t := by
  obtain ⟨h1, h2, h3, h4, L, h5, h6⟩ := h
  exact ⟨oc, h1, h2, ⟨rfl, h3, h4⟩, L, ⟨hoc, h5⟩, h6⟩
theorem gx_Wm {p : Program} {l : Launch} {e : Env} {R : Room} {s : State} {m : MethodId} {args : Array Value} {below : List Frame} {meth : Method} {c : Code} {H : Heap} {locs : List Loc} {cells slots : Nat} {Q Q' : State → Prop} {g : JFrame} (h : W p l e R s m args below meth c H locs cells slots Q g) (hq : ∀ t, Q t → Q' t) : W p l e R s m args below meth c H locs cells slots Q' g := fun T hT X => by
  obtain ⟨t, a, b⟩ := h T hT X
  exact ⟨t, a, hq t b⟩
/-- what holds all through a method's walk -/
def gx_O (I : State → Prop) (X : gx_X) (mi : gx_M) (n dc ds : Nat) (P' : Heap → Prop) (oc : Outcome) : Prop :=
  X.1.tables.exec = Jvm.exec ∧ (gx_c X).code = mi.2.2.1 ∧ (gx_meth X).sig.returnType = mi.2.2.2.2 ∧ (gx_c X).maxLocals = mi.2.2.2.1 ∧ (gx_s X).vm.findClass mi.1 = some (gx_m X).cls ∧ (∀ w ∈ lw_all, w.before (gx_args X) (gx_s X) = true) ∧ (gx_meth X).locks = false ∧ I (gx_s X) ∧
  (∀ t, gx_E (gx_below X) P' oc (gx_A X) (gx_s X) dc ds t → gx_Q X t) ∧ (n ≤ (gx_R X).frames ∧ dc ≤ (gx_R X).cells ∧ ds ≤ (gx_R X).slots ∧ 40 * n ≤ (gx_R X).locals) ∧ (gx_meth X).name = mi.2.1 ∧ True ∧ gx_Inv I (gx_A X)
/-- a contract -/
def gx_T (I : State → Prop) (A : Nat → Prop) (l : Launch) (y : MethodName) (mi : gx_M) (n : Nat) (av : List Value) (P : Heap → Prop) (dc ds : Nat) (P' : Heap → Prop) (oc : Outcome) : Prop :=
  Met l y (ws_ y mi.2.2.1 mi.2.2.2.1 mi.2.2.2.2) { frames := n, cells := dc, slots := ds, locals := 40 * n } (va_Pc av (fun U => I U ∧ P U.heap)) (gx_Qc P' oc A) dc ds A
/-- the locals at a method's entry, all of one slot -/
def gx_en (n : Nat) (av : List Value) : List (Option Value) := av.map some ++ List.replicate (n - av.length) none
theorem gx_args1 : ∀ (av : List Value) (k : Nat), (∀ v ∈ av, v.category = 1) → ∀ (i : Nat) (v : Value), av[i]? = some v → (k + i, v) ∈ lv_args k av
  | [], _, _, i, v, h => by simp at h
  | a :: av, k, hc, i, v, h => by
    have h1 : ¬ a.category = 2 := by rw [hc a List.mem_cons_self]; decide
    show (k + i, v) ∈ (k, a) :: lv_args (if a.category = 2 then k + 2 else k + 1) av
    rw [if_neg h1]
    cases i with
    | zero =>
      rw [List.getElem?_cons_zero] at h
      cases h
      exact List.mem_cons_self
    | succ i =>
      rw [List.getElem?_cons_succ] at h
      have h2 := gx_args1 av (k + 1) (fun v hv => hc v (List.mem_cons_of_mem _ hv)) i v h
      rw [show k + (i + 1) = k + 1 + i by omega]
      exact List.mem_cons_of_mem _ h2
theorem gx_sl1 : ∀ (av : List Value), (∀ v ∈ av, v.category = 1) → (lg_sl av).length = av.length
  | [], _ => rfl
  | a :: av, hc => by
    have h1 : ¬ a.category = 2 := by rw [hc a List.mem_cons_self]; decide
    have h2 := gx_sl1 av (fun v hv => hc v (List.mem_cons_of_mem _ hv))
    unfold lg_sl at h2 ⊢
    rw [List.flatMap_cons, if_neg h1, List.length_append, h2]
    simp
    omega
theorem gx_entry (av : List Value) (n : Nat) (hc : ∀ v ∈ av, v.category = 1) (hn : av.length ≤ n) : gx_lh ((lg_sl av ++ List.replicate (n - (lg_sl av).length) Slot.unset).toArray) (gx_en n av) := by
  have h := lv_entry av (n := n) (by rw [gx_sl1 av hc]; exact hn)
  refine ⟨h.1.trans (by simp [gx_en]; omega), h.2.1, fun i v hi => ?_⟩
  unfold gx_en at hi
  by_cases hl : i < av.length
  · rw [List.getElem?_append_left (by simpa using hl), List.getElem?_map] at hi
    cases ha : av[i]? with
    | none => rw [ha] at hi; cases hi
    | some w =>
      rw [ha] at hi
      cases hi
      have h2 := gx_args1 av 0 hc i v ha
      rw [Nat.zero_add] at h2
      exact h.2.2 (i, v) h2
  · rw [List.getElem?_append_right (by simpa using Nat.not_lt.mp hl)] at hi
    have := List.mem_of_getElem? hi
    rw [List.mem_replicate] at this
    cases this.2
/-- a contract out of the walk of its body -/
theorem gx_T.of {I : State → Prop} {A : Nat → Prop} {l : Launch} {y : MethodName} {mi : gx_M} {n : Nat} {av : List Value} {P : Heap → Prop} {dc ds : Nat} {P' : Heap → Prop} {oc : Outcome} (hI : gx_Inv I A) (hy : plainName y.cls = true) (hm : y.cls = mi.1 ∧ y.name = mi.2.1) (hc : ∀ v ∈ av, v.category = 1) (hn : av.length ≤ mi.2.2.2.1)
    (body : ∀ X : gx_X, gx_l X = l → gx_A X = A → gx_O I X mi n dc ds P' oc → gx_G X P 0 0 (gx_en mi.2.2.2.1 av) 0 []) (hoc : ∃ v, oc = .returned v := by exact ⟨_, rfl⟩) : gx_T I A l y mi n av P dc ds P' oc := by
  refine Met.ofW (cc := mi.2.2.1) (maxL := mi.2.2.2.1) (ret := mi.2.2.2.2) hy rfl ?_
  intro p e s m args below meth c s₁ B hml hv
  obtain ⟨rfl, hi, hP⟩ := hv
  have hts := atoms_spec (ws := ws_ y mi.2.2.1 mi.2.2.2.1 mi.2.2.2.2) B.pre
  rw [lg_entry_eq]
  refine gx_Wm (body (p, l, e, { frames := n, cells := dc, slots := ds, locals := 40 * n }, s, m, av.toArray, below, meth, c, gx_E below P' oc A s dc ds, A) rfl rfl ⟨B.exec, B.bytes, B.returns, hml, ?_, fun w h => hts w (List.mem_cons_of_mem _ h), B.notSynchronized, hi, fun _ h => h, ⟨Nat.le_refl _, Nat.le_refl _, Nat.le_refl _, Nat.le_refl _⟩, ?_, trivial, hI⟩ s.heap [] _ hP va_S.rf (gx_entry av _ hc hn)) (fun t h => gx_MofE hoc h)
  · rw [← hm.1]
    exact findClass_of_methodNamed B.named
  · rw [← hm.2]
    exact (name_of_methodNamed B.named B.method).1
/-- a contract that may end in a throw -/
def gx_TG (I : State → Prop) (A : Nat → Prop) (l : Launch) (y : MethodName) (mi : gx_M) (n : Nat) (av : List Value) (P : Heap → Prop) (dc ds : Nat) (P' : Heap → Prop) (oc : Outcome) : Prop :=
  MetFree l y (headSpec (ws_ y mi.2.2.1 mi.2.2.2.1 mi.2.2.2.2) { frames := n, cells := dc, slots := ds, locals := 40 * n }) (va_Pc av (fun U => I U ∧ P U.heap)) (fun _ _ _ _ _ => True)
    (fun _ st o t => o = oc ∧ P' t.heap ∧ va_F A st t ∧ ∃ L, (st.WarmedH t.vm ∧ st.sameButNew ({ t with vm := st.vm } : State) L dc ds) ∧ ∀ q ∈ L, A q.base)
theorem gx_TG.toT {I : State → Prop} {A : Nat → Prop} {l : Launch} {y : MethodName} {mi : gx_M} {n : Nat} {av : List Value} {P : Heap → Prop} {dc ds : Nat} {P' : Heap → Prop} {v : Option Value} (h : gx_TG I A l y mi n av P dc ds P' (.returned v)) : gx_T I A l y mi n av P dc ds P' (.returned v) := by
  intro p e h1 h2 h3 s m args below h4 h5 h6 h7
  obtain ⟨k, o, a1, a2, a3, rfl, b1, b2, L, b3, b4⟩ := h p e h1 h2 h3 s m args below h4 h5 h6 h7
  exact ⟨k, _, a1, a2, a3, ⟨rfl, b1, b2⟩, L, ⟨⟨_, rfl⟩, b3⟩, b4⟩
theorem gx_TG.of {I : State → Prop} {A : Nat → Prop} {l : Launch} {y : MethodName} {mi : gx_M} {n : Nat} {av : List Value} {P : Heap → Prop} {dc ds : Nat} {P' : Heap → Prop} {oc : Outcome} (hI : gx_Inv I A) (hy : plainName y.cls = true) (hm : y.cls = mi.1 ∧ y.name = mi.2.1) (hc : ∀ v ∈ av, v.category = 1) (hn : av.length ≤ mi.2.2.2.1)
    (body : ∀ X : gx_X, gx_l X = l → gx_A X = A → gx_O I X mi n dc ds P' oc → (gx_c X).exceptionTable.isEmpty = true → gx_G X P 0 0 (gx_en mi.2.2.2.1 av) 0 []) : gx_TG I A l y mi n av P dc ds P' oc := by
  refine MetFree.of_bodyS (code := mi.2.2.1) (maxLocals := mi.2.2.2.1) (ret := mi.2.2.2.2) hy ?_ ?_
  · intro args s m h hn
    obtain ⟨meth, c, h1, h2, h3, h4, h5, h6, -, -⟩ := Cond.code_spec hn (atoms_spec (ws := ws_ y mi.2.2.1 mi.2.2.2.1 mi.2.2.2.2) h _ List.mem_cons_self)
    exact ⟨meth, c, h1, h2, h3, h4, h5, h6⟩
  · intro p e s m args below meth c s₁ B hml hv _
    obtain ⟨rfl, hi, hP⟩ := hv
    have hh0 : s₁.heap = s.heap := by rw [B.state]; rfl
    have hts := atoms_spec (ws := ws_ y mi.2.2.1 mi.2.2.2.1 mi.2.2.2.2) B.pre
    have hW : W p l e (headSpec (ws_ y mi.2.2.1 mi.2.2.2.1 mi.2.2.2.2) { frames := n, cells := dc, slots := ds, locals := 40 * n }).room s m av.toArray below meth c s.heap [] 0 0 (gx_E below P' oc A s dc ds) (entryFrame m av.toArray mi.2.2.2.1) := by
      rw [lg_entry_eq]
      refine body (p, l, e, { frames := n, cells := dc, slots := ds, locals := 40 * n }, s, m, av.toArray, below, meth, c, gx_E below P' oc A s dc ds, A) rfl rfl ⟨B.exec, B.bytes, B.returns, hml, ?_, fun w h => hts w (List.mem_cons_of_mem _ h), B.notSynchronized, hi, fun _ h => h, ⟨Nat.le_refl _, Nat.le_refl _, Nat.le_refl _, Nat.le_refl _⟩, ?_, trivial, hI⟩ (BodyLoose.noHandlers B (hts _ List.mem_cons_self)) s.heap [] _ hP va_S.rf (gx_entry av _ hc hn)
      · rw [← hm.1]
        exact findClass_of_methodNamed B.named
      · rw [← hm.2]
        exact (name_of_methodNamed B.named B.method).1
    obtain ⟨t, a1, b1, b2, b3, b4, b5⟩ := hW s₁ hh0 (Stand.of_body B)
    exact ⟨t, oc, a1, b1, b2, rfl, b3, b4, b5⟩
