set_option maxRecDepth 100000
/-! THROWS: athrow that leaves, a callee's throw that goes on -/
section GXX
variable {I : State → Prop} {X : gx_X} {mi : gx_M} {n dc ds : Nat} {P' : Heap → Prop} {oc : Outcome} {P : Heap → Prop} {cs ss pc : Nat} {lv : List (Option Value)} {rest st : List Value}
theorem gx_athrow (hX : gx_O I X mi n dc ds P' oc) (hE : (gx_c X).exceptionTable.isEmpty = true) {a : Nat} (hd : decode mi.2.2.1 pc = .ok (.athrow, 1)) (ho : oc = .threw a) (hc : cs = dc ∧ ss = ds) (hp : ∀ H, P H → P' H) : gx_G X P cs ss lv pc (va_rf (some a) :: rest) := fun H locs ls hP hS hl => by
  obtain ⟨rfl, rfl⟩ := hc
  intro T hT Y
  obtain ⟨h1, h2, h3, h4, h5⟩ := Y.athrowLeaves hX.1 (g := F0 (gx_m X) pc ls (va_rf (some a) :: rest)) rfl rfl rfl (covers_of_empty hE _) (a := a) (rest := rest) rfl (by rw [hX.2.1]; exact hd) hX.2.2.2.2.2.2.1
  refine ⟨_, h1, hX.2.2.2.2.2.2.2.2.1 _ ⟨h2, by rw [ho]; exact h3, ?_, ?_, locs, ⟨h4, h5⟩, hS.2.2⟩⟩
  · show P' T.heap
    rw [hT]
    exact hp H hP
  · show va_F _ _ _
    refine ⟨?_, fun q g1 g2 => ?_⟩
    · show (gx_s X).heap.size ≤ T.heap.size
      rw [hT]
      exact hS.1
    · show T.heap[q]? = _
      rw [hT]
      exact hS.2.1 q g1 g2
variable {y : MethodName} {mi2 : gx_M} {n2 mc ms index : Nat} {As : List Value} {P2 : Heap → Prop} {v : Option Value}
/-- the callee throws x: where the caller then is -/
theorem gx_thrown (hX : gx_O I X mi n dc ds P' oc) {b x : Nat} {C : String} (hM : gx_TG I (gx_A X) (gx_l X) y mi2 n2 (va_rf (some b) :: As) P mc ms P2 (.threw x)) (hG : GoodIn lw_all (wsV mi.1 index C y (ws_ y mi2.2.2.1 mi2.2.2.2.1 mi2.2.2.2.2))) (hy : y.cls = C ∧ gx_ds y As.length) (hn : n2 + 1 ≤ n) (hL : mi2.2.2.2.1 ≤ 21) (hrec : gx_rc X P C b)
    (hW : (rest.map fun v => v.category).sum ≤ 8) (hd : decode mi.2.2.1 pc = .ok (.invokevirtual index, 3)) (hf : cs + mc ≤ dc ∧ ss + ms ≤ ds) (hlen : mi.2.2.2.1 = lv.length) {H : Heap} {locs : List Loc} {ls : Array Slot} (hP : P H) (hS : va_S (gx_A X) (gx_s X).heap H locs) (hl : gx_lh ls lv) {T : State} (hT : T.heap = H) (Y : Stand X.1 (gx_l X) X.2.2.1 (gx_R X) (gx_s X) (gx_m X) (gx_args X) (gx_below X) (gx_meth X) (gx_c X) T locs cs ss) :
    ∃ (T' : State) (L : List Loc), Stand X.1 (gx_l X) X.2.2.1 (gx_R X) (gx_s X) (gx_m X) (gx_args X) (gx_below X) (gx_meth X) (gx_c X) T' (locs ++ L) (cs + mc) (ss + ms) ∧ P2 T'.heap ∧ va_S (gx_A X) (gx_s X).heap T'.heap (locs ++ L) ∧
      ∀ target, Steps X.1.tables X.2.2.1 (gx_below X) ((T'.setTop (F0 (gx_m X) pc ls rest)).pushFrame (.throwing x)) target → Steps X.1.tables X.2.2.1 (gx_below X) (T.setTop (F0 (gx_m X) pc ls (As.reverse ++ va_rf (some b) :: rest))) target := by
  have hts := hX.2.2.2.2.2.1
  have hrm := gx_room hX hn hL
  have ok : ∀ w ∈ wsV mi.1 index C y (ws_ y mi2.2.2.1 mi2.2.2.2.1 mi2.2.2.2.2), w.before (gx_args X) (gx_s X) = true := fun w h => hts w (hG w h).1
  have hGw : GoodIn lw_all (ws_ y mi2.2.2.1 mi2.2.2.2.1 mi2.2.2.2.2) := fun w h => hG w (by unfold wsV; exact List.mem_append_right _ h)
  have hcw : Cond.code y mi2.2.2.1 mi2.2.2.2.1 mi2.2.2.2.2 ∈ ws_ y mi2.2.2.1 mi2.2.2.2.1 mi2.2.2.2.2 := List.mem_cons_self
  have hcode := hts _ (hGw _ hcw).1
  have hlink := ok (.methodLink mi.1 index y) (by simp [wsV])
  have hinst := ok (.instanceMethod y) (by simp [wsV])
  have hsel := ok (.selects C y y) (by simp [wsV])
  have hini := ok (.initialized C) (by simp [wsV])
  obtain ⟨cellB, hcB, hoB, hclB⟩ := hrec H hP
  obtain ⟨mk, methM, hnamed, hmethM, hstM, habM⟩ := Cond.instanceMethod_spec hinst
  obtain ⟨methM', cM, hmethM', -, -, -, -, -, -, hsigM⟩ := Cond.code_spec hnamed hcode
  cases hmethM.symm.trans hmethM'
  obtain ⟨c2, r2, m2, q1, q2, q3, q4, kP, hkP, hkPi⟩ := Cond.selects_spec hsel
  cases hclB.symm.trans q1
  cases (State.methodFound?_of_named hnamed ⟨hy.2.1, hy.2.2.1⟩).symm.trans q2
  cases hnamed.symm.trans q3
  have hselP : selectMethod X.2.2.1.platform (gx_s X).vm cellB.cls mk = .method mk := by rw [Launch.admits_selectMethod Y.admits]; exact q4
  have hlA : As.length = methM.sig.parameters.length := by
    have h2 := hy.2.2.2
    rw [hsigM] at h2
    exact (Option.some.inj h2).symm
  obtain ⟨vm₁, X₁, hstep₁⟩ := Y.invokevirtual hX.1 hX.2.2.2.2.1 hlink hnamed hmethM hstM hkP hkPi ⟨hy.2.1, hy.2.2.1⟩ (a := b) (cell := cellB) (by rw [hT]; exact hcB)
    (fun z h => by rw [h] at hoB; cases hoB) hselP hmethM habM hkP hkPi (g := F0 (gx_m X) pc ls (As.reverse ++ va_rf (some b) :: rest)) rfl (argsL := As) (rest := rest) hlA rfl (by rw [hX.2.1]; exact hd)
  have hn1 : (T.setVm vm₁).methodNamed? y = some mk := X₁.named hnamed
  have hpre : (va_Pc (va_rf (some b) :: As) (fun U => I U ∧ P U.heap)) (Value.ref b :: As).toArray (T.setVm vm₁) := ⟨rfl, gx_pre hX hP hS (U := T.setVm vm₁) hT X₁.warmed⟩
  have hbl := gx_blind (P := P) (av := va_rf (some b) :: As) hX.2.2.2.2.2.2.2.2.2.2.2.2 (Value.ref b :: As).toArray (T.setVm vm₁) (F0 (gx_m X) pc ls rest) mk hpre
  have hc2 : (Cond.code y mi2.2.2.1 mi2.2.2.2.1 mi2.2.2.2.2).before (Value.ref b :: As).toArray (T.setVm vm₁) = true := pay_in hts hGw _ hcw _ _ X₁.warmed
  have hi2 : (Cond.initialized y.cls).before (Value.ref b :: As).toArray (T.setVm vm₁) = true := word_at X₁.warmed (Or.inl (by first | rfl | simp [Cond.onTables, Cond.keeps, Cond.steady])) (by rw [hy.1]; exact hini)
  obtain ⟨methY, cY, hmY, hcY, -, hlY, -, -, -, -⟩ := Cond.code_spec hn1 hc2
  obtain ⟨kY, hkY, -⟩ := className_of_methodNamed hn1
  have hinitY : kY.init = .initialized := Cond.initialized_spec (findClass_of_methodNamed hn1) hkY hi2
  have h : At (T.setVm vm₁) (F0 (gx_m X) pc ls rest).method (gx_c X) (gx_below X) := X₁.here
  have hsz : (F0 (gx_m X) pc ls rest).locals.size = (gx_c X).maxLocals := hl.1.trans (hlen.symm.trans hX.2.2.2.1.symm)
  have hR := hX.2.2.2.2.2.2.2.2.2.1
  have happ : (headSpec (ws_ y mi2.2.2.1 mi2.2.2.2.1 mi2.2.2.2.2) { frames := n2, cells := mc, slots := ms, locals := 40 * n2 }).appliesLoose y X.2.2.1.platform ((T.setVm vm₁).calling (F0 (gx_m X) pc ls rest) mk (Value.ref b :: As).toArray) = true :=
    Spec.appliesLoose_calling (g := F0 (gx_m X) pc ls rest) h (by rw [hX.2.1]; exact hd) hn1 hkY hinitY
      (X₁.room_calling (g := F0 (gx_m X) pc ls rest) (R' := { frames := n2, cells := mc, slots := ms, locals := 40 * n2 }) hsz hmY hcY hrm.1 (by rw [hlY]; have := hrm.2; show 2 * 0 + (rest.map fun v => v.category).sum + _ + 40 * n2 ≤ _; omega) (gx_fits hX hf).1 (gx_fits hX hf).2) (atoms_intro fun w hw => pay_in hts hGw w hw _ _ X₁.warmed)
  obtain ⟨mid, hmid⟩ := h.above
  have hfr : ((T.setVm vm₁).setTop (F0 (gx_m X) pc ls rest)).frames = (.java (F0 (gx_m X) pc ls rest) :: mid) ++ (gx_below X) := by rw [State.frames_setTop' _ h.top, hmid]; rfl
  obtain ⟨o, s₂, hsteps, -, hend, hq⟩ := Steps.callFree hM X.1 X₁.admits X₁.cas X₁.clock (acts := []) hfr happ hbl trivial
  rw [State.frames_setTop' _ h.top] at hend
  obtain ⟨g₀, hfr0⟩ := X₁.frames_eq
  rw [hfr0, List.tail_cons] at hend
  obtain ⟨rfl, hp2, hF, L, ⟨w1, w2⟩, hLA⟩ := hq
  obtain ⟨T', S', hW', hsame, ht⟩ := X₁.outOfThrown (g := F0 (gx_m X) pc ls rest) rfl hend w1 w2
  have hh : T'.heap = s₂.heap := by rw [ht, Stand.throwing_heap]
  refine ⟨T', L, S', by rw [hh]; exact hp2, ⟨?_, fun q g1 g2 => ?_, fun q hq => ?_⟩, fun target ht2 => hstep₁ _ fun acts => by
    rw [doInvoke_state]
    exact hsteps.trans (by rw [ht]; exact ht2)⟩
  · rw [hh]
    refine Nat.le_trans hS.1 (Nat.le_trans (Nat.le_of_eq ?_) hF.1)
    rw [← hT]
    rfl
  · rw [hh, hF.2 q (by
      show q < T.heap.size
      rw [hT]
      exact Nat.lt_of_lt_of_le g1 hS.1) g2]
    show T.heap[q]? = _
    rw [hT]
    exact hS.2.1 q g1 g2
  · rcases List.mem_append.mp hq with h | h
    · exact hS.2.2 q h
    · exact hLA q h
theorem gx_cVX (hX : gx_O I X mi n dc ds P' oc) (hE : (gx_c X).exceptionTable.isEmpty = true) {b x : Nat} {C : String} (hM : gx_TG I (gx_A X) (gx_l X) y mi2 n2 (va_rf (some b) :: As) P mc ms P2 (.threw x)) (hG : GoodIn lw_all (wsV mi.1 index C y (ws_ y mi2.2.2.1 mi2.2.2.2.1 mi2.2.2.2.2))) (hy : y.cls = C ∧ gx_ds y As.length) (hn : n2 + 1 ≤ n) (hL : mi2.2.2.2.1 ≤ 21) (hrec : gx_rc X P C b)
    (hst : st = As.reverse ++ va_rf (some b) :: rest) (hW : (rest.map fun v => v.category).sum ≤ 8) (hd : decode mi.2.2.1 pc = .ok (.invokevirtual index, 3)) (hf : cs + mc = dc ∧ ss + ms = ds) (hlen : mi.2.2.2.1 = lv.length) (ho : oc = .threw x) (hp : ∀ H, P2 H → P' H) : gx_G X P cs ss lv pc st := fun H locs ls hP hS hl => by
  subst hst
  intro T hT Y
  obtain ⟨T', L, S', hp2, hS2, hstep⟩ := gx_thrown hX hM hG hy hn hL hrec hW hd (by rw [hf.1, hf.2]; exact ⟨Nat.le_refl _, Nat.le_refl _⟩) hlen hP hS hl hT Y
  rw [hf.1, hf.2] at S'
  obtain ⟨h1, h2, h3, h4, h5⟩ := S'.leaveThrown x (g := F0 (gx_m X) pc ls rest) rfl rfl rfl (covers_of_empty hE _) hX.2.2.2.2.2.2.1
  exact ⟨_, hstep _ h1, hX.2.2.2.2.2.2.2.2.1 _ ⟨h2, by rw [ho]; exact h3, hp _ hp2, ⟨hS2.1, hS2.2.1⟩, locs ++ L, ⟨h4, h5⟩, hS2.2.2⟩⟩
end GXX
/-- what a method that may throw ends in: .inl the exception, .inr its answer -/
def xk_oI : Nat ⊕ Int32 → Outcome | .inl e => .threw e | .inr v => .returned (some (.int v))
def xk_oR : Nat ⊕ Option Nat → Outcome | .inl e => .threw e | .inr v => .returned (some (va_rf v))
def xk_oV : Nat ⊕ Unit → Outcome | .inl e => .threw e | .inr _ => .returned none
/-- behind a call that may throw -/
def xk_th {β γ : Type} (r : xk_C × (Nat ⊕ β)) (k : xk_C → β → Option (xk_C × (Nat ⊕ γ))) : Option (xk_C × (Nat ⊕ γ)) := match r.2 with
  | .inl e => some (r.1, .inl e)
  | .inr v => k r.1 v
theorem xk_thL {β γ : Type} {σ : xk_C} {e : Nat} {k : xk_C → β → Option (xk_C × (Nat ⊕ γ))} {r : xk_C × (Nat ⊕ γ)} (h : xk_th (σ, .inl e) k = some r) : (σ, .inl e) = r := Option.some.inj h
theorem xk_thR {β γ : Type} {σ : xk_C} {v : β} {k : xk_C → β → Option (xk_C × (Nat ⊕ γ))} {r : xk_C × (Nat ⊕ γ)} (h : xk_th (σ, .inr v) k = some r) : k σ v = some r := h
theorem xk_lr_th {β γ : Type} {r : xk_C × (Nat ⊕ γ)} {C : xk_C} {o : Option (xk_C × (Nat ⊕ β))} {k : xk_C → β → Option (xk_C × (Nat ⊕ γ))} (h1 : ∀ p, o = some p → xk_n C ≤ xk_n p.1 ∧ xk_s C ≤ xk_s p.1) (h2 : ∀ σ v, xk_lr r σ (k σ v)) : xk_lr r C (o.bind fun p => xk_th p k) := fun h => by
  obtain ⟨⟨σ, s⟩, e, h⟩ := gx_bs h
  have a := h1 _ e
  cases s with
  | inl e =>
    cases xk_thL h
    exact a
  | inr v =>
    have b := h2 σ v (xk_thR h)
    dsimp only at a
    omega
