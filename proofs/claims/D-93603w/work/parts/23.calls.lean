set_option maxRecDepth 100000
section GXC
variable {I : State → Prop} {X : gx_X} {mi : gx_M} {n dc ds : Nat} {P' : Heap → Prop} {oc : Outcome} {P : Heap → Prop} {cs ss pc : Nat} {lv : List (Option Value)} {rest st : List Value}
/-- behind a call -/
theorem gx_back (hX : gx_O I X mi n dc ds P' oc) {H : Heap} {locs : List Loc} {ls : Array Slot} {mc ms : Nat} {P2 : Heap → Prop} {v : Option Value} {a : Array Value} (hr : va_Run X.1 (gx_l X) X.2.2.1 (gx_R X) (gx_s X) (gx_m X) (gx_args X) (gx_below X) (gx_meth X) (gx_c X) H locs cs ss mc ms (F0 (gx_m X) pc ls st) rest (gx_Qc P2 (.returned v) (gx_A X) a) (gx_A X)) (hS : va_S (gx_A X) (gx_s X).heap H locs) (hl : gx_lh ls lv)
    (k : gx_G X P2 (cs + mc) (ss + ms) lv (pc + 3) (v.toList ++ rest)) : W X.1 (gx_l X) X.2.2.1 (gx_R X) (gx_s X) (gx_m X) (gx_args X) (gx_below X) (gx_meth X) (gx_c X) H locs cs ss (gx_Q X) (F0 (gx_m X) pc ls st) := by
  intro T hT Y
  obtain ⟨v', st₀, t, T', L, h0, Y', hL, e1, e2, ⟨hv, hp2, hz, hk⟩, hst⟩ := hr T hT Y
  cases hv
  rw [h0] at hz hk
  obtain ⟨t2, a1, b1⟩ := k T'.heap (locs ++ L) ls (by rw [e1]; exact hp2) ⟨Nat.le_trans hS.1 (by rw [e1]; exact hz), fun q h1 h2 => by rw [e1, hk q (Nat.lt_of_lt_of_le h1 hS.1) h2]; exact hS.2.1 q h1 h2, fun q hq => by
      rcases List.mem_append.mp hq with h | h
      · exact hS.2.2 q h
      · exact hL q h⟩ hl T' rfl Y'
  exact ⟨t2, hst t2 a1, b1⟩
theorem gx_back5 (hX : gx_O I X mi n dc ds P' oc) {H : Heap} {locs : List Loc} {ls : Array Slot} {mc ms : Nat} {P2 : Heap → Prop} {v : Option Value} {a : Array Value} (hr : va_Run5 X.1 (gx_l X) X.2.2.1 (gx_R X) (gx_s X) (gx_m X) (gx_args X) (gx_below X) (gx_meth X) (gx_c X) H locs cs ss mc ms (F0 (gx_m X) pc ls st) rest (gx_Qc P2 (.returned v) (gx_A X) a) (gx_A X)) (hS : va_S (gx_A X) (gx_s X).heap H locs) (hl : gx_lh ls lv)
    (k : gx_G X P2 (cs + mc) (ss + ms) lv (pc + 5) (v.toList ++ rest)) : W X.1 (gx_l X) X.2.2.1 (gx_R X) (gx_s X) (gx_m X) (gx_args X) (gx_below X) (gx_meth X) (gx_c X) H locs cs ss (gx_Q X) (F0 (gx_m X) pc ls st) := by
  intro T hT Y
  obtain ⟨v', st₀, t, T', L, h0, Y', hL, e1, e2, ⟨hv, hp2, hz, hk⟩, hst⟩ := hr T hT Y
  cases hv
  rw [h0] at hz hk
  obtain ⟨t2, a1, b1⟩ := k T'.heap (locs ++ L) ls (by rw [e1]; exact hp2) ⟨Nat.le_trans hS.1 (by rw [e1]; exact hz), fun q h1 h2 => by rw [e1, hk q (Nat.lt_of_lt_of_le h1 hS.1) h2]; exact hS.2.1 q h1 h2, fun q hq => by
      rcases List.mem_append.mp hq with h | h
      · exact hS.2.2 q h
      · exact hL q h⟩ hl T' rfl Y'
  exact ⟨t2, hst t2 a1, b1⟩
theorem gx_blind (hI : gx_Inv I (gx_A X)) {av : List Value} : FrameBlind (va_Pc av (fun U => I U ∧ P U.heap)) := fun a U g mk q => by
  obtain ⟨q0, q1, q2⟩ := q
  exact ⟨q0, hI U (U.calling g mk a) (Vm.Alike.refl U.vm) (State.WarmedH.refl U) (fun _ _ _ => rfl) q1, q2⟩
theorem gx_pre (hX : gx_O I X mi n dc ds P' oc) {H : Heap} {locs : List Loc} (hP : P H) (hS : va_S (gx_A X) (gx_s X).heap H locs) {U : State} (hU : U.heap = H) (hW : (gx_s X).WarmedH U.vm) : I U ∧ P U.heap :=
  ⟨hX.2.2.2.2.2.2.2.2.2.2.2.2 (gx_s X) U hW.alike hW (fun q h1 h2 => by rw [hU]; exact hS.2.1 q h1 h2) hX.2.2.2.2.2.2.2.1, by rw [hU]; exact hP⟩
theorem gx_fix (hX : gx_O I X mi n dc ds P' oc) : CallFix X.1 (gx_m X) (gx_c X) mi.2.2.1 mi.2.2.2.1 (gx_s X) (gx_args X) lw_all mi.1 := ⟨hX.1, hX.2.1, hX.2.2.2.1, hX.2.2.2.2.1, hX.2.2.2.2.2.1⟩
theorem gx_room (hX : gx_O I X mi n dc ds P' oc) {n2 L2 : Nat} (hn : n2 + 1 ≤ n) (hL : L2 ≤ 21) : n2 + 1 ≤ (gx_R X).frames ∧ 8 + (L2 + 11) + 40 * n2 ≤ (gx_R X).locals := by
  have hR := hX.2.2.2.2.2.2.2.2.2.1
  exact ⟨Nat.le_trans hn hR.1, by have h40 := hR.2.2.2; omega⟩
theorem gx_fits (hX : gx_O I X mi n dc ds P' oc) {mc ms : Nat} (hf : cs + mc ≤ dc ∧ ss + ms ≤ ds) : cs + mc ≤ (gx_R X).cells ∧ ss + ms ≤ (gx_R X).slots := by
  have hR := hX.2.2.2.2.2.2.2.2.2.1
  exact ⟨Nat.le_trans hf.1 hR.2.1, Nat.le_trans hf.2 hR.2.2.1⟩
/-- what a call's receiver must be -/
def gx_rc (X : gx_X) (P : Heap → Prop) (C : String) (b : Nat) : Prop := ∀ H, P H → ∃ cell : Cell, H[b]? = some cell ∧ cell.vm.isStatics = false ∧ (gx_s X).vm.findClass C = some cell.cls
abbrev gx_ds (y : MethodName) (k : Nat) : Prop := y.cls ≠ "java/lang/invoke/MethodHandle" ∧ y.cls ≠ "java/lang/invoke/VarHandle" ∧ (parseMethodDescriptor y.desc).map (fun d => d.parameters.length) = some k
variable {y : MethodName} {mi2 : gx_M} {n2 mc ms index : Nat} {As : List Value} {P2 : Heap → Prop} {v : Option Value}
theorem gx_cV (hX : gx_O I X mi n dc ds P' oc) {b : Nat} {C : String} (hM : gx_T I (gx_A X) (gx_l X) y mi2 n2 (va_rf (some b) :: As) P mc ms P2 (.returned v)) (hG : GoodIn lw_all (wsV mi.1 index C y (ws_ y mi2.2.2.1 mi2.2.2.2.1 mi2.2.2.2.2))) (hy : y.cls = C ∧ gx_ds y As.length) (hn : n2 + 1 ≤ n) (hL : mi2.2.2.2.1 ≤ 21) (hrec : gx_rc X P C b)
    (hst : st = As.reverse ++ va_rf (some b) :: rest) (hW : (rest.map fun v => v.category).sum ≤ 8) (hd : decode mi.2.2.1 pc = .ok (.invokevirtual index, 3)) (hf : cs + mc ≤ dc ∧ ss + ms ≤ ds) (hlen : mi.2.2.2.1 = lv.length) (k : gx_G X P2 (cs + mc) (ss + ms) lv (pc + 3) (v.toList ++ rest)) : gx_G X P cs ss lv pc st := fun H locs ls hP hS hl => by
  subst hst
  exact gx_back hX (va_runV (As := As) (rest := rest) (b := b) (gx_fix hX) hM (cwV As.length hX.2.2.2.2.2.1 hG rfl rfl rfl hy (gx_room hX hn hL)) ⟨gx_blind hX.2.2.2.2.2.2.2.2.2.2.2.2, hrec H hP, fun U hU hW => ⟨rfl, gx_pre hX hP hS hU hW⟩⟩ rfl rfl (hl.1.trans hlen.symm) rfl (by show 2 * 0 + _ ≤ 8; omega) hd (gx_fits hX hf)) hS hl k
theorem gx_cS (hX : gx_O I X mi n dc ds P' oc) (hM : gx_T I (gx_A X) (gx_l X) y mi2 n2 As P mc ms P2 (.returned v)) (hG : GoodIn lw_all (va_wsS mi.1 index y (ws_ y mi2.2.2.1 mi2.2.2.2.1 mi2.2.2.2.2))) (hy : gx_ds y As.length) (hn : n2 + 1 ≤ n) (hL : mi2.2.2.2.1 ≤ 21)
    (hst : st = As.reverse ++ rest) (hW : (rest.map fun v => v.category).sum ≤ 8) (hd : decode mi.2.2.1 pc = .ok (.invokestatic index, 3)) (hf : cs + mc ≤ dc ∧ ss + ms ≤ ds) (hlen : mi.2.2.2.1 = lv.length) (k : gx_G X P2 (cs + mc) (ss + ms) lv (pc + 3) (v.toList ++ rest)) : gx_G X P cs ss lv pc st := fun H locs ls hP hS hl => by
  subst hst
  exact gx_back hX (va_runS (As := As) (rest := rest) (gx_fix hX) hM (va_cwS As.length hX.2.2.2.2.2.1 hG rfl rfl rfl hy (gx_room hX hn hL)) ⟨gx_blind hX.2.2.2.2.2.2.2.2.2.2.2.2, fun U hU hW => ⟨rfl, gx_pre hX hP hS hU hW⟩⟩ rfl rfl (hl.1.trans hlen.symm) rfl (by show 2 * 0 + _ ≤ 8; omega) hd (gx_fits hX hf)) hS hl k
theorem gx_cI (hX : gx_O I X mi n dc ds P' oc) {b : Nat} {cc2 : ByteArray} {L2 : Nat} {C2 nm2 : String} (hM : gx_T I (gx_A X) (gx_l X) y (C2, nm2, cc2, L2, none) n2 (va_rf (some b) :: As) P mc ms P2 (.returned v)) (hG : GoodIn lw_all (ws_ y cc2 L2 none)) (hq : Cond.initialized y.cls ∈ lw_all ∧ Cond.methodLink mi.1 index y ∈ lw_all ∧ Cond.instanceMethod y ∈ lw_all) (hy : y.name = "<init>" ∧ gx_ds y As.length) (hn : n2 + 1 ≤ n) (hL : L2 ≤ 21)
    (hst : st = As.reverse ++ va_rf (some b) :: rest) (hW : (rest.map fun v => v.category).sum ≤ 8) (hd : decode mi.2.2.1 pc = .ok (.invokespecial index, 3)) (hf : cs + mc ≤ dc ∧ ss + ms ≤ ds) (hlen : mi.2.2.2.1 = lv.length) (k : gx_G X P2 (cs + mc) (ss + ms) lv (pc + 3) (v.toList ++ rest)) : gx_G X P cs ss lv pc st := fun H locs ls hP hS hl => by
  subst hst
  have hts := hX.2.2.2.2.2.1
  exact gx_back hX (va_runI (As := As) (rest := rest) (b := b) (gx_fix hX) hM (cwI As.length hts hG rfl rfl rfl (hts _ hq.1) (hts _ hq.2.1) (hts _ hq.2.2) hy.1 hy.2 (gx_room hX hn hL)) ⟨gx_blind hX.2.2.2.2.2.2.2.2.2.2.2.2, fun U hU hW => ⟨rfl, gx_pre hX hP hS hU hW⟩⟩ rfl rfl (hl.1.trans hlen.symm) rfl (by show 2 * 0 + _ ≤ 8; omega) hd (gx_fits hX hf)) hS hl k
/-- a super's method -/
theorem gx_cSU (hX : gx_O I X mi n dc ds P' oc) {b : Nat} {C : String} {cC : ClassId} (hat : ClassAt (gx_s X) C cC) (hM : gx_T I (gx_A X) (gx_l X) y mi2 n2 (va_rf (some b) :: As) P mc ms P2 (.returned v)) (hG : GoodIn lw_all (va_wsSU mi.1 index y (ws_ y mi2.2.2.1 mi2.2.2.2.1 mi2.2.2.2.2))) (hy : y.name ≠ "<init>" ∧ (parseMethodDescriptor y.desc).map (fun d => d.parameters.length) = some As.length) (hn : n2 + 1 ≤ n) (hL : mi2.2.2.2.1 ≤ 21) (hrec : gx_rc X P C b)
    (hst : st = As.reverse ++ va_rf (some b) :: rest) (hW : (rest.map fun v => v.category).sum ≤ 8) (hd : decode mi.2.2.1 pc = .ok (.invokespecial index, 3)) (hf : cs + mc ≤ dc ∧ ss + ms ≤ ds) (hlen : mi.2.2.2.1 = lv.length) (k : gx_G X P2 (cs + mc) (ss + ms) lv (pc + 3) (v.toList ++ rest)) : gx_G X P cs ss lv pc st := fun H locs ls hP hS hl => by
  subst hst
  exact gx_back hX (va_runSU (As := As) (rest := rest) (b := b) hat (gx_fix hX) hM (va_cwSU As.length hX.2.2.2.2.2.1 hG rfl rfl rfl hy (gx_room hX hn hL)) ⟨gx_blind hX.2.2.2.2.2.2.2.2.2.2.2.2, hrec H hP, fun U hU hW => ⟨rfl, gx_pre hX hP hS hU hW⟩⟩ rfl rfl (hl.1.trans hlen.symm) rfl (by show 2 * 0 + _ ≤ 8; omega) hd (gx_fits hX hf)) hS hl k
/-- a method named by another class than the receiver's: overridden, inherited -/
theorem gx_cU (hX : gx_O I X mi n dc ds P' oc) {b : Nat} {C owner : String} {x : MethodName} (hM : gx_T I (gx_A X) (gx_l X) y mi2 n2 (va_rf (some b) :: As) P mc ms P2 (.returned v)) (hG : GoodIn lw_all (va_wsO mi.1 index C owner x y (ws_ y mi2.2.2.1 mi2.2.2.2.1 mi2.2.2.2.2))) {b0 : ByteArray} {m0 : Nat} {r0 : Option FieldType} (h0 : Cond.code ⟨owner, x.name, x.desc⟩ b0 m0 r0 ∈ lw_all) (hy : owner ≠ "java/lang/invoke/MethodHandle" ∧ owner ≠ "java/lang/invoke/VarHandle" ∧ (parseMethodDescriptor x.desc).map (fun d => d.parameters.length) = some As.length) (hn : n2 + 1 ≤ n) (hL : mi2.2.2.2.1 ≤ 21) (hrec : gx_rc X P C b)
    (hst : st = As.reverse ++ va_rf (some b) :: rest) (hW : (rest.map fun v => v.category).sum ≤ 8) (hd : decode mi.2.2.1 pc = .ok (.invokevirtual index, 3)) (hf : cs + mc ≤ dc ∧ ss + ms ≤ ds) (hlen : mi.2.2.2.1 = lv.length) (k : gx_G X P2 (cs + mc) (ss + ms) lv (pc + 3) (v.toList ++ rest)) : gx_G X P cs ss lv pc st := fun H locs ls hP hS hl => by
  subst hst
  exact gx_back hX (va_runU (As := As) (rest := rest) (b := b) (gx_fix hX) hM (va_cwO As.length hX.2.2.2.2.2.1 hG rfl rfl rfl h0 hy (gx_room hX hn hL)) ⟨gx_blind hX.2.2.2.2.2.2.2.2.2.2.2.2, hrec H hP, fun U hU hW => ⟨rfl, gx_pre hX hP hS hU hW⟩⟩ rfl rfl (hl.1.trans hlen.symm) rfl (by show 2 * 0 + _ ≤ 8; omega) hd (gx_fits hX hf)) hS hl k
/-- a nest mate's private method -/
theorem gx_cVN (hX : gx_O I X mi n dc ds P' oc) {b : Nat} {C host : String} (hM : gx_T I (gx_A X) (gx_l X) y mi2 n2 (va_rf (some b) :: As) P mc ms P2 (.returned v)) (hG : GoodIn lw_all (ws_ y mi2.2.2.1 mi2.2.2.2.1 mi2.2.2.2.2)) (hnw : va_Nw (.methodLinkNest mi.1 index y host) (gx_s X)) (hq : Cond.initialized y.cls ∈ lw_all ∧ Cond.instanceMethod y ∈ lw_all ∧ Cond.selects C y y ∈ lw_all) (hy : gx_ds y As.length) (hn : n2 + 1 ≤ n) (hL : mi2.2.2.2.1 ≤ 21) (hrec : gx_rc X P C b)
    (hst : st = As.reverse ++ va_rf (some b) :: rest) (hW : (rest.map fun v => v.category).sum ≤ 8) (hd : decode mi.2.2.1 pc = .ok (.invokevirtual index, 3)) (hf : cs + mc ≤ dc ∧ ss + ms ≤ ds) (hlen : mi.2.2.2.1 = lv.length) (k : gx_G X P2 (cs + mc) (ss + ms) lv (pc + 3) (v.toList ++ rest)) : gx_G X P cs ss lv pc st := fun H locs ls hP hS hl => by
  subst hst
  have hts := hX.2.2.2.2.2.1
  exact gx_back hX (va_runVN (As := As) (rest := rest) (b := b) (gx_fix hX) hM ⟨va_cnB As.length hts hG rfl rfl rfl hnw (hts _ hq.1) hy (gx_room hX hn hL), hts _ hq.2.1, hts _ hq.2.2⟩ ⟨gx_blind hX.2.2.2.2.2.2.2.2.2.2.2.2, hrec H hP, fun U hU hW => ⟨rfl, gx_pre hX hP hS hU hW⟩⟩ rfl rfl (hl.1.trans hlen.symm) rfl (by show 2 * 0 + _ ≤ 8; omega) hd (gx_fits hX hf)) hS hl k
theorem gx_cIN (hX : gx_O I X mi n dc ds P' oc) {b : Nat} {host : String} {cc2 : ByteArray} {L2 : Nat} {C2 nm2 : String} (hM : gx_T I (gx_A X) (gx_l X) y (C2, nm2, cc2, L2, none) n2 (va_rf (some b) :: As) P mc ms P2 (.returned v)) (hG : GoodIn lw_all (ws_ y cc2 L2 none)) (hnw : va_Nw (.methodLinkNest mi.1 index y host) (gx_s X)) (hq : Cond.initialized y.cls ∈ lw_all ∧ Cond.instanceMethod y ∈ lw_all) (hy : y.name = "<init>" ∧ gx_ds y As.length) (hn : n2 + 1 ≤ n) (hL : L2 ≤ 21)
    (hst : st = As.reverse ++ va_rf (some b) :: rest) (hW : (rest.map fun v => v.category).sum ≤ 8) (hd : decode mi.2.2.1 pc = .ok (.invokespecial index, 3)) (hf : cs + mc ≤ dc ∧ ss + ms ≤ ds) (hlen : mi.2.2.2.1 = lv.length) (k : gx_G X P2 (cs + mc) (ss + ms) lv (pc + 3) (v.toList ++ rest)) : gx_G X P cs ss lv pc st := fun H locs ls hP hS hl => by
  subst hst
  have hts := hX.2.2.2.2.2.1
  exact gx_back hX (va_runIN (As := As) (rest := rest) (b := b) (gx_fix hX) hM ⟨va_cnB As.length hts hG rfl rfl rfl hnw (hts _ hq.1) hy.2 (gx_room hX hn hL), hy.1, hts _ hq.2⟩ ⟨gx_blind hX.2.2.2.2.2.2.2.2.2.2.2.2, fun U hU hW => ⟨rfl, gx_pre hX hP hS hU hW⟩⟩ rfl rfl (hl.1.trans hlen.symm) rfl (by show 2 * 0 + _ ≤ 8; omega) hd (gx_fits hX hf)) hS hl k
/-- through an interface -/
theorem gx_cF (hX : gx_O I X mi n dc ds P' oc) {b count : Nat} {C : String} {cC : ClassId} {x : MethodName} (hat : ClassAt (gx_s X) C cC) (hFw : va_Fw C x y (gx_s X)) (hM : gx_T I (gx_A X) (gx_l X) y mi2 n2 (va_rf (some b) :: As) P mc ms P2 (.returned v)) (hG : GoodIn lw_all (va_wsF mi.1 index C x y (ws_ y mi2.2.2.1 mi2.2.2.2.1 mi2.2.2.2.2))) (hy : gx_ds x As.length) (hn : n2 + 1 ≤ n) (hL : mi2.2.2.2.1 ≤ 21) (hrec : gx_rc X P C b)
    (hst : st = As.reverse ++ va_rf (some b) :: rest) (hW : (rest.map fun v => v.category).sum ≤ 8) (hd : decode mi.2.2.1 pc = .ok (.invokeinterface index count, 5)) (hf : cs + mc ≤ dc ∧ ss + ms ≤ ds) (hlen : mi.2.2.2.1 = lv.length) (k : gx_G X P2 (cs + mc) (ss + ms) lv (pc + 5) (v.toList ++ rest)) : gx_G X P cs ss lv pc st := fun H locs ls hP hS hl => by
  subst hst
  exact gx_back5 hX (va_runF (As := As) (rest := rest) (b := b) hat (gx_fix hX) hM (va_cwF As.length hX.2.2.2.2.2.1 hG rfl rfl rfl hFw hy (gx_room hX hn hL)) ⟨gx_blind hX.2.2.2.2.2.2.2.2.2.2.2.2, hrec H hP, fun U hU hW => ⟨rfl, gx_pre hX hP hS hU hW⟩⟩ rfl rfl (hl.1.trans hlen.symm) rfl (by show 2 * 0 + _ ≤ 8; omega) hd (gx_fits hX hf)) hS hl k
/-- Object's constructor -/
theorem gx_obj (hX : gx_O I X mi n dc ds P' oc) {b : Nat} (hq : Cond.methodLink mi.1 index Lib.objectInit ∈ lw_all ∧ Cond.instanceMethod Lib.objectInit ∈ lw_all ∧ Cond.code Lib.objectInit ⟨#[0xb1]⟩ 1 none ∈ lw_all) (hn : 1 ≤ n) (hW : (rest.map fun v => v.category).sum ≤ 8) (hd : decode mi.2.2.1 pc = .ok (.invokespecial index, 3)) (hlen : mi.2.2.2.1 = lv.length) (k : gx_G X P cs ss lv (pc + 3) rest) : gx_G X P cs ss lv pc (va_rf (some b) :: rest) := fun H locs ls hP hS hl => by
  have hts := hX.2.2.2.2.2.1
  refine W.objInit (a := b) hX.1 hX.2.1 hX.2.2.2.2.1 (hts _ hq.1) (hts _ hq.2.1) (hts _ hq.2.2) rfl (hl.1.trans (hlen.symm.trans hX.2.2.2.1.symm)) rfl hd ?_ ?_ (k H locs ls hP hS hl)
  · exact Nat.le_trans hn hX.2.2.2.2.2.2.2.2.2.1.1
  · have h40 := hX.2.2.2.2.2.2.2.2.2.1.2.2.2
    show 2 * 0 + _ + 12 ≤ (gx_R X).locals
    omega
end GXC
theorem gx_bs {α β : Type} {x : Option α} {f : α → Option β} {r : β} (h : x.bind f = some r) : ∃ a, x = some a ∧ f a = some r := by
  cases x with
  | none => cases h
  | some a => exact ⟨a, rfl, h⟩
