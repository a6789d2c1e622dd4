set_option maxRecDepth 100000
/-! THE BEACH'S PURE HEAP: kinds (0 nothing, class number + 1, 30 + array type), int fields and reference fields by number and address, lengths, elements, size and slots of the heap, the shared empty array, Throwable's two statics -/
abbrev xk_C : Type := (Nat → Nat) × (Nat → Nat → Int32) × (Nat → Nat → Option Nat) × (Nat → Nat) × (Nat → Nat → Int32) × (Nat → Nat → Option Nat) × (Nat × Nat) × (Nat × Option Nat × Option Nat × Nat)
def xk_k (C : xk_C) (a : Nat) : Nat := C.1 a
def xk_i (C : xk_C) (f a : Nat) : Int32 := C.2.1 f a
def xk_r (C : xk_C) (f a : Nat) : Option Nat := C.2.2.1 f a
def xk_l (C : xk_C) (a : Nat) : Nat := C.2.2.2.1 a
def xk_e (C : xk_C) (a j : Nat) : Int32 := C.2.2.2.2.1 a j
def xk_q (C : xk_C) (a j : Nat) : Option Nat := C.2.2.2.2.2.1 a j
def xk_n (C : xk_C) : Nat := C.2.2.2.2.2.2.1.1
def xk_s (C : xk_C) : Nat := C.2.2.2.2.2.2.1.2
def xk_d (C : xk_C) : Nat := C.2.2.2.2.2.2.2.1
def xk_u1 (C : xk_C) : Option Nat := C.2.2.2.2.2.2.2.2.1
def xk_u2 (C : xk_C) : Option Nat := C.2.2.2.2.2.2.2.2.2.1
def xk_mi (C : xk_C) : Nat := C.2.2.2.2.2.2.2.2.2.2
def xk_si (C : xk_C) (f a : Nat) (v : Int32) : xk_C := (C.1, fun g b => if g = f ∧ b = a then v else C.2.1 g b, C.2.2)
def xk_sr (C : xk_C) (f a : Nat) (v : Option Nat) : xk_C := (C.1, C.2.1, fun g b => if g = f ∧ b = a then v else C.2.2.1 g b, C.2.2.2)
def xk_se (C : xk_C) (a j : Nat) (v : Int32) : xk_C := (C.1, C.2.1, C.2.2.1, C.2.2.2.1, fun b i => if b = a ∧ i = j then v else C.2.2.2.2.1 b i, C.2.2.2.2.2)
def xk_sq (C : xk_C) (a j : Nat) (v : Option Nat) : xk_C := (C.1, C.2.1, C.2.2.1, C.2.2.2.1, C.2.2.2.2.1, fun b i => if b = a ∧ i = j then v else C.2.2.2.2.2.1 b i, C.2.2.2.2.2.2)
/-- all elements of an array at once -/
def xk_sE (C : xk_C) (a : Nat) (f : Nat → Int32) : xk_C := (C.1, C.2.1, C.2.2.1, C.2.2.2.1, fun b i => if b = a then f i else C.2.2.2.2.1 b i, C.2.2.2.2.2)
def xk_sQ (C : xk_C) (a : Nat) (f : Nat → Option Nat) : xk_C := (C.1, C.2.1, C.2.2.1, C.2.2.2.1, C.2.2.2.2.1, fun b i => if b = a then f i else C.2.2.2.2.2.1 b i, C.2.2.2.2.2.2)
/-- a new cell: its kind, its length, its slots -/
def xk_mk (C : xk_C) (k len z : Nat) : xk_C := (fun b => if b = xk_n C then k else C.1 b, fun g b => if b = xk_n C then 0 else C.2.1 g b, fun g b => if b = xk_n C then none else C.2.2.1 g b, fun b => if b = xk_n C then len else C.2.2.2.1 b, fun b i => if b = xk_n C then 0 else C.2.2.2.2.1 b i, fun b i => if b = xk_n C then none else C.2.2.2.2.2.1 b i, (xk_n C + 1, xk_s C + z), C.2.2.2.2.2.2.2)
def xk_ft : List (List Nat) := [[0, 1, 2, 3, 4, 5, 6, 7, 8, 9, 10, 11, 12, 13, 14, 15, 16, 17, 18, 19, 20, 21, 22, 23, 24, 25, 26], [27, 28, 29, 30, 31], [32, 33, 34, 35, 36], [104, 105, 106, 107, 108, 109, 110, 111, 112, 113, 114, 115, 116, 117, 118, 119, 120, 121, 122, 123, 124, 125, 126, 127, 128, 129, 130, 131, 132, 133, 134, 135, 136, 137, 138, 139, 140, 141, 142], [37, 38, 39, 40, 41, 42, 43], [44, 45, 46, 47, 48, 49, 50, 51, 52, 53, 54, 55, 56], [57, 58], [57, 58, 59], [57, 58, 60], [57, 58, 59, 61], [57, 58, 59, 61, 62], [57, 58, 59, 63], [57, 58, 64], [65, 66, 67, 68, 69], [70, 71, 72, 73, 74, 75, 76], [77], [78, 79, 80], [81, 82, 83], [84, 85, 86, 87, 88, 89, 90], [91, 92, 93, 94, 95, 96, 97, 98, 99, 100], [101, 102, 103]]
def xk_ir : List Bool := [true, false, true, true, false, false, false, true, true, false, true, true, true, true, false, false, true, true, true, true, false, false, false, true, false, false, true, false, false, false, false, false, true, false, false, true, true, false, false, false, false, false, false, true, false, true, false, false, false, false, false, false, false, true, true, true, true, true, true, true, true, true, true, true, true, false, true, true, true, true, true, true, true, true, true, false, false, true, false, false, false, true, true, false, false, false, false, false, false, false, false, false, false, false, false, false, true, true, true, true, true, false, true, false, false, true, true, true, false, false, false, false, true, true, true, true, false, false, false, false, true, true, true, true, false, false, false, true, false, false, false, true, true, true, false, false, false, false, true, false, false, false, false]
def xk_f (ci k : Nat) : Nat := (xk_ft.getD ci []).getD k 0
def xk_N (ci : Nat) : Nat := (xk_ft.getD ci []).length
def xk_isr (f : Nat) : Bool := xk_ir.getD f false
/-- whether an object of this kind has the field -/
def xk_has (kd f : Nat) : Bool := decide (kd ≠ 0) && (xk_ft.getD (kd - 1) []).contains f
def xk_V (C : xk_C) (f a : Nat) : Value := if xk_isr f = true then va_rf (xk_r C f a) else .int (xk_i C f a)
/-- a class by its number: name, fields, how many -/
def xk_cl (ci : Nat) : vw_C := gw_cl.getD ci (RX0, TX0, 27)
def xk_ty (ci : Nat) : Nat → FieldType := match ci with | 0 => tyX0 | 1 => tyX1 | 2 => tyX2 | 3 => tyX3 | 4 => tyX4 | 5 => tyX5 | 6 => tyX6 | 7 => tyX7 | 8 => tyX8 | 9 => tyX9 | 10 => tyX10 | 11 => tyX11 | 12 => tyX12 | 13 => tyX13 | 14 => tyX14 | 15 => tyX15 | 16 => tyX16 | 17 => tyX17 | 18 => tyX18 | 19 => tyX19 | 20 => tyJ2 | _ => fun _ => .int
theorem xk_in (ci : Nat) (h : ci < 21) : ∀ c ∈ u_ws (xk_cl ci).1 (xk_cl ci).2.1 (xk_cl ci).2.2, c ∈ lw_all := match ci, h with
  | 0, _ => in_X0
  | 1, _ => in_X1
  | 2, _ => in_X2
  | 3, _ => in_X3
  | 4, _ => in_X4
  | 5, _ => in_X5
  | 6, _ => in_X6
  | 7, _ => in_X7
  | 8, _ => in_X8
  | 9, _ => in_X9
  | 10, _ => in_X10
  | 11, _ => in_X11
  | 12, _ => in_X12
  | 13, _ => in_X13
  | 14, _ => in_X14
  | 15, _ => in_X15
  | 16, _ => in_X16
  | 17, _ => in_X17
  | 18, _ => in_X18
  | 19, _ => in_X19
  | 20, _ => in_J2
  | n + 21, h => absurd h (by omega)
theorem xk_tok (ci : Nat) (h : ci < 21) : ∀ k, k < (xk_cl ci).2.2 → parseFieldDescriptor ((xk_cl ci).2.1 k).2.2.1 = some (xk_ty ci k) := match ci, h with
  | 0, _ => tyX0_ok
  | 1, _ => tyX1_ok
  | 2, _ => tyX2_ok
  | 3, _ => tyX3_ok
  | 4, _ => tyX4_ok
  | 5, _ => tyX5_ok
  | 6, _ => tyX6_ok
  | 7, _ => tyX7_ok
  | 8, _ => tyX8_ok
  | 9, _ => tyX9_ok
  | 10, _ => tyX10_ok
  | 11, _ => tyX11_ok
  | 12, _ => tyX12_ok
  | 13, _ => tyX13_ok
  | 14, _ => tyX14_ok
  | 15, _ => tyX15_ok
  | 16, _ => tyX16_ok
  | 17, _ => tyX17_ok
  | 18, _ => tyX18_ok
  | 19, _ => tyX19_ok
  | 20, _ => tyJ2_ok
  | n + 21, h => absurd h (by omega)
theorem xk_at (ci : Nat) (h : ci < 21) : gw_cl[ci]? = some (xk_cl ci) := by
  unfold xk_cl
  rw [List.getD_eq_getElem?_getD]
  have h2 : ci < gw_cl.length := h
  rw [List.getElem?_eq_getElem h2]
  rfl
theorem xk_Neq : ∀ ci, ci < 21 → ci ≠ 99 → (xk_cl ci).2.2 = xk_N ci := by decide +kernel
/-- the slots of a class are apart: by name or by owner -/
theorem xk_own {args : Array Value} {s : State} {C O f d O' f' d' : String} (h : (Cond.laysFinal C O f d).before args s = true) (h' : (Cond.laysFinal C O' f' d').before args s = true)
    {cf kf fi fd cf' kf' fi' fd'} (hi : s.fieldFound? O f d = some (cf, kf, fi, fd)) (hi' : s.fieldFound? O' f' d' = some (cf', kf', fi', fd')) (hne : O ≠ O') : fd.slot ≠ fd'.slot := by
  obtain ⟨c1, k1, c1', k1', i1, f1, r1, -, r3, -, -, -, r4, -, d1, hd1, n1, -⟩ := Cond.laysFinal_spec h
  obtain ⟨c2, k2, c2', k2', i2, f2, t1, -, t3, -, -, -, t4, -, d2, hd2, n2, -⟩ := Cond.laysFinal_spec h'
  cases r3.symm.trans hi
  cases t3.symm.trans hi'
  cases r1.symm.trans t1
  intro hs
  rw [hs] at hd1
  cases hd1.symm.trans hd2
  have e1 : kf.name = O := by
    obtain ⟨k, hk, hn⟩ := Vm.findClass_spec r4
    cases hk.symm.trans (State.fieldFound?_spec hi).1
    exact hn
  have e2 : kf'.name = O' := by
    obtain ⟨k, hk, hn⟩ := Vm.findClass_spec t4
    cases hk.symm.trans (State.fieldFound?_spec hi').1
    exact hn
  exact hne (e1.symm.trans (n1.symm.trans (n2.trans e2)))
