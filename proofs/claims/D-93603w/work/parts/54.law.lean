set_option maxRecDepth 100000
abbrev iL_law : gx_M := ("ShellBeachLaw", "law", cL_law, 4, some .boolean)
def lx_S0 (N bx : Nat) (Rel : Nat → xk_C → gm_S → Prop) : Prop := ∀ (k : Nat) (C : xk_C) (σ : gm_S), k < 64 → Rel k C σ → ∀ (a1 a2 a3 a4 : Int32), ∃ (C' : xk_C) (σ' : gm_S) (r : Int32), fX0_shell bx C a1 a2 a3 a4 = some (C', r) ∧ fX3_shell σ a1 a2 a3 a4 = some (σ', r) ∧ Rel (k + 1) C' σ' ∧ xk_s C' - xk_s C ≤ 100000
def lx_S1 (N bx : Nat) (Rel : Nat → xk_C → gm_S → Prop) : Prop := ∀ (k : Nat) (C : xk_C) (σ : gm_S), k < 64 → Rel k C σ → ∀ (a1 a2 a3 : Int32), ∃ (C' : xk_C) (σ' : gm_S) (r : Int32), fX0_crab bx C a1 a2 a3 = some (C', r) ∧ fX3_crab σ a1 a2 a3 = some (σ', r) ∧ Rel (k + 1) C' σ' ∧ xk_s C' - xk_s C ≤ 100000
def lx_S2 (N bx : Nat) (Rel : Nat → xk_C → gm_S → Prop) : Prop := ∀ (k : Nat) (C : xk_C) (σ : gm_S), k < 64 → Rel k C σ → ∀ (a1 a2 : Int32), ∃ (C' : xk_C) (σ' : gm_S) (r : Int32), fX0_habit bx C a1 a2 = some (C', r) ∧ fX3_habit σ a1 a2 = some (σ', r) ∧ Rel (k + 1) C' σ'
def lx_S3 (N bx : Nat) (Rel : Nat → xk_C → gm_S → Prop) : Prop := ∀ (k : Nat) (C : xk_C) (σ : gm_S), k < 64 → Rel k C σ → ∀ (a1 a2 : Int32), ∃ (C' : xk_C) (σ' : gm_S) (r : Int32), fX0_walk bx C a1 a2 = some (C', r) ∧ fX3_walk σ a1 a2 = some (σ', r) ∧ Rel (k + 1) C' σ'
def lx_S4 (N bx : Nat) (Rel : Nat → xk_C → gm_S → Prop) : Prop := ∀ (k : Nat) (C : xk_C) (σ : gm_S), k < 64 → Rel k C σ → ∀ (a1 a2 : Int32), ∃ (r : Int32), fX0_of bx C a1 a2 = some r ∧ fX3_of σ a1 a2 = some r ∧ Rel (k + 1) C σ
def lx_S5 (N bx : Nat) (Rel : Nat → xk_C → gm_S → Prop) : Prop := ∀ (k : Nat) (C : xk_C) (σ : gm_S), k < 64 → Rel k C σ → ∀ (a1 a2 : Int32), ∃ (r : Int32), fX0_about N bx C a1 a2 = some r ∧ fX3_about N σ a1 a2 = some r ∧ Rel (k + 1) C σ
def lx_S6 (N bx : Nat) (Rel : Nat → xk_C → gm_S → Prop) : Prop := ∀ (k : Nat) (C : xk_C) (σ : gm_S), k < 64 → Rel k C σ → ∀ (a1 a2 : Int32), ∃ (r : Int32), fX0_fit bx C a1 a2 = some r ∧ fX3_fit σ a1 a2 = some r ∧ Rel (k + 1) C σ
def lx_S7 (N bx : Nat) (Rel : Nat → xk_C → gm_S → Prop) : Prop := ∀ (k : Nat) (C : xk_C) (σ : gm_S), k < 64 → Rel k C σ → ∀ (a1 a2 : Int32), ∃ (C' : xk_C) (σ' : gm_S) (r : Int32), fX0_end bx C a1 a2 = some (C', r) ∧ fX3_end σ a1 a2 = some (σ', r) ∧ Rel (k + 1) C' σ'
def lx_S8 (N bx : Nat) (Rel : Nat → xk_C → gm_S → Prop) : Prop := ∀ (k : Nat) (C : xk_C) (σ : gm_S), k < 64 → Rel k C σ → ∀ (a1 : Int32), ∃ (C' : xk_C) (σ' : gm_S) (r : Int32), fX0_eat N bx C a1 = some (C', r) ∧ fX3_eat N σ a1 = some (σ', r) ∧ Rel (k + 1) C' σ'
def lx_S9 (N bx : Nat) (Rel : Nat → xk_C → gm_S → Prop) : Prop := ∀ (k : Nat) (C : xk_C) (σ : gm_S), k < 64 → Rel k C σ → ∀ (a1 a2 a3 : Int32), ∃ (C' : xk_C) (σ' : gm_S) (r : Int32), fX0_feed N bx C ((a1.toInt64 <<< ((nI 32).toInt64 &&& 63)) ||| (a2.toInt64 &&& (4294967295))) a3 = some (C', r) ∧ fX3_feed N σ ((a1.toInt64 <<< ((nI 32).toInt64 &&& 63)) ||| (a2.toInt64 &&& (4294967295))) a3 = some (σ', r) ∧ Rel (k + 1) C' σ'
def lx_S10 (N bx : Nat) (Rel : Nat → xk_C → gm_S → Prop) : Prop := ∀ (k : Nat) (C : xk_C) (σ : gm_S), k < 64 → Rel k C σ → ∃ (C' : xk_C) (σ' : gm_S) (r : Int32), fX0_text N bx C  = some (C', r) ∧ fX3_text N σ  = some (σ', r) ∧ Rel (k + 1) C' σ' ∧ xk_s C' - xk_s C ≤ 100000
def lx_S11 (N bx : Nat) (Rel : Nat → xk_C → gm_S → Prop) : Prop := ∀ (k : Nat) (C : xk_C) (σ : gm_S), k < 64 → Rel k C σ → ∀ (a1 a2 a3 a4 a5 a6 a7 : Int32), ∃ (C' : xk_C) (σ' : gm_S) (r : Int32), fX0_holds N bx C a1 a2 a3 a4 a5 a6 a7 = some (C', r) ∧ fX3_holds N σ a1 a2 a3 a4 a5 a6 a7 = some (σ', r) ∧ Rel (k + 1) C' σ'
def lx_S12 (N bx : Nat) (Rel : Nat → xk_C → gm_S → Prop) : Prop := ∀ (k : Nat) (C : xk_C) (σ : gm_S), k < 64 → Rel k C σ → ∀ (a1 a2 : Int32), ∃ (C' : xk_C) (σ' : gm_S) (r : Int32), fX0_set bx C a1 a2 = some (C', r) ∧ fX3_set σ a1 a2 = some (σ', r) ∧ Rel (k + 1) C' σ'
def lx_S13 (N bx : Nat) (Rel : Nat → xk_C → gm_S → Prop) : Prop := ∀ (k : Nat) (C : xk_C) (σ : gm_S), k < 64 → Rel k C σ → ∀ (a1 : Int32), ∃ (C' : xk_C) (σ' : gm_S) (r : Int32), fX0_tick N bx C a1 = some (C', r) ∧ fX3_tick N σ a1 = some (σ', r) ∧ Rel (k + 1) C' σ'
def lx_S14 (N bx : Nat) (Rel : Nat → xk_C → gm_S → Prop) : Prop := ∀ (k : Nat) (C : xk_C) (σ : gm_S), k < 64 → Rel k C σ → ∀ (a1 a2 : Int32), ∃ (r : Int32), fX0_row N bx C a1 a2 = some r ∧ fX3_row N σ a1 a2 = some r ∧ Rel (k + 1) C σ
def lx_S15 (N bx : Nat) (Rel : Nat → xk_C → gm_S → Prop) : Prop := ∀ (k : Nat) (C : xk_C) (σ : gm_S), k < 64 → Rel k C σ → ∀ (a1 : Int32), ∃ (r : Int32), fX0_exchanges bx C a1 = some r ∧ fX3_exchanges σ a1 = some r ∧ Rel (k + 1) C σ
def lx_S16 (N bx : Nat) (Rel : Nat → xk_C → gm_S → Prop) : Prop := ∀ (k : Nat) (C : xk_C) (σ : gm_S), k < 64 → Rel k C σ → ∃ (r : Int32), fX0_points N bx C  = some r ∧ fX3_points N σ  = some r ∧ Rel (k + 1) C σ
def lx_S17 (N bx : Nat) (Rel : Nat → xk_C → gm_S → Prop) : Prop := ∀ (k : Nat) (C : xk_C) (σ : gm_S), k < 64 → Rel k C σ → ∀ (a1 a2 : Int32), ∃ (C' : xk_C) (σ' : gm_S) (r : Int32), fX0_chain N bx C a1 a2 = some (C', r) ∧ fX3_chain N σ a1 a2 = some (σ', r) ∧ Rel (k + 1) C' σ'
def lx_S18 (N bx : Nat) (Rel : Nat → xk_C → gm_S → Prop) : Prop := ∀ (k : Nat) (C : xk_C) (σ : gm_S), k < 64 → Rel k C σ → ∀ (a1 : Int32), ∃ (C' : xk_C) (σ' : gm_S) (r : Int32), fX0_value N bx C a1 = some (C', r) ∧ fX3_value N σ a1 = some (σ', r) ∧ Rel (k + 1) C' σ' ∧ xk_s C' - xk_s C ≤ 100000
def lx_S19 (N bx : Nat) (Rel : Nat → xk_C → gm_S → Prop) : Prop := ∀ (k : Nat) (C : xk_C) (σ : gm_S), k < 64 → Rel k C σ → ∃ (C' : xk_C) (σ' : gm_S) (r : Int32), fX0_first N bx C  = some (C', r) ∧ fX3_first N σ  = some (σ', r) ∧ Rel (k + 1) C' σ' ∧ xk_s C' - xk_s C ≤ 100000
def lx_S20 (N bx : Nat) (Rel : Nat → xk_C → gm_S → Prop) : Prop := ∀ (k : Nat) (C : xk_C) (σ : gm_S), k < 64 → Rel k C σ → ∀ (a1 a2 : Int32), ∃ (C' : xk_C) (σ' : gm_S) (r : Int32), fX0_best N bx C a1 a2 = some (C', r) ∧ fX3_best N σ a1 a2 = some (σ', r) ∧ Rel (k + 1) C' σ'
def lx_S21 (N bx : Nat) (Rel : Nat → xk_C → gm_S → Prop) : Prop := ∀ (k : Nat) (C : xk_C) (σ : gm_S), k < 64 → Rel k C σ → ∀ (a1 : Int32), ∃ (C' : xk_C) (σ' : gm_S) (r : Int32), fX0_calm N bx C a1 = some (C', r) ∧ fX3_calm N σ a1 = some (σ', r) ∧ Rel (k + 1) C' σ'
def lx_S22 (N bx : Nat) (Rel : Nat → xk_C → gm_S → Prop) : Prop := ∀ (k : Nat) (C : xk_C) (σ : gm_S), k < 64 → Rel k C σ → ∃ (r : Int32), fX0_pairs N bx C  = some r ∧ fX3_pairs N σ  = some r ∧ Rel (k + 1) C σ
def lx_S23 (N bx : Nat) (Rel : Nat → xk_C → gm_S → Prop) : Prop := ∀ (k : Nat) (C : xk_C) (σ : gm_S), k < 64 → Rel k C σ → ∀ (a1 a2 a3 a4 a5 a6 a7 : Int32), ∃ (C' : xk_C) (σ' : gm_S) (r : Int32), fX0_film bx C a1 a2 a3 a4 a5 a6 a7 = some (C', r) ∧ fX3_film σ a1 a2 a3 a4 a5 a6 a7 = some (σ', r) ∧ Rel (k + 1) C' σ' ∧ xk_s C' - xk_s C ≤ 100000
def lx_S24 (N bx : Nat) (Rel : Nat → xk_C → gm_S → Prop) : Prop := ∀ (k : Nat) (C : xk_C) (σ : gm_S), k < 64 → Rel k C σ → ∀ (a1 a2 : Int32), ∃ (C' : xk_C) (σ' : gm_S) (r : Int32), fX0_reads N bx C a1 a2 = some (C', r) ∧ fX3_reads N σ a1 a2 = some (σ', r) ∧ Rel (k + 1) C' σ'
def lx_S25 (N bx : Nat) (Rel : Nat → xk_C → gm_S → Prop) : Prop := ∀ (k : Nat) (C : xk_C) (σ : gm_S), k < 64 → Rel k C σ → ∃ (C' : xk_C) (σ' : gm_S) (r : Int32), fX0_sure N bx C  = some (C', r) ∧ fX3_sure N σ  = some (σ', r) ∧ Rel (k + 1) C' σ'
def lx_S26 (N bx : Nat) (Rel : Nat → xk_C → gm_S → Prop) : Prop := ∀ (k : Nat) (C : xk_C) (σ : gm_S), k < 64 → Rel k C σ → ∀ (a1 a2 a3 a4 : Int32), ∃ (C' : xk_C) (σ' : gm_S) (r : Int32), fX0_mend N bx C a1 a2 a3 a4 = some (C', r) ∧ fX3_mend N σ a1 a2 a3 a4 = some (σ', r) ∧ Rel (k + 1) C' σ' ∧ xk_s C' - xk_s C ≤ 100000
def lx_S27 (N bx : Nat) (Rel : Nat → xk_C → gm_S → Prop) : Prop := ∀ (k : Nat) (C : xk_C) (σ : gm_S), k < 64 → Rel k C σ → ∀ (a1 a2 a3 : Int32), ∃ (C' : xk_C) (σ' : gm_S) (r : Int32), fX0_act N bx C a1 a2 a3 = some (C', r) ∧ fX3_act N σ a1 a2 a3 = some (σ', r) ∧ Rel (k + 1) C' σ'
def lx_S28 (N bx : Nat) (Rel : Nat → xk_C → gm_S → Prop) : Prop := ∀ (k : Nat) (C : xk_C) (σ : gm_S), k < 64 → Rel k C σ → ∀ (a1 : Int32), ∃ (r : Int32), fX0_trace bx C a1 = some r ∧ fX3_trace σ a1 = some r ∧ Rel (k + 1) C σ
def lx_S29 (N bx : Nat) (Rel : Nat → xk_C → gm_S → Prop) : Prop := ∀ (k : Nat) (C : xk_C) (σ : gm_S), k < 64 → Rel k C σ → ∀ (a1 a2 : Int32), ∃ (r : Int32), fX0_as N bx C a1 a2 = some r ∧ fX3_as N σ a1 a2 = some r ∧ Rel (k + 1) C σ
def lx_S30 (N bx : Nat) (Rel : Nat → xk_C → gm_S → Prop) : Prop := ∀ (k : Nat) (C : xk_C) (σ : gm_S), k < 64 → Rel k C σ → ∃ (C' : xk_C) (σ' : gm_S) (r : Int32), fX0_image N bx C  = some (C', r) ∧ fX3_image N σ  = some (σ', r) ∧ Rel (k + 1) C' σ' ∧ xk_s C' - xk_s C ≤ 100000
def lx_S31 (N bx : Nat) (Rel : Nat → xk_C → gm_S → Prop) : Prop := ∀ (k : Nat) (C : xk_C) (σ : gm_S), k < 64 → Rel k C σ → ∃ (C' : xk_C) (σ' : gm_S) (r : Int32), fX0_undo N bx C  = some (C', r) ∧ fX3_undo N σ  = some (σ', r) ∧ Rel (k + 1) C' σ'
def lx_S32 (N bx : Nat) (Rel : Nat → xk_C → gm_S → Prop) : Prop := ∀ (k : Nat) (C : xk_C) (σ : gm_S), k < 64 → Rel k C σ → ∀ (a1 : Int32), ∃ (r : Int32), fX0_count N bx C a1 = some r ∧ fX3_count N σ a1 = some r ∧ Rel (k + 1) C σ
theorem lx_nb {a n : Nat} (h : a ≤ n + 601024) : a - n ≤ 601024 := by omega
theorem lx_ss {k ss : Nat} (h : ss ≤ k * 100000 + 100000) : ss ≤ (k + 1) * 100000 + 100000 := Nat.le_trans h (Nat.add_le_add_right (Nat.mul_le_mul_right _ (Nat.le_succ k)) _)
theorem lx_ss2 {k ss d : Nat} (h : ss ≤ k * 100000 + 100000) (hd : d ≤ 100000) : ss + d ≤ (k + 1) * 100000 + 100000 := by omega
theorem lx_s7 {k ss : Nat} (h : ss ≤ k * 100000 + 100000) (hk : k < 64) : ss ≤ 7293033 := by omega
theorem lx_s8 {k ss d : Nat} (h : ss ≤ k * 100000 + 100000) (hk : k < 64) (hd : d ≤ 100000) : ss + d ≤ 7293033 := by omega
/-- the simulation that stage 2 owes -/
def lx_S (N bx n0 : Nat) (Rel : Nat → xk_C → gm_S → Prop) : Prop := (∀ k C σ, Rel k C σ → xk_k C bx = 1 ∧ n0 ≤ xk_n C ∧ xk_n C ≤ n0 + 601024) ∧ (∀ k C σ, k < 64 → Rel k C σ → Rel (k + 1) C σ) ∧ lx_S0 N bx Rel ∧ lx_S1 N bx Rel ∧ lx_S2 N bx Rel ∧ lx_S3 N bx Rel ∧ lx_S4 N bx Rel ∧ lx_S5 N bx Rel ∧ lx_S6 N bx Rel ∧ lx_S7 N bx Rel ∧ lx_S8 N bx Rel ∧ lx_S9 N bx Rel ∧ lx_S10 N bx Rel ∧ lx_S11 N bx Rel ∧ lx_S12 N bx Rel ∧ lx_S13 N bx Rel ∧ lx_S14 N bx Rel ∧ lx_S15 N bx Rel ∧ lx_S16 N bx Rel ∧ lx_S17 N bx Rel ∧ lx_S18 N bx Rel ∧ lx_S19 N bx Rel ∧ lx_S20 N bx Rel ∧ lx_S21 N bx Rel ∧ lx_S22 N bx Rel ∧ lx_S23 N bx Rel ∧ lx_S24 N bx Rel ∧ lx_S25 N bx Rel ∧ lx_S26 N bx Rel ∧ lx_S27 N bx Rel ∧ lx_S28 N bx Rel ∧ lx_S29 N bx Rel ∧ lx_S30 N bx Rel ∧ lx_S31 N bx Rel ∧ lx_S32 N bx Rel
set_option maxHeartbeats 4000000 in
theorem lx_c0 {w : gw_W} {X : gx_X} {n n0 : Nat} {P' : Heap → Prop} {oc : Outcome} (K : lx_K w X iL_law n n0 P' oc) (hn : 200 ≤ n) {b L bx k N ss : Nat} {xs : Nat → Int32} {C : xk_C} {σ : gm_S} {Rel : Nat → xk_C → gm_S → Prop} (hx : va_X b L xs (gx_s X) (gx_s X).heap) (hb : b < (gx_s X).heap.size ∧ ¬ gx_A X b) (hLk : 8 * k + 8 ≤ L ∧ L ≤ 512) (hS : lx_S0 N bx Rel) (hB : ∀ k C σ, Rel k C σ → xk_k C bx = 1 ∧ n0 ≤ xk_n C ∧ xk_n C ≤ n0 + 601024) (hk : k < 64) (hR : Rel k C σ) (hss : ss ≤ k * 100000 + 100000) (kont : ∀ C' σ' ss', Rel (k + 1) C' σ' → ss' ≤ (k + 1) * 100000 + 100000 → gx_G X (lx_P n0 w C' σ') (xk_n C' - n0) ss' [some (va_rf (some b)), some (va_rf (some bx)), some (va_rf (some (gw_mo w))), some (.int (nI (8 * k)))] 1257 []) : gx_G X (lx_P n0 w C σ) (xk_n C - n0) ss [some (va_rf (some b)), some (va_rf (some bx)), some (va_rf (some (gw_mo w))), some (.int (nI (8 * k)))] 180 [] := by
  have hX := K.1
  obtain ⟨C', σ', r, hfx, hfm, hR', hs⟩ := hS k C σ hk hR (xs (8 * k + 1)) (xs (8 * k + 2)) (xs (8 * k + 3)) (xs (8 * k + 4))
  obtain ⟨hkx, hn0, hn1⟩ := hB k _ _ hR
  obtain ⟨-, hn2, hn3⟩ := hB (k + 1) _ _ hR'
  refine gx_aload_n hX dL_law_180 rfl ?_
  refine lx_arg (j := 1) hX hx hb rfl ⟨by omega, by omega⟩ (by decide) ⟨dL_law_181, dL_law_182, dL_law_183, dL_law_184, dL_law_185⟩ ?_
  refine lx_arg (j := 2) hX hx hb rfl ⟨by omega, by omega⟩ (by decide) ⟨dL_law_186, dL_law_187, dL_law_188, dL_law_189, dL_law_190⟩ ?_
  refine lx_arg (j := 3) hX hx hb rfl ⟨by omega, by omega⟩ (by decide) ⟨dL_law_191, dL_law_192, dL_law_193, dL_law_194, dL_law_195⟩ ?_
  refine lx_arg (j := 4) hX hx hb rfl ⟨by omega, by omega⟩ (by decide) ⟨dL_law_196, dL_law_197, dL_law_198, dL_law_199, dL_law_200⟩ ?_
  have hM : gx_T (gw_I w (lx_A n0 w)) (lx_A n0 w) (gx_l X) yX0_shell iX0_shell 8 (va_rf (some bx) :: [.int ((xs (8 * k + 1))), .int ((xs (8 * k + 2))), .int ((xs (8 * k + 3))), .int ((xs (8 * k + 4)))]) (xk_P (lx_A n0 w) w C) (xk_n C' - xk_n C) (xk_s C' - xk_s C) (xk_P (lx_A n0 w) w C') (.returned (some (.int r))) := (tX0_shell w (lx_A n0 w) (gx_l X) bx C ((xs (8 * k + 1))) ((xs (8 * k + 2))) ((xs (8 * k + 3))) ((xs (8 * k + 4))) (r := (C', r)) hfx)
  refine lx_cA (As := [.int ((xs (8 * k + 1))), .int ((xs (8 * k + 2))), .int ((xs (8 * k + 3))), .int ((xs (8 * k + 4)))]) (rest := []) (C := C) (C' := C') (σ := σ) (r := r) K hM (lw_V q304 q305 q306 q86 q307) ⟨rfl, dsX0_shell⟩ (Nat.le_trans (by decide) hn) (Nat.le_of_ble_eq_true rfl) hkx hn0 ⟨⟨lx_nb hn1, lx_nb hn3⟩, lx_s8 hss hk hs⟩ rfl (gx_w8 gx_k0 (Nat.le_of_ble_eq_true rfl)) dL_law_201 rfl ?_
  refine gx_aload_n hX dL_law_204 rfl ?_
  refine lx_arg (j := 1) hX hx hb rfl ⟨by omega, by omega⟩ (by decide) ⟨dL_law_205, dL_law_206, dL_law_207, dL_law_208, dL_law_209⟩ ?_
  refine lx_arg (j := 2) hX hx hb rfl ⟨by omega, by omega⟩ (by decide) ⟨dL_law_210, dL_law_211, dL_law_212, dL_law_213, dL_law_214⟩ ?_
  refine lx_arg (j := 3) hX hx hb rfl ⟨by omega, by omega⟩ (by decide) ⟨dL_law_215, dL_law_216, dL_law_217, dL_law_218, dL_law_219⟩ ?_
  refine lx_arg (j := 4) hX hx hb rfl ⟨by omega, by omega⟩ (by decide) ⟨dL_law_220, dL_law_221, dL_law_222, dL_law_223, dL_law_224⟩ ?_
  have hM2 : gx_T (gw_I w (gm_A w)) (gm_A w) (gx_l X) yX3_shell iX3_shell 3 (va_rf (some (gw_mo w)) :: [.int ((xs (8 * k + 1))), .int ((xs (8 * k + 2))), .int ((xs (8 * k + 3))), .int ((xs (8 * k + 4)))]) (gm_P w σ) 0 0 (gm_P w σ') (.returned (some (.int r))) := (tX3_shell w (gm_A w) (fun _ h => h) (gx_l X) σ ((xs (8 * k + 1))) ((xs (8 * k + 2))) ((xs (8 * k + 3))) ((xs (8 * k + 4))) (r := (σ', r)) hfm)
  refine lx_cM (As := [.int ((xs (8 * k + 1))), .int ((xs (8 * k + 2))), .int ((xs (8 * k + 3))), .int ((xs (8 * k + 4)))]) (rest := [.int r]) (C := C') (σ := σ) (σ' := σ') (r := r) K hM2 (lw_V q1460 q1461 q1462 q92 q1463) ⟨rfl, dsX3_shell⟩ (Nat.le_trans (by decide) hn) (Nat.le_of_ble_eq_true rfl) hn2 ⟨lx_nb hn3, lx_s8 hss hk hs⟩ rfl (gx_w8 (gx_kI gx_k0) (Nat.le_of_ble_eq_true rfl)) dL_law_225 rfl ?_
  refine gx_icmp_eq (tgt := 1257) hX dL_law_228 (by decide) (a := some ()) (b := none) (r := ()) (if_pos rfl) (fun _ => ?_) (fun h => by cases h)
  exact kont C' σ' (ss + (xk_s C' - xk_s C)) hR' (lx_ss2 hss hs)
set_option maxHeartbeats 4000000 in
theorem lx_c1 {w : gw_W} {X : gx_X} {n n0 : Nat} {P' : Heap → Prop} {oc : Outcome} (K : lx_K w X iL_law n n0 P' oc) (hn : 200 ≤ n) {b L bx k N ss : Nat} {xs : Nat → Int32} {C : xk_C} {σ : gm_S} {Rel : Nat → xk_C → gm_S → Prop} (hx : va_X b L xs (gx_s X) (gx_s X).heap) (hb : b < (gx_s X).heap.size ∧ ¬ gx_A X b) (hLk : 8 * k + 8 ≤ L ∧ L ≤ 512) (hS : lx_S1 N bx Rel) (hB : ∀ k C σ, Rel k C σ → xk_k C bx = 1 ∧ n0 ≤ xk_n C ∧ xk_n C ≤ n0 + 601024) (hk : k < 64) (hR : Rel k C σ) (hss : ss ≤ k * 100000 + 100000) (kont : ∀ C' σ' ss', Rel (k + 1) C' σ' → ss' ≤ (k + 1) * 100000 + 100000 → gx_G X (lx_P n0 w C' σ') (xk_n C' - n0) ss' [some (va_rf (some b)), some (va_rf (some bx)), some (va_rf (some (gw_mo w))), some (.int (nI (8 * k)))] 1257 []) : gx_G X (lx_P n0 w C σ) (xk_n C - n0) ss [some (va_rf (some b)), some (va_rf (some bx)), some (va_rf (some (gw_mo w))), some (.int (nI (8 * k)))] 233 [] := by
  have hX := K.1
  obtain ⟨C', σ', r, hfx, hfm, hR', hs⟩ := hS k C σ hk hR (xs (8 * k + 1)) (xs (8 * k + 2)) (xs (8 * k + 3))
  obtain ⟨hkx, hn0, hn1⟩ := hB k _ _ hR
  obtain ⟨-, hn2, hn3⟩ := hB (k + 1) _ _ hR'
  refine gx_aload_n hX dL_law_233 rfl ?_
  refine lx_arg (j := 1) hX hx hb rfl ⟨by omega, by omega⟩ (by decide) ⟨dL_law_234, dL_law_235, dL_law_236, dL_law_237, dL_law_238⟩ ?_
  refine lx_arg (j := 2) hX hx hb rfl ⟨by omega, by omega⟩ (by decide) ⟨dL_law_239, dL_law_240, dL_law_241, dL_law_242, dL_law_243⟩ ?_
  refine lx_arg (j := 3) hX hx hb rfl ⟨by omega, by omega⟩ (by decide) ⟨dL_law_244, dL_law_245, dL_law_246, dL_law_247, dL_law_248⟩ ?_
  have hM : gx_T (gw_I w (lx_A n0 w)) (lx_A n0 w) (gx_l X) yX0_crab iX0_crab 8 (va_rf (some bx) :: [.int ((xs (8 * k + 1))), .int ((xs (8 * k + 2))), .int ((xs (8 * k + 3)))]) (xk_P (lx_A n0 w) w C) (xk_n C' - xk_n C) (xk_s C' - xk_s C) (xk_P (lx_A n0 w) w C') (.returned (some (.int r))) := (tX0_crab w (lx_A n0 w) (gx_l X) bx C ((xs (8 * k + 1))) ((xs (8 * k + 2))) ((xs (8 * k + 3))) (r := (C', r)) hfx)
  refine lx_cA (As := [.int ((xs (8 * k + 1))), .int ((xs (8 * k + 2))), .int ((xs (8 * k + 3)))]) (rest := []) (C := C) (C' := C') (σ := σ) (r := r) K hM (lw_V q425 q426 q427 q86 q428) ⟨rfl, dsX0_crab⟩ (Nat.le_trans (by decide) hn) (Nat.le_of_ble_eq_true rfl) hkx hn0 ⟨⟨lx_nb hn1, lx_nb hn3⟩, lx_s8 hss hk hs⟩ rfl (gx_w8 gx_k0 (Nat.le_of_ble_eq_true rfl)) dL_law_249 rfl ?_
  refine gx_aload_n hX dL_law_252 rfl ?_
  refine lx_arg (j := 1) hX hx hb rfl ⟨by omega, by omega⟩ (by decide) ⟨dL_law_253, dL_law_254, dL_law_255, dL_law_256, dL_law_257⟩ ?_
  refine lx_arg (j := 2) hX hx hb rfl ⟨by omega, by omega⟩ (by decide) ⟨dL_law_258, dL_law_259, dL_law_260, dL_law_261, dL_law_262⟩ ?_
  refine lx_arg (j := 3) hX hx hb rfl ⟨by omega, by omega⟩ (by decide) ⟨dL_law_263, dL_law_264, dL_law_265, dL_law_266, dL_law_267⟩ ?_
  have hM2 : gx_T (gw_I w (gm_A w)) (gm_A w) (gx_l X) yX3_crab iX3_crab 3 (va_rf (some (gw_mo w)) :: [.int ((xs (8 * k + 1))), .int ((xs (8 * k + 2))), .int ((xs (8 * k + 3)))]) (gm_P w σ) 0 0 (gm_P w σ') (.returned (some (.int r))) := (tX3_crab w (gm_A w) (fun _ h => h) (gx_l X) σ ((xs (8 * k + 1))) ((xs (8 * k + 2))) ((xs (8 * k + 3))) (r := (σ', r)) hfm)
  refine lx_cM (As := [.int ((xs (8 * k + 1))), .int ((xs (8 * k + 2))), .int ((xs (8 * k + 3)))]) (rest := [.int r]) (C := C') (σ := σ) (σ' := σ') (r := r) K hM2 (lw_V q1470 q1471 q1472 q92 q1473) ⟨rfl, dsX3_crab⟩ (Nat.le_trans (by decide) hn) (Nat.le_of_ble_eq_true rfl) hn2 ⟨lx_nb hn3, lx_s8 hss hk hs⟩ rfl (gx_w8 (gx_kI gx_k0) (Nat.le_of_ble_eq_true rfl)) dL_law_268 rfl ?_
  refine gx_icmp_eq (tgt := 1257) hX dL_law_271 (by decide) (a := some ()) (b := none) (r := ()) (if_pos rfl) (fun _ => ?_) (fun h => by cases h)
  exact kont C' σ' (ss + (xk_s C' - xk_s C)) hR' (lx_ss2 hss hs)
set_option maxHeartbeats 4000000 in
theorem lx_c2 {w : gw_W} {X : gx_X} {n n0 : Nat} {P' : Heap → Prop} {oc : Outcome} (K : lx_K w X iL_law n n0 P' oc) (hn : 200 ≤ n) {b L bx k N ss : Nat} {xs : Nat → Int32} {C : xk_C} {σ : gm_S} {Rel : Nat → xk_C → gm_S → Prop} (hx : va_X b L xs (gx_s X) (gx_s X).heap) (hb : b < (gx_s X).heap.size ∧ ¬ gx_A X b) (hLk : 8 * k + 8 ≤ L ∧ L ≤ 512) (hS : lx_S2 N bx Rel) (hB : ∀ k C σ, Rel k C σ → xk_k C bx = 1 ∧ n0 ≤ xk_n C ∧ xk_n C ≤ n0 + 601024) (hk : k < 64) (hR : Rel k C σ) (hss : ss ≤ k * 100000 + 100000) (kont : ∀ C' σ' ss', Rel (k + 1) C' σ' → ss' ≤ (k + 1) * 100000 + 100000 → gx_G X (lx_P n0 w C' σ') (xk_n C' - n0) ss' [some (va_rf (some b)), some (va_rf (some bx)), some (va_rf (some (gw_mo w))), some (.int (nI (8 * k)))] 1257 []) : gx_G X (lx_P n0 w C σ) (xk_n C - n0) ss [some (va_rf (some b)), some (va_rf (some bx)), some (va_rf (some (gw_mo w))), some (.int (nI (8 * k)))] 276 [] := by
  have hX := K.1
  obtain ⟨C', σ', r, hfx, hfm, hR'⟩ := hS k C σ hk hR (xs (8 * k + 1)) (xs (8 * k + 2))
  obtain ⟨hkx, hn0, hn1⟩ := hB k _ _ hR
  obtain ⟨-, hn2, hn3⟩ := hB (k + 1) _ _ hR'
  refine gx_aload_n hX dL_law_276 rfl ?_
  refine lx_arg (j := 1) hX hx hb rfl ⟨by omega, by omega⟩ (by decide) ⟨dL_law_277, dL_law_278, dL_law_279, dL_law_280, dL_law_281⟩ ?_
  refine lx_arg (j := 2) hX hx hb rfl ⟨by omega, by omega⟩ (by decide) ⟨dL_law_282, dL_law_283, dL_law_284, dL_law_285, dL_law_286⟩ ?_
  have hM : gx_T (gw_I w (lx_A n0 w)) (lx_A n0 w) (gx_l X) yX0_habit iX0_habit 6 (va_rf (some bx) :: [.int ((xs (8 * k + 1))), .int ((xs (8 * k + 2)))]) (xk_P (lx_A n0 w) w C) 0 0 (xk_P (lx_A n0 w) w C') (.returned (some (.int r))) := (tX0_habit w (lx_A n0 w) (gx_l X) bx C ((xs (8 * k + 1))) ((xs (8 * k + 2))) (r := (C', r)) hfx)
  refine lx_cN (As := [.int ((xs (8 * k + 1))), .int ((xs (8 * k + 2)))]) (rest := []) (C := C) (C' := C') (σ := σ) (r := r) K hM (lw_V q618 q619 q620 q86 q621) ⟨rfl, dsX0_habit⟩ (Nat.le_trans (by decide) hn) (Nat.le_of_ble_eq_true rfl) hkx hn0 ⟨lx_nb hn1, lx_s7 hss hk⟩ rfl (gx_w8 gx_k0 (Nat.le_of_ble_eq_true rfl)) dL_law_287 rfl ?_
  refine gx_aload_n hX dL_law_290 rfl ?_
  refine lx_arg (j := 1) hX hx hb rfl ⟨by omega, by omega⟩ (by decide) ⟨dL_law_291, dL_law_292, dL_law_293, dL_law_294, dL_law_295⟩ ?_
  refine lx_arg (j := 2) hX hx hb rfl ⟨by omega, by omega⟩ (by decide) ⟨dL_law_296, dL_law_297, dL_law_298, dL_law_299, dL_law_300⟩ ?_
  have hM2 : gx_T (gw_I w (gm_A w)) (gm_A w) (gx_l X) yX3_habit iX3_habit 3 (va_rf (some (gw_mo w)) :: [.int ((xs (8 * k + 1))), .int ((xs (8 * k + 2)))]) (gm_P w σ) 0 0 (gm_P w σ') (.returned (some (.int r))) := (tX3_habit w (gm_A w) (fun _ h => h) (gx_l X) σ ((xs (8 * k + 1))) ((xs (8 * k + 2))) (r := (σ', r)) hfm)
  refine lx_cM (As := [.int ((xs (8 * k + 1))), .int ((xs (8 * k + 2)))]) (rest := [.int r]) (C := C') (σ := σ) (σ' := σ') (r := r) K hM2 (lw_V q1482 q1483 q1484 q92 q1485) ⟨rfl, dsX3_habit⟩ (Nat.le_trans (by decide) hn) (Nat.le_of_ble_eq_true rfl) hn2 ⟨lx_nb hn3, lx_s7 hss hk⟩ rfl (gx_w8 (gx_kI gx_k0) (Nat.le_of_ble_eq_true rfl)) dL_law_301 rfl ?_
  refine gx_icmp_eq (tgt := 1257) hX dL_law_304 (by decide) (a := some ()) (b := none) (r := ()) (if_pos rfl) (fun _ => ?_) (fun h => by cases h)
  exact kont C' σ' ss hR' (lx_ss hss)
set_option maxHeartbeats 4000000 in
theorem lx_c3 {w : gw_W} {X : gx_X} {n n0 : Nat} {P' : Heap → Prop} {oc : Outcome} (K : lx_K w X iL_law n n0 P' oc) (hn : 200 ≤ n) {b L bx k N ss : Nat} {xs : Nat → Int32} {C : xk_C} {σ : gm_S} {Rel : Nat → xk_C → gm_S → Prop} (hx : va_X b L xs (gx_s X) (gx_s X).heap) (hb : b < (gx_s X).heap.size ∧ ¬ gx_A X b) (hLk : 8 * k + 8 ≤ L ∧ L ≤ 512) (hS : lx_S3 N bx Rel) (hB : ∀ k C σ, Rel k C σ → xk_k C bx = 1 ∧ n0 ≤ xk_n C ∧ xk_n C ≤ n0 + 601024) (hk : k < 64) (hR : Rel k C σ) (hss : ss ≤ k * 100000 + 100000) (kont : ∀ C' σ' ss', Rel (k + 1) C' σ' → ss' ≤ (k + 1) * 100000 + 100000 → gx_G X (lx_P n0 w C' σ') (xk_n C' - n0) ss' [some (va_rf (some b)), some (va_rf (some bx)), some (va_rf (some (gw_mo w))), some (.int (nI (8 * k)))] 1257 []) : gx_G X (lx_P n0 w C σ) (xk_n C - n0) ss [some (va_rf (some b)), some (va_rf (some bx)), some (va_rf (some (gw_mo w))), some (.int (nI (8 * k)))] 309 [] := by
  have hX := K.1
  obtain ⟨C', σ', r, hfx, hfm, hR'⟩ := hS k C σ hk hR (xs (8 * k + 1)) (xs (8 * k + 2))
  obtain ⟨hkx, hn0, hn1⟩ := hB k _ _ hR
  obtain ⟨-, hn2, hn3⟩ := hB (k + 1) _ _ hR'
  refine gx_aload_n hX dL_law_309 rfl ?_
  refine lx_arg (j := 1) hX hx hb rfl ⟨by omega, by omega⟩ (by decide) ⟨dL_law_310, dL_law_311, dL_law_312, dL_law_313, dL_law_314⟩ ?_
  refine lx_arg (j := 2) hX hx hb rfl ⟨by omega, by omega⟩ (by decide) ⟨dL_law_315, dL_law_316, dL_law_317, dL_law_318, dL_law_319⟩ ?_
  have hM : gx_T (gw_I w (lx_A n0 w)) (lx_A n0 w) (gx_l X) yX0_walk iX0_walk 6 (va_rf (some bx) :: [.int ((xs (8 * k + 1))), .int ((xs (8 * k + 2)))]) (xk_P (lx_A n0 w) w C) 0 0 (xk_P (lx_A n0 w) w C') (.returned (some (.int r))) := (tX0_walk w (lx_A n0 w) (gx_l X) bx C ((xs (8 * k + 1))) ((xs (8 * k + 2))) (r := (C', r)) hfx)
  refine lx_cN (As := [.int ((xs (8 * k + 1))), .int ((xs (8 * k + 2)))]) (rest := []) (C := C) (C' := C') (σ := σ) (r := r) K hM (lw_V q631 q632 q633 q86 q634) ⟨rfl, dsX0_walk⟩ (Nat.le_trans (by decide) hn) (Nat.le_of_ble_eq_true rfl) hkx hn0 ⟨lx_nb hn1, lx_s7 hss hk⟩ rfl (gx_w8 gx_k0 (Nat.le_of_ble_eq_true rfl)) dL_law_320 rfl ?_
  refine gx_aload_n hX dL_law_323 rfl ?_
  refine lx_arg (j := 1) hX hx hb rfl ⟨by omega, by omega⟩ (by decide) ⟨dL_law_324, dL_law_325, dL_law_326, dL_law_327, dL_law_328⟩ ?_
  refine lx_arg (j := 2) hX hx hb rfl ⟨by omega, by omega⟩ (by decide) ⟨dL_law_329, dL_law_330, dL_law_331, dL_law_332, dL_law_333⟩ ?_
  have hM2 : gx_T (gw_I w (gm_A w)) (gm_A w) (gx_l X) yX3_walk iX3_walk 3 (va_rf (some (gw_mo w)) :: [.int ((xs (8 * k + 1))), .int ((xs (8 * k + 2)))]) (gm_P w σ) 0 0 (gm_P w σ') (.returned (some (.int r))) := (tX3_walk w (gm_A w) (fun _ h => h) (gx_l X) σ ((xs (8 * k + 1))) ((xs (8 * k + 2))) (r := (σ', r)) hfm)
  refine lx_cM (As := [.int ((xs (8 * k + 1))), .int ((xs (8 * k + 2)))]) (rest := [.int r]) (C := C') (σ := σ) (σ' := σ') (r := r) K hM2 (lw_V q1494 q1495 q1496 q92 q1497) ⟨rfl, dsX3_walk⟩ (Nat.le_trans (by decide) hn) (Nat.le_of_ble_eq_true rfl) hn2 ⟨lx_nb hn3, lx_s7 hss hk⟩ rfl (gx_w8 (gx_kI gx_k0) (Nat.le_of_ble_eq_true rfl)) dL_law_334 rfl ?_
  refine gx_icmp_eq (tgt := 1257) hX dL_law_337 (by decide) (a := some ()) (b := none) (r := ()) (if_pos rfl) (fun _ => ?_) (fun h => by cases h)
  exact kont C' σ' ss hR' (lx_ss hss)
set_option maxHeartbeats 4000000 in
theorem lx_c4 {w : gw_W} {X : gx_X} {n n0 : Nat} {P' : Heap → Prop} {oc : Outcome} (K : lx_K w X iL_law n n0 P' oc) (hn : 200 ≤ n) {b L bx k N ss : Nat} {xs : Nat → Int32} {C : xk_C} {σ : gm_S} {Rel : Nat → xk_C → gm_S → Prop} (hx : va_X b L xs (gx_s X) (gx_s X).heap) (hb : b < (gx_s X).heap.size ∧ ¬ gx_A X b) (hLk : 8 * k + 8 ≤ L ∧ L ≤ 512) (hS : lx_S4 N bx Rel) (hB : ∀ k C σ, Rel k C σ → xk_k C bx = 1 ∧ n0 ≤ xk_n C ∧ xk_n C ≤ n0 + 601024) (hk : k < 64) (hR : Rel k C σ) (hss : ss ≤ k * 100000 + 100000) (kont : ∀ C' σ' ss', Rel (k + 1) C' σ' → ss' ≤ (k + 1) * 100000 + 100000 → gx_G X (lx_P n0 w C' σ') (xk_n C' - n0) ss' [some (va_rf (some b)), some (va_rf (some bx)), some (va_rf (some (gw_mo w))), some (.int (nI (8 * k)))] 1257 []) : gx_G X (lx_P n0 w C σ) (xk_n C - n0) ss [some (va_rf (some b)), some (va_rf (some bx)), some (va_rf (some (gw_mo w))), some (.int (nI (8 * k)))] 342 [] := by
  have hX := K.1
  obtain ⟨r, hfx, hfm, hR'⟩ := hS k C σ hk hR (xs (8 * k + 1)) (xs (8 * k + 2))
  obtain ⟨hkx, hn0, hn1⟩ := hB k _ _ hR
  obtain ⟨-, hn2, hn3⟩ := hB (k + 1) _ _ hR'
  refine gx_aload_n hX dL_law_342 rfl ?_
  refine lx_arg (j := 1) hX hx hb rfl ⟨by omega, by omega⟩ (by decide) ⟨dL_law_343, dL_law_344, dL_law_345, dL_law_346, dL_law_347⟩ ?_
  refine lx_arg (j := 2) hX hx hb rfl ⟨by omega, by omega⟩ (by decide) ⟨dL_law_348, dL_law_349, dL_law_350, dL_law_351, dL_law_352⟩ ?_
  have hM : gx_T (gw_I w (lx_A n0 w)) (lx_A n0 w) (gx_l X) yX0_of iX0_of 6 (va_rf (some bx) :: [.int ((xs (8 * k + 1))), .int ((xs (8 * k + 2)))]) (xk_P (lx_A n0 w) w C) 0 0 (xk_P (lx_A n0 w) w C) (.returned (some (.int r))) := (tX0_of w (lx_A n0 w) (gx_l X) bx C ((xs (8 * k + 1))) ((xs (8 * k + 2))) (r := r) hfx)
  refine lx_cN (As := [.int ((xs (8 * k + 1))), .int ((xs (8 * k + 2)))]) (rest := []) (C := C) (C' := C) (σ := σ) (r := r) K hM (lw_V q635 q636 q637 q86 q638) ⟨rfl, dsX0_of⟩ (Nat.le_trans (by decide) hn) (Nat.le_of_ble_eq_true rfl) hkx hn0 ⟨lx_nb hn1, lx_s7 hss hk⟩ rfl (gx_w8 gx_k0 (Nat.le_of_ble_eq_true rfl)) dL_law_353 rfl ?_
  refine gx_aload_n hX dL_law_356 rfl ?_
  refine lx_arg (j := 1) hX hx hb rfl ⟨by omega, by omega⟩ (by decide) ⟨dL_law_357, dL_law_358, dL_law_359, dL_law_360, dL_law_361⟩ ?_
  refine lx_arg (j := 2) hX hx hb rfl ⟨by omega, by omega⟩ (by decide) ⟨dL_law_362, dL_law_363, dL_law_364, dL_law_365, dL_law_366⟩ ?_
  have hM2 : gx_T (gw_I w (gm_A w)) (gm_A w) (gx_l X) yX3_of iX3_of 3 (va_rf (some (gw_mo w)) :: [.int ((xs (8 * k + 1))), .int ((xs (8 * k + 2)))]) (gm_P w σ) 0 0 (gm_P w σ) (.returned (some (.int r))) := (tX3_of w (gm_A w) (fun _ h => h) (gx_l X) σ ((xs (8 * k + 1))) ((xs (8 * k + 2))) (r := r) hfm)
  refine lx_cM (As := [.int ((xs (8 * k + 1))), .int ((xs (8 * k + 2)))]) (rest := [.int r]) (C := C) (σ := σ) (σ' := σ) (r := r) K hM2 (lw_V q1498 q1499 q1500 q92 q1501) ⟨rfl, dsX3_of⟩ (Nat.le_trans (by decide) hn) (Nat.le_of_ble_eq_true rfl) hn2 ⟨lx_nb hn3, lx_s7 hss hk⟩ rfl (gx_w8 (gx_kI gx_k0) (Nat.le_of_ble_eq_true rfl)) dL_law_367 rfl ?_
  refine gx_icmp_eq (tgt := 1257) hX dL_law_370 (by decide) (a := some ()) (b := none) (r := ()) (if_pos rfl) (fun _ => ?_) (fun h => by cases h)
  exact kont C σ ss hR' (lx_ss hss)
set_option maxHeartbeats 4000000 in
theorem lx_c5 {w : gw_W} {X : gx_X} {n n0 : Nat} {P' : Heap → Prop} {oc : Outcome} (K : lx_K w X iL_law n n0 P' oc) (hn : 200 ≤ n) {b L bx k N ss : Nat} {xs : Nat → Int32} {C : xk_C} {σ : gm_S} {Rel : Nat → xk_C → gm_S → Prop} (hx : va_X b L xs (gx_s X) (gx_s X).heap) (hb : b < (gx_s X).heap.size ∧ ¬ gx_A X b) (hLk : 8 * k + 8 ≤ L ∧ L ≤ 512) (hS : lx_S5 N bx Rel) (hB : ∀ k C σ, Rel k C σ → xk_k C bx = 1 ∧ n0 ≤ xk_n C ∧ xk_n C ≤ n0 + 601024) (hk : k < 64) (hR : Rel k C σ) (hss : ss ≤ k * 100000 + 100000) (kont : ∀ C' σ' ss', Rel (k + 1) C' σ' → ss' ≤ (k + 1) * 100000 + 100000 → gx_G X (lx_P n0 w C' σ') (xk_n C' - n0) ss' [some (va_rf (some b)), some (va_rf (some bx)), some (va_rf (some (gw_mo w))), some (.int (nI (8 * k)))] 1257 []) : gx_G X (lx_P n0 w C σ) (xk_n C - n0) ss [some (va_rf (some b)), some (va_rf (some bx)), some (va_rf (some (gw_mo w))), some (.int (nI (8 * k)))] 375 [] := by
  have hX := K.1
  obtain ⟨r, hfx, hfm, hR'⟩ := hS k C σ hk hR (xs (8 * k + 1)) (xs (8 * k + 2))
  obtain ⟨hkx, hn0, hn1⟩ := hB k _ _ hR
  obtain ⟨-, hn2, hn3⟩ := hB (k + 1) _ _ hR'
  refine gx_aload_n hX dL_law_375 rfl ?_
  refine lx_arg (j := 1) hX hx hb rfl ⟨by omega, by omega⟩ (by decide) ⟨dL_law_376, dL_law_377, dL_law_378, dL_law_379, dL_law_380⟩ ?_
  refine lx_arg (j := 2) hX hx hb rfl ⟨by omega, by omega⟩ (by decide) ⟨dL_law_381, dL_law_382, dL_law_383, dL_law_384, dL_law_385⟩ ?_
  have hM : gx_T (gw_I w (lx_A n0 w)) (lx_A n0 w) (gx_l X) yX0_about iX0_about 7 (va_rf (some bx) :: [.int ((xs (8 * k + 1))), .int ((xs (8 * k + 2)))]) (xk_P (lx_A n0 w) w C) 0 0 (xk_P (lx_A n0 w) w C) (.returned (some (.int r))) := (tX0_about w (lx_A n0 w) (gx_l X) N bx C ((xs (8 * k + 1))) ((xs (8 * k + 2))) (r := r) hfx)
  refine lx_cN (As := [.int ((xs (8 * k + 1))), .int ((xs (8 * k + 2)))]) (rest := []) (C := C) (C' := C) (σ := σ) (r := r) K hM (lw_V q639 q640 q641 q86 q642) ⟨rfl, dsX0_about⟩ (Nat.le_trans (by decide) hn) (Nat.le_of_ble_eq_true rfl) hkx hn0 ⟨lx_nb hn1, lx_s7 hss hk⟩ rfl (gx_w8 gx_k0 (Nat.le_of_ble_eq_true rfl)) dL_law_386 rfl ?_
  refine gx_aload_n hX dL_law_389 rfl ?_
  refine lx_arg (j := 1) hX hx hb rfl ⟨by omega, by omega⟩ (by decide) ⟨dL_law_390, dL_law_391, dL_law_392, dL_law_393, dL_law_394⟩ ?_
  refine lx_arg (j := 2) hX hx hb rfl ⟨by omega, by omega⟩ (by decide) ⟨dL_law_395, dL_law_396, dL_law_397, dL_law_398, dL_law_399⟩ ?_
  have hM2 : gx_T (gw_I w (gm_A w)) (gm_A w) (gx_l X) yX3_about iX3_about 4 (va_rf (some (gw_mo w)) :: [.int ((xs (8 * k + 1))), .int ((xs (8 * k + 2)))]) (gm_P w σ) 0 0 (gm_P w σ) (.returned (some (.int r))) := (tX3_about w (gm_A w) (fun _ h => h) (gx_l X) N σ ((xs (8 * k + 1))) ((xs (8 * k + 2))) (r := r) hfm)
  refine lx_cM (As := [.int ((xs (8 * k + 1))), .int ((xs (8 * k + 2)))]) (rest := [.int r]) (C := C) (σ := σ) (σ' := σ) (r := r) K hM2 (lw_V q1502 q1503 q1504 q92 q1505) ⟨rfl, dsX3_about⟩ (Nat.le_trans (by decide) hn) (Nat.le_of_ble_eq_true rfl) hn2 ⟨lx_nb hn3, lx_s7 hss hk⟩ rfl (gx_w8 (gx_kI gx_k0) (Nat.le_of_ble_eq_true rfl)) dL_law_400 rfl ?_
  refine gx_icmp_eq (tgt := 1257) hX dL_law_403 (by decide) (a := some ()) (b := none) (r := ()) (if_pos rfl) (fun _ => ?_) (fun h => by cases h)
  exact kont C σ ss hR' (lx_ss hss)
set_option maxHeartbeats 4000000 in
theorem lx_c6 {w : gw_W} {X : gx_X} {n n0 : Nat} {P' : Heap → Prop} {oc : Outcome} (K : lx_K w X iL_law n n0 P' oc) (hn : 200 ≤ n) {b L bx k N ss : Nat} {xs : Nat → Int32} {C : xk_C} {σ : gm_S} {Rel : Nat → xk_C → gm_S → Prop} (hx : va_X b L xs (gx_s X) (gx_s X).heap) (hb : b < (gx_s X).heap.size ∧ ¬ gx_A X b) (hLk : 8 * k + 8 ≤ L ∧ L ≤ 512) (hS : lx_S6 N bx Rel) (hB : ∀ k C σ, Rel k C σ → xk_k C bx = 1 ∧ n0 ≤ xk_n C ∧ xk_n C ≤ n0 + 601024) (hk : k < 64) (hR : Rel k C σ) (hss : ss ≤ k * 100000 + 100000) (kont : ∀ C' σ' ss', Rel (k + 1) C' σ' → ss' ≤ (k + 1) * 100000 + 100000 → gx_G X (lx_P n0 w C' σ') (xk_n C' - n0) ss' [some (va_rf (some b)), some (va_rf (some bx)), some (va_rf (some (gw_mo w))), some (.int (nI (8 * k)))] 1257 []) : gx_G X (lx_P n0 w C σ) (xk_n C - n0) ss [some (va_rf (some b)), some (va_rf (some bx)), some (va_rf (some (gw_mo w))), some (.int (nI (8 * k)))] 408 [] := by
  have hX := K.1
  obtain ⟨r, hfx, hfm, hR'⟩ := hS k C σ hk hR (xs (8 * k + 1)) (xs (8 * k + 2))
  obtain ⟨hkx, hn0, hn1⟩ := hB k _ _ hR
  obtain ⟨-, hn2, hn3⟩ := hB (k + 1) _ _ hR'
  refine gx_aload_n hX dL_law_408 rfl ?_
  refine lx_arg (j := 1) hX hx hb rfl ⟨by omega, by omega⟩ (by decide) ⟨dL_law_409, dL_law_410, dL_law_411, dL_law_412, dL_law_413⟩ ?_
  refine lx_arg (j := 2) hX hx hb rfl ⟨by omega, by omega⟩ (by decide) ⟨dL_law_414, dL_law_415, dL_law_416, dL_law_417, dL_law_418⟩ ?_
  have hM : gx_T (gw_I w (lx_A n0 w)) (lx_A n0 w) (gx_l X) yX0_fit iX0_fit 6 (va_rf (some bx) :: [.int ((xs (8 * k + 1))), .int ((xs (8 * k + 2)))]) (xk_P (lx_A n0 w) w C) 0 0 (xk_P (lx_A n0 w) w C) (.returned (some (.int r))) := (tX0_fit w (lx_A n0 w) (gx_l X) bx C ((xs (8 * k + 1))) ((xs (8 * k + 2))) (r := r) hfx)
  refine lx_cN (As := [.int ((xs (8 * k + 1))), .int ((xs (8 * k + 2)))]) (rest := []) (C := C) (C' := C) (σ := σ) (r := r) K hM (lw_V q694 q695 q696 q86 q697) ⟨rfl, dsX0_fit⟩ (Nat.le_trans (by decide) hn) (Nat.le_of_ble_eq_true rfl) hkx hn0 ⟨lx_nb hn1, lx_s7 hss hk⟩ rfl (gx_w8 gx_k0 (Nat.le_of_ble_eq_true rfl)) dL_law_419 rfl ?_
  refine gx_aload_n hX dL_law_422 rfl ?_
  refine lx_arg (j := 1) hX hx hb rfl ⟨by omega, by omega⟩ (by decide) ⟨dL_law_423, dL_law_424, dL_law_425, dL_law_426, dL_law_427⟩ ?_
  refine lx_arg (j := 2) hX hx hb rfl ⟨by omega, by omega⟩ (by decide) ⟨dL_law_428, dL_law_429, dL_law_430, dL_law_431, dL_law_432⟩ ?_
  have hM2 : gx_T (gw_I w (gm_A w)) (gm_A w) (gx_l X) yX3_fit iX3_fit 3 (va_rf (some (gw_mo w)) :: [.int ((xs (8 * k + 1))), .int ((xs (8 * k + 2)))]) (gm_P w σ) 0 0 (gm_P w σ) (.returned (some (.int r))) := (tX3_fit w (gm_A w) (fun _ h => h) (gx_l X) σ ((xs (8 * k + 1))) ((xs (8 * k + 2))) (r := r) hfm)
  refine lx_cM (As := [.int ((xs (8 * k + 1))), .int ((xs (8 * k + 2)))]) (rest := [.int r]) (C := C) (σ := σ) (σ' := σ) (r := r) K hM2 (lw_V q1533 q1534 q1535 q92 q1536) ⟨rfl, dsX3_fit⟩ (Nat.le_trans (by decide) hn) (Nat.le_of_ble_eq_true rfl) hn2 ⟨lx_nb hn3, lx_s7 hss hk⟩ rfl (gx_w8 (gx_kI gx_k0) (Nat.le_of_ble_eq_true rfl)) dL_law_433 rfl ?_
  refine gx_icmp_eq (tgt := 1257) hX dL_law_436 (by decide) (a := some ()) (b := none) (r := ()) (if_pos rfl) (fun _ => ?_) (fun h => by cases h)
  exact kont C σ ss hR' (lx_ss hss)
set_option maxHeartbeats 4000000 in
theorem lx_c7 {w : gw_W} {X : gx_X} {n n0 : Nat} {P' : Heap → Prop} {oc : Outcome} (K : lx_K w X iL_law n n0 P' oc) (hn : 200 ≤ n) {b L bx k N ss : Nat} {xs : Nat → Int32} {C : xk_C} {σ : gm_S} {Rel : Nat → xk_C → gm_S → Prop} (hx : va_X b L xs (gx_s X) (gx_s X).heap) (hb : b < (gx_s X).heap.size ∧ ¬ gx_A X b) (hLk : 8 * k + 8 ≤ L ∧ L ≤ 512) (hS : lx_S7 N bx Rel) (hB : ∀ k C σ, Rel k C σ → xk_k C bx = 1 ∧ n0 ≤ xk_n C ∧ xk_n C ≤ n0 + 601024) (hk : k < 64) (hR : Rel k C σ) (hss : ss ≤ k * 100000 + 100000) (kont : ∀ C' σ' ss', Rel (k + 1) C' σ' → ss' ≤ (k + 1) * 100000 + 100000 → gx_G X (lx_P n0 w C' σ') (xk_n C' - n0) ss' [some (va_rf (some b)), some (va_rf (some bx)), some (va_rf (some (gw_mo w))), some (.int (nI (8 * k)))] 1257 []) : gx_G X (lx_P n0 w C σ) (xk_n C - n0) ss [some (va_rf (some b)), some (va_rf (some bx)), some (va_rf (some (gw_mo w))), some (.int (nI (8 * k)))] 441 [] := by
  have hX := K.1
  obtain ⟨C', σ', r, hfx, hfm, hR'⟩ := hS k C σ hk hR (xs (8 * k + 1)) (xs (8 * k + 2))
  obtain ⟨hkx, hn0, hn1⟩ := hB k _ _ hR
  obtain ⟨-, hn2, hn3⟩ := hB (k + 1) _ _ hR'
  refine gx_aload_n hX dL_law_441 rfl ?_
  refine lx_arg (j := 1) hX hx hb rfl ⟨by omega, by omega⟩ (by decide) ⟨dL_law_442, dL_law_443, dL_law_444, dL_law_445, dL_law_446⟩ ?_
  refine lx_arg (j := 2) hX hx hb rfl ⟨by omega, by omega⟩ (by decide) ⟨dL_law_447, dL_law_448, dL_law_449, dL_law_450, dL_law_451⟩ ?_
  have hM : gx_T (gw_I w (lx_A n0 w)) (lx_A n0 w) (gx_l X) yX0_end iX0_end 6 (va_rf (some bx) :: [.int ((xs (8 * k + 1))), .int ((xs (8 * k + 2)))]) (xk_P (lx_A n0 w) w C) 0 0 (xk_P (lx_A n0 w) w C') (.returned (some (.int r))) := (tX0_end w (lx_A n0 w) (gx_l X) bx C ((xs (8 * k + 1))) ((xs (8 * k + 2))) (r := (C', r)) hfx)
  refine lx_cN (As := [.int ((xs (8 * k + 1))), .int ((xs (8 * k + 2)))]) (rest := []) (C := C) (C' := C') (σ := σ) (r := r) K hM (lw_V q699 q700 q701 q86 q702) ⟨rfl, dsX0_end⟩ (Nat.le_trans (by decide) hn) (Nat.le_of_ble_eq_true rfl) hkx hn0 ⟨lx_nb hn1, lx_s7 hss hk⟩ rfl (gx_w8 gx_k0 (Nat.le_of_ble_eq_true rfl)) dL_law_452 rfl ?_
  refine gx_aload_n hX dL_law_455 rfl ?_
  refine lx_arg (j := 1) hX hx hb rfl ⟨by omega, by omega⟩ (by decide) ⟨dL_law_456, dL_law_457, dL_law_458, dL_law_459, dL_law_460⟩ ?_
  refine lx_arg (j := 2) hX hx hb rfl ⟨by omega, by omega⟩ (by decide) ⟨dL_law_461, dL_law_462, dL_law_463, dL_law_464, dL_law_465⟩ ?_
  have hM2 : gx_T (gw_I w (gm_A w)) (gm_A w) (gx_l X) yX3_end iX3_end 3 (va_rf (some (gw_mo w)) :: [.int ((xs (8 * k + 1))), .int ((xs (8 * k + 2)))]) (gm_P w σ) 0 0 (gm_P w σ') (.returned (some (.int r))) := (tX3_end w (gm_A w) (fun _ h => h) (gx_l X) σ ((xs (8 * k + 1))) ((xs (8 * k + 2))) (r := (σ', r)) hfm)
  refine lx_cM (As := [.int ((xs (8 * k + 1))), .int ((xs (8 * k + 2)))]) (rest := [.int r]) (C := C') (σ := σ) (σ' := σ') (r := r) K hM2 (lw_V q1537 q1538 q1539 q92 q1540) ⟨rfl, dsX3_end⟩ (Nat.le_trans (by decide) hn) (Nat.le_of_ble_eq_true rfl) hn2 ⟨lx_nb hn3, lx_s7 hss hk⟩ rfl (gx_w8 (gx_kI gx_k0) (Nat.le_of_ble_eq_true rfl)) dL_law_466 rfl ?_
  refine gx_icmp_eq (tgt := 1257) hX dL_law_469 (by decide) (a := some ()) (b := none) (r := ()) (if_pos rfl) (fun _ => ?_) (fun h => by cases h)
  exact kont C' σ' ss hR' (lx_ss hss)
set_option maxHeartbeats 4000000 in
theorem lx_c8 {w : gw_W} {X : gx_X} {n n0 : Nat} {P' : Heap → Prop} {oc : Outcome} (K : lx_K w X iL_law n n0 P' oc) (hn : 200 ≤ n) {b L bx k N ss : Nat} {xs : Nat → Int32} {C : xk_C} {σ : gm_S} {Rel : Nat → xk_C → gm_S → Prop} (hx : va_X b L xs (gx_s X) (gx_s X).heap) (hb : b < (gx_s X).heap.size ∧ ¬ gx_A X b) (hLk : 8 * k + 8 ≤ L ∧ L ≤ 512) (hS : lx_S8 N bx Rel) (hB : ∀ k C σ, Rel k C σ → xk_k C bx = 1 ∧ n0 ≤ xk_n C ∧ xk_n C ≤ n0 + 601024) (hk : k < 64) (hR : Rel k C σ) (hss : ss ≤ k * 100000 + 100000) (kont : ∀ C' σ' ss', Rel (k + 1) C' σ' → ss' ≤ (k + 1) * 100000 + 100000 → gx_G X (lx_P n0 w C' σ') (xk_n C' - n0) ss' [some (va_rf (some b)), some (va_rf (some bx)), some (va_rf (some (gw_mo w))), some (.int (nI (8 * k)))] 1257 []) : gx_G X (lx_P n0 w C σ) (xk_n C - n0) ss [some (va_rf (some b)), some (va_rf (some bx)), some (va_rf (some (gw_mo w))), some (.int (nI (8 * k)))] 474 [] := by
  have hX := K.1
  obtain ⟨C', σ', r, hfx, hfm, hR'⟩ := hS k C σ hk hR (xs (8 * k + 1))
  obtain ⟨hkx, hn0, hn1⟩ := hB k _ _ hR
  obtain ⟨-, hn2, hn3⟩ := hB (k + 1) _ _ hR'
  refine gx_aload_n hX dL_law_474 rfl ?_
  refine lx_arg (j := 1) hX hx hb rfl ⟨by omega, by omega⟩ (by decide) ⟨dL_law_475, dL_law_476, dL_law_477, dL_law_478, dL_law_479⟩ ?_
  have hM : gx_T (gw_I w (lx_A n0 w)) (lx_A n0 w) (gx_l X) yX0_eat iX0_eat 5 (va_rf (some bx) :: [.int ((xs (8 * k + 1)))]) (xk_P (lx_A n0 w) w C) 0 0 (xk_P (lx_A n0 w) w C') (.returned (some (.int r))) := (tX0_eat w (lx_A n0 w) (gx_l X) N bx C ((xs (8 * k + 1))) (r := (C', r)) hfx)
  refine lx_cN (As := [.int ((xs (8 * k + 1)))]) (rest := []) (C := C) (C' := C') (σ := σ) (r := r) K hM (lw_V q708 q709 q710 q86 q711) ⟨rfl, dsX0_eat⟩ (Nat.le_trans (by decide) hn) (Nat.le_of_ble_eq_true rfl) hkx hn0 ⟨lx_nb hn1, lx_s7 hss hk⟩ rfl (gx_w8 gx_k0 (Nat.le_of_ble_eq_true rfl)) dL_law_480 rfl ?_
  refine gx_aload_n hX dL_law_483 rfl ?_
  refine lx_arg (j := 1) hX hx hb rfl ⟨by omega, by omega⟩ (by decide) ⟨dL_law_484, dL_law_485, dL_law_486, dL_law_487, dL_law_488⟩ ?_
  have hM2 : gx_T (gw_I w (gm_A w)) (gm_A w) (gx_l X) yX3_eat iX3_eat 3 (va_rf (some (gw_mo w)) :: [.int ((xs (8 * k + 1)))]) (gm_P w σ) 0 0 (gm_P w σ') (.returned (some (.int r))) := (tX3_eat w (gm_A w) (fun _ h => h) (gx_l X) N σ ((xs (8 * k + 1))) (r := (σ', r)) hfm)
  refine lx_cM (As := [.int ((xs (8 * k + 1)))]) (rest := [.int r]) (C := C') (σ := σ) (σ' := σ') (r := r) K hM2 (lw_V q1541 q1542 q1543 q92 q1544) ⟨rfl, dsX3_eat⟩ (Nat.le_trans (by decide) hn) (Nat.le_of_ble_eq_true rfl) hn2 ⟨lx_nb hn3, lx_s7 hss hk⟩ rfl (gx_w8 (gx_kI gx_k0) (Nat.le_of_ble_eq_true rfl)) dL_law_489 rfl ?_
  refine gx_icmp_eq (tgt := 1257) hX dL_law_492 (by decide) (a := some ()) (b := none) (r := ()) (if_pos rfl) (fun _ => ?_) (fun h => by cases h)
  exact kont C' σ' ss hR' (lx_ss hss)
set_option maxHeartbeats 4000000 in
theorem lx_c9 {w : gw_W} {X : gx_X} {n n0 : Nat} {P' : Heap → Prop} {oc : Outcome} (K : lx_K w X iL_law n n0 P' oc) (hn : 200 ≤ n) {b L bx k N ss : Nat} {xs : Nat → Int32} {C : xk_C} {σ : gm_S} {Rel : Nat → xk_C → gm_S → Prop} (hx : va_X b L xs (gx_s X) (gx_s X).heap) (hb : b < (gx_s X).heap.size ∧ ¬ gx_A X b) (hLk : 8 * k + 8 ≤ L ∧ L ≤ 512) (hS : lx_S9 N bx Rel) (hB : ∀ k C σ, Rel k C σ → xk_k C bx = 1 ∧ n0 ≤ xk_n C ∧ xk_n C ≤ n0 + 601024) (hk : k < 64) (hR : Rel k C σ) (hss : ss ≤ k * 100000 + 100000) (kont : ∀ C' σ' ss', Rel (k + 1) C' σ' → ss' ≤ (k + 1) * 100000 + 100000 → gx_G X (lx_P n0 w C' σ') (xk_n C' - n0) ss' [some (va_rf (some b)), some (va_rf (some bx)), some (va_rf (some (gw_mo w))), some (.int (nI (8 * k)))] 1257 []) : gx_G X (lx_P n0 w C σ) (xk_n C - n0) ss [some (va_rf (some b)), some (va_rf (some bx)), some (va_rf (some (gw_mo w))), some (.int (nI (8 * k)))] 497 [] := by
  have hX := K.1
  obtain ⟨C', σ', r, hfx, hfm, hR'⟩ := hS k C σ hk hR (xs (8 * k + 1)) (xs (8 * k + 2)) (xs (8 * k + 3))
  obtain ⟨hkx, hn0, hn1⟩ := hB k _ _ hR
  obtain ⟨-, hn2, hn3⟩ := hB (k + 1) _ _ hR'
  refine gx_aload_n hX dL_law_497 rfl ?_
  refine lx_arg (j := 1) hX hx hb rfl ⟨by omega, by omega⟩ (by decide) ⟨dL_law_498, dL_law_499, dL_law_500, dL_law_501, dL_law_502⟩ ?_
  refine gx_i2l hX dL_law_503 ?_
  refine gx_bipush (v := nI 32) hX dL_law_504 (by decide) ?_
  refine gx_lshl hX dL_law_506 ?_
  refine lx_arg (j := 2) hX hx hb rfl ⟨by omega, by omega⟩ (by decide) ⟨dL_law_507, dL_law_508, dL_law_509, dL_law_510, dL_law_511⟩ ?_
  refine gx_i2l hX dL_law_512 ?_
  refine gx_ldc2 (v := (4294967295)) hX dL_law_513 q1867 ?_
  refine gx_land hX dL_law_516 ?_
  refine gx_lor hX dL_law_517 ?_
  refine lx_arg (j := 3) hX hx hb rfl ⟨by omega, by omega⟩ (by decide) ⟨dL_law_518, dL_law_519, dL_law_520, dL_law_521, dL_law_522⟩ ?_
  have hM : gx_T (gw_I w (lx_A n0 w)) (lx_A n0 w) (gx_l X) yX0_feed iX0_feed 2 (va_rf (some bx) :: [.long ((((xs (8 * k + 1)).toInt64 <<< ((nI 32).toInt64 &&& 63)) ||| ((xs (8 * k + 2)).toInt64 &&& (4294967295)))), .int ((xs (8 * k + 3)))]) (xk_P (lx_A n0 w) w C) 0 0 (xk_P (lx_A n0 w) w C') (.returned (some (.int r))) := (tX0_feed w (lx_A n0 w) (gx_l X) N bx C ((((xs (8 * k + 1)).toInt64 <<< ((nI 32).toInt64 &&& 63)) ||| ((xs (8 * k + 2)).toInt64 &&& (4294967295)))) ((xs (8 * k + 3))) (r := (C', r)) hfx)
  refine lx_cN (As := [.long ((((xs (8 * k + 1)).toInt64 <<< ((nI 32).toInt64 &&& 63)) ||| ((xs (8 * k + 2)).toInt64 &&& (4294967295)))), .int ((xs (8 * k + 3)))]) (rest := []) (C := C) (C' := C') (σ := σ) (r := r) K hM (lw_V q716 q717 q718 q86 q719) ⟨rfl, dsX0_feed⟩ (Nat.le_trans (by decide) hn) (Nat.le_of_ble_eq_true rfl) hkx hn0 ⟨lx_nb hn1, lx_s7 hss hk⟩ rfl (gx_w8 gx_k0 (Nat.le_of_ble_eq_true rfl)) dL_law_523 rfl ?_
  refine gx_aload_n hX dL_law_526 rfl ?_
  refine lx_arg (j := 1) hX hx hb rfl ⟨by omega, by omega⟩ (by decide) ⟨dL_law_527, dL_law_528, dL_law_529, dL_law_530, dL_law_531⟩ ?_
  refine gx_i2l hX dL_law_532 ?_
  refine gx_bipush (v := nI 32) hX dL_law_533 (by decide) ?_
  refine gx_lshl hX dL_law_535 ?_
  refine lx_arg (j := 2) hX hx hb rfl ⟨by omega, by omega⟩ (by decide) ⟨dL_law_536, dL_law_537, dL_law_538, dL_law_539, dL_law_540⟩ ?_
  refine gx_i2l hX dL_law_541 ?_
  refine gx_ldc2 (v := (4294967295)) hX dL_law_542 q1867 ?_
  refine gx_land hX dL_law_545 ?_
  refine gx_lor hX dL_law_546 ?_
  refine lx_arg (j := 3) hX hx hb rfl ⟨by omega, by omega⟩ (by decide) ⟨dL_law_547, dL_law_548, dL_law_549, dL_law_550, dL_law_551⟩ ?_
  have hM2 : gx_T (gw_I w (gm_A w)) (gm_A w) (gx_l X) yX3_feed iX3_feed 2 (va_rf (some (gw_mo w)) :: [.long ((((xs (8 * k + 1)).toInt64 <<< ((nI 32).toInt64 &&& 63)) ||| ((xs (8 * k + 2)).toInt64 &&& (4294967295)))), .int ((xs (8 * k + 3)))]) (gm_P w σ) 0 0 (gm_P w σ') (.returned (some (.int r))) := (tX3_feed w (gm_A w) (fun _ h => h) (gx_l X) N σ ((((xs (8 * k + 1)).toInt64 <<< ((nI 32).toInt64 &&& 63)) ||| ((xs (8 * k + 2)).toInt64 &&& (4294967295)))) ((xs (8 * k + 3))) (r := (σ', r)) hfm)
  refine lx_cM (As := [.long ((((xs (8 * k + 1)).toInt64 <<< ((nI 32).toInt64 &&& 63)) ||| ((xs (8 * k + 2)).toInt64 &&& (4294967295)))), .int ((xs (8 * k + 3)))]) (rest := [.int r]) (C := C') (σ := σ) (σ' := σ') (r := r) K hM2 (lw_V q1549 q1550 q1551 q92 q1552) ⟨rfl, dsX3_feed⟩ (Nat.le_trans (by decide) hn) (Nat.le_of_ble_eq_true rfl) hn2 ⟨lx_nb hn3, lx_s7 hss hk⟩ rfl (gx_w8 (gx_kI gx_k0) (Nat.le_of_ble_eq_true rfl)) dL_law_552 rfl ?_
  refine gx_icmp_eq (tgt := 1257) hX dL_law_555 (by decide) (a := some ()) (b := none) (r := ()) (if_pos rfl) (fun _ => ?_) (fun h => by cases h)
  exact kont C' σ' ss hR' (lx_ss hss)
set_option maxHeartbeats 4000000 in
theorem lx_c10 {w : gw_W} {X : gx_X} {n n0 : Nat} {P' : Heap → Prop} {oc : Outcome} (K : lx_K w X iL_law n n0 P' oc) (hn : 200 ≤ n) {b L bx k N ss : Nat} {xs : Nat → Int32} {C : xk_C} {σ : gm_S} {Rel : Nat → xk_C → gm_S → Prop} (hx : va_X b L xs (gx_s X) (gx_s X).heap) (hb : b < (gx_s X).heap.size ∧ ¬ gx_A X b) (hLk : 8 * k + 8 ≤ L ∧ L ≤ 512) (hS : lx_S10 N bx Rel) (hB : ∀ k C σ, Rel k C σ → xk_k C bx = 1 ∧ n0 ≤ xk_n C ∧ xk_n C ≤ n0 + 601024) (hk : k < 64) (hR : Rel k C σ) (hss : ss ≤ k * 100000 + 100000) (kont : ∀ C' σ' ss', Rel (k + 1) C' σ' → ss' ≤ (k + 1) * 100000 + 100000 → gx_G X (lx_P n0 w C' σ') (xk_n C' - n0) ss' [some (va_rf (some b)), some (va_rf (some bx)), some (va_rf (some (gw_mo w))), some (.int (nI (8 * k)))] 1257 []) : gx_G X (lx_P n0 w C σ) (xk_n C - n0) ss [some (va_rf (some b)), some (va_rf (some bx)), some (va_rf (some (gw_mo w))), some (.int (nI (8 * k)))] 560 [] := by
  have hX := K.1
  obtain ⟨C', σ', r, hfx, hfm, hR', hs⟩ := hS k C σ hk hR 
  obtain ⟨hkx, hn0, hn1⟩ := hB k _ _ hR
  obtain ⟨-, hn2, hn3⟩ := hB (k + 1) _ _ hR'
  refine gx_aload_n hX dL_law_560 rfl ?_
  have hM : gx_TW (gw_I w (lx_A n0 w)) (lx_A n0 w) (gx_l X) yX0_text iX0_text hX0_text 42 (va_rf (some bx) :: []) (xk_P (lx_A n0 w) w C) (xk_n C' - xk_n C) (xk_s C' - xk_s C) (xk_P (lx_A n0 w) w C') (.returned (some (.int r))) := (tX0_text w (lx_A n0 w) (gx_l X) N bx C  (r := (C', r)) hfx)
  refine lx_cW (As := []) (rest := []) (C := C) (C' := C') (σ := σ) (r := r) K hM (lw_VW q720 q721 q722 q86 q723) ⟨rfl, dsX0_text⟩ (Nat.le_trans (by decide) hn) (Nat.le_of_ble_eq_true rfl) hkx hn0 ⟨⟨lx_nb hn1, lx_nb hn3⟩, lx_s8 hss hk hs⟩ rfl (gx_w8 gx_k0 (Nat.le_of_ble_eq_true rfl)) dL_law_561 rfl ?_
  refine gx_aload_n hX dL_law_564 rfl ?_
  have hM2 : gx_T (gw_I w (gm_A w)) (gm_A w) (gx_l X) yX3_text iX3_text 36 (va_rf (some (gw_mo w)) :: []) (gm_P w σ) 0 0 (gm_P w σ') (.returned (some (.int r))) := (tX3_text w (gm_A w) (fun _ h => h) (gx_l X) N σ  (r := (σ', r)) hfm)
  refine lx_cM (As := []) (rest := [.int r]) (C := C') (σ := σ) (σ' := σ') (r := r) K hM2 (lw_V q1554 q1555 q1556 q92 q1557) ⟨rfl, dsX3_text⟩ (Nat.le_trans (by decide) hn) (Nat.le_of_ble_eq_true rfl) hn2 ⟨lx_nb hn3, lx_s8 hss hk hs⟩ rfl (gx_w8 (gx_kI gx_k0) (Nat.le_of_ble_eq_true rfl)) dL_law_565 rfl ?_
  refine gx_icmp_eq (tgt := 1257) hX dL_law_568 (by decide) (a := some ()) (b := none) (r := ()) (if_pos rfl) (fun _ => ?_) (fun h => by cases h)
  exact kont C' σ' (ss + (xk_s C' - xk_s C)) hR' (lx_ss2 hss hs)
set_option maxHeartbeats 4000000 in
theorem lx_c11 {w : gw_W} {X : gx_X} {n n0 : Nat} {P' : Heap → Prop} {oc : Outcome} (K : lx_K w X iL_law n n0 P' oc) (hn : 200 ≤ n) {b L bx k N ss : Nat} {xs : Nat → Int32} {C : xk_C} {σ : gm_S} {Rel : Nat → xk_C → gm_S → Prop} (hx : va_X b L xs (gx_s X) (gx_s X).heap) (hb : b < (gx_s X).heap.size ∧ ¬ gx_A X b) (hLk : 8 * k + 8 ≤ L ∧ L ≤ 512) (hS : lx_S11 N bx Rel) (hB : ∀ k C σ, Rel k C σ → xk_k C bx = 1 ∧ n0 ≤ xk_n C ∧ xk_n C ≤ n0 + 601024) (hk : k < 64) (hR : Rel k C σ) (hss : ss ≤ k * 100000 + 100000) (kont : ∀ C' σ' ss', Rel (k + 1) C' σ' → ss' ≤ (k + 1) * 100000 + 100000 → gx_G X (lx_P n0 w C' σ') (xk_n C' - n0) ss' [some (va_rf (some b)), some (va_rf (some bx)), some (va_rf (some (gw_mo w))), some (.int (nI (8 * k)))] 1257 []) : gx_G X (lx_P n0 w C σ) (xk_n C - n0) ss [some (va_rf (some b)), some (va_rf (some bx)), some (va_rf (some (gw_mo w))), some (.int (nI (8 * k)))] 573 [] := by
  have hX := K.1
  obtain ⟨C', σ', r, hfx, hfm, hR'⟩ := hS k C σ hk hR (xs (8 * k + 1)) (xs (8 * k + 2)) (xs (8 * k + 3)) (xs (8 * k + 4)) (xs (8 * k + 5)) (xs (8 * k + 6)) (xs (8 * k + 7))
  obtain ⟨hkx, hn0, hn1⟩ := hB k _ _ hR
  obtain ⟨-, hn2, hn3⟩ := hB (k + 1) _ _ hR'
  refine gx_aload_n hX dL_law_573 rfl ?_
  refine lx_arg (j := 1) hX hx hb rfl ⟨by omega, by omega⟩ (by decide) ⟨dL_law_574, dL_law_575, dL_law_576, dL_law_577, dL_law_578⟩ ?_
  refine lx_arg (j := 2) hX hx hb rfl ⟨by omega, by omega⟩ (by decide) ⟨dL_law_579, dL_law_580, dL_law_581, dL_law_582, dL_law_583⟩ ?_
  refine lx_arg (j := 3) hX hx hb rfl ⟨by omega, by omega⟩ (by decide) ⟨dL_law_584, dL_law_585, dL_law_586, dL_law_587, dL_law_588⟩ ?_
  refine lx_arg (j := 4) hX hx hb rfl ⟨by omega, by omega⟩ (by decide) ⟨dL_law_589, dL_law_590, dL_law_591, dL_law_592, dL_law_593⟩ ?_
  refine lx_arg (j := 5) hX hx hb rfl ⟨by omega, by omega⟩ (by decide) ⟨dL_law_594, dL_law_595, dL_law_596, dL_law_597, dL_law_598⟩ ?_
  refine lx_argb (j := 6) hX hx hb rfl ⟨by omega, by omega⟩ (by decide) ⟨dL_law_599, dL_law_600, dL_law_601, dL_law_603, dL_law_604⟩ ?_
  refine lx_argb (j := 7) hX hx hb rfl ⟨by omega, by omega⟩ (by decide) ⟨dL_law_605, dL_law_606, dL_law_607, dL_law_609, dL_law_610⟩ ?_
  have hM : gx_T (gw_I w (lx_A n0 w)) (lx_A n0 w) (gx_l X) yX0_holds iX0_holds 135 (va_rf (some bx) :: [.int ((xs (8 * k + 1))), .int ((xs (8 * k + 2))), .int ((xs (8 * k + 3))), .int ((xs (8 * k + 4))), .int ((xs (8 * k + 5))), .int ((xs (8 * k + 6))), .int ((xs (8 * k + 7)))]) (xk_P (lx_A n0 w) w C) 0 0 (xk_P (lx_A n0 w) w C') (.returned (some (.int r))) := (tX0_holds w (lx_A n0 w) (gx_l X) N bx C ((xs (8 * k + 1))) ((xs (8 * k + 2))) ((xs (8 * k + 3))) ((xs (8 * k + 4))) ((xs (8 * k + 5))) ((xs (8 * k + 6))) ((xs (8 * k + 7))) (r := (C', r)) hfx)
  refine lx_cN (As := [.int ((xs (8 * k + 1))), .int ((xs (8 * k + 2))), .int ((xs (8 * k + 3))), .int ((xs (8 * k + 4))), .int ((xs (8 * k + 5))), .int ((xs (8 * k + 6))), .int ((xs (8 * k + 7)))]) (rest := []) (C := C) (C' := C') (σ := σ) (r := r) K hM (lw_V q902 q903 q904 q86 q905) ⟨rfl, dsX0_holds⟩ (Nat.le_trans (by decide) hn) (Nat.le_of_ble_eq_true rfl) hkx hn0 ⟨lx_nb hn1, lx_s7 hss hk⟩ rfl (gx_w8 gx_k0 (Nat.le_of_ble_eq_true rfl)) dL_law_611 rfl ?_
  refine gx_aload_n hX dL_law_614 rfl ?_
  refine lx_arg (j := 1) hX hx hb rfl ⟨by omega, by omega⟩ (by decide) ⟨dL_law_615, dL_law_616, dL_law_617, dL_law_618, dL_law_619⟩ ?_
  refine lx_arg (j := 2) hX hx hb rfl ⟨by omega, by omega⟩ (by decide) ⟨dL_law_620, dL_law_621, dL_law_622, dL_law_623, dL_law_624⟩ ?_
  refine lx_arg (j := 3) hX hx hb rfl ⟨by omega, by omega⟩ (by decide) ⟨dL_law_625, dL_law_626, dL_law_627, dL_law_628, dL_law_629⟩ ?_
  refine lx_arg (j := 4) hX hx hb rfl ⟨by omega, by omega⟩ (by decide) ⟨dL_law_630, dL_law_631, dL_law_632, dL_law_633, dL_law_634⟩ ?_
  refine lx_arg (j := 5) hX hx hb rfl ⟨by omega, by omega⟩ (by decide) ⟨dL_law_635, dL_law_636, dL_law_637, dL_law_638, dL_law_639⟩ ?_
  refine lx_argb (j := 6) hX hx hb rfl ⟨by omega, by omega⟩ (by decide) ⟨dL_law_640, dL_law_641, dL_law_642, dL_law_644, dL_law_645⟩ ?_
  refine lx_argb (j := 7) hX hx hb rfl ⟨by omega, by omega⟩ (by decide) ⟨dL_law_646, dL_law_647, dL_law_648, dL_law_650, dL_law_651⟩ ?_
  have hM2 : gx_T (gw_I w (gm_A w)) (gm_A w) (gx_l X) yX3_holds iX3_holds 4 (va_rf (some (gw_mo w)) :: [.int ((xs (8 * k + 1))), .int ((xs (8 * k + 2))), .int ((xs (8 * k + 3))), .int ((xs (8 * k + 4))), .int ((xs (8 * k + 5))), .int ((xs (8 * k + 6))), .int ((xs (8 * k + 7)))]) (gm_P w σ) 0 0 (gm_P w σ') (.returned (some (.int r))) := (tX3_holds w (gm_A w) (fun _ h => h) (gx_l X) N σ ((xs (8 * k + 1))) ((xs (8 * k + 2))) ((xs (8 * k + 3))) ((xs (8 * k + 4))) ((xs (8 * k + 5))) ((xs (8 * k + 6))) ((xs (8 * k + 7))) (r := (σ', r)) hfm)
  refine lx_cM (As := [.int ((xs (8 * k + 1))), .int ((xs (8 * k + 2))), .int ((xs (8 * k + 3))), .int ((xs (8 * k + 4))), .int ((xs (8 * k + 5))), .int ((xs (8 * k + 6))), .int ((xs (8 * k + 7)))]) (rest := [.int r]) (C := C') (σ := σ) (σ' := σ') (r := r) K hM2 (lw_V q1652 q1653 q1654 q92 q1655) ⟨rfl, dsX3_holds⟩ (Nat.le_trans (by decide) hn) (Nat.le_of_ble_eq_true rfl) hn2 ⟨lx_nb hn3, lx_s7 hss hk⟩ rfl (gx_w8 (gx_kI gx_k0) (Nat.le_of_ble_eq_true rfl)) dL_law_652 rfl ?_
  refine gx_icmp_eq (tgt := 1257) hX dL_law_655 (by decide) (a := some ()) (b := none) (r := ()) (if_pos rfl) (fun _ => ?_) (fun h => by cases h)
  exact kont C' σ' ss hR' (lx_ss hss)
set_option maxHeartbeats 4000000 in
theorem lx_c12 {w : gw_W} {X : gx_X} {n n0 : Nat} {P' : Heap → Prop} {oc : Outcome} (K : lx_K w X iL_law n n0 P' oc) (hn : 200 ≤ n) {b L bx k N ss : Nat} {xs : Nat → Int32} {C : xk_C} {σ : gm_S} {Rel : Nat → xk_C → gm_S → Prop} (hx : va_X b L xs (gx_s X) (gx_s X).heap) (hb : b < (gx_s X).heap.size ∧ ¬ gx_A X b) (hLk : 8 * k + 8 ≤ L ∧ L ≤ 512) (hS : lx_S12 N bx Rel) (hB : ∀ k C σ, Rel k C σ → xk_k C bx = 1 ∧ n0 ≤ xk_n C ∧ xk_n C ≤ n0 + 601024) (hk : k < 64) (hR : Rel k C σ) (hss : ss ≤ k * 100000 + 100000) (kont : ∀ C' σ' ss', Rel (k + 1) C' σ' → ss' ≤ (k + 1) * 100000 + 100000 → gx_G X (lx_P n0 w C' σ') (xk_n C' - n0) ss' [some (va_rf (some b)), some (va_rf (some bx)), some (va_rf (some (gw_mo w))), some (.int (nI (8 * k)))] 1257 []) : gx_G X (lx_P n0 w C σ) (xk_n C - n0) ss [some (va_rf (some b)), some (va_rf (some bx)), some (va_rf (some (gw_mo w))), some (.int (nI (8 * k)))] 660 [] := by
  have hX := K.1
  obtain ⟨C', σ', r, hfx, hfm, hR'⟩ := hS k C σ hk hR (xs (8 * k + 1)) (xs (8 * k + 2))
  obtain ⟨hkx, hn0, hn1⟩ := hB k _ _ hR
  obtain ⟨-, hn2, hn3⟩ := hB (k + 1) _ _ hR'
  refine gx_aload_n hX dL_law_660 rfl ?_
  refine lx_arg (j := 1) hX hx hb rfl ⟨by omega, by omega⟩ (by decide) ⟨dL_law_661, dL_law_662, dL_law_663, dL_law_664, dL_law_665⟩ ?_
  refine lx_arg (j := 2) hX hx hb rfl ⟨by omega, by omega⟩ (by decide) ⟨dL_law_666, dL_law_667, dL_law_668, dL_law_669, dL_law_670⟩ ?_
  have hM : gx_T (gw_I w (lx_A n0 w)) (lx_A n0 w) (gx_l X) yX0_set iX0_set 2 (va_rf (some bx) :: [.int ((xs (8 * k + 1))), .int ((xs (8 * k + 2)))]) (xk_P (lx_A n0 w) w C) 0 0 (xk_P (lx_A n0 w) w C') (.returned (some (.int r))) := (tX0_set w (lx_A n0 w) (gx_l X) bx C ((xs (8 * k + 1))) ((xs (8 * k + 2))) (r := (C', r)) hfx)
  refine lx_cN (As := [.int ((xs (8 * k + 1))), .int ((xs (8 * k + 2)))]) (rest := []) (C := C) (C' := C') (σ := σ) (r := r) K hM (lw_V q953 q954 q955 q86 q956) ⟨rfl, dsX0_set⟩ (Nat.le_trans (by decide) hn) (Nat.le_of_ble_eq_true rfl) hkx hn0 ⟨lx_nb hn1, lx_s7 hss hk⟩ rfl (gx_w8 gx_k0 (Nat.le_of_ble_eq_true rfl)) dL_law_671 rfl ?_
  refine gx_aload_n hX dL_law_674 rfl ?_
  refine lx_arg (j := 1) hX hx hb rfl ⟨by omega, by omega⟩ (by decide) ⟨dL_law_675, dL_law_676, dL_law_677, dL_law_678, dL_law_679⟩ ?_
  refine lx_arg (j := 2) hX hx hb rfl ⟨by omega, by omega⟩ (by decide) ⟨dL_law_680, dL_law_681, dL_law_682, dL_law_683, dL_law_684⟩ ?_
  have hM2 : gx_T (gw_I w (gm_A w)) (gm_A w) (gx_l X) yX3_set iX3_set 2 (va_rf (some (gw_mo w)) :: [.int ((xs (8 * k + 1))), .int ((xs (8 * k + 2)))]) (gm_P w σ) 0 0 (gm_P w σ') (.returned (some (.int r))) := (tX3_set w (gm_A w) (fun _ h => h) (gx_l X) σ ((xs (8 * k + 1))) ((xs (8 * k + 2))) (r := (σ', r)) hfm)
  refine lx_cM (As := [.int ((xs (8 * k + 1))), .int ((xs (8 * k + 2)))]) (rest := [.int r]) (C := C') (σ := σ) (σ' := σ') (r := r) K hM2 (lw_V q1671 q1672 q1673 q92 q1674) ⟨rfl, dsX3_set⟩ (Nat.le_trans (by decide) hn) (Nat.le_of_ble_eq_true rfl) hn2 ⟨lx_nb hn3, lx_s7 hss hk⟩ rfl (gx_w8 (gx_kI gx_k0) (Nat.le_of_ble_eq_true rfl)) dL_law_685 rfl ?_
  refine gx_icmp_eq (tgt := 1257) hX dL_law_688 (by decide) (a := some ()) (b := none) (r := ()) (if_pos rfl) (fun _ => ?_) (fun h => by cases h)
  exact kont C' σ' ss hR' (lx_ss hss)
set_option maxHeartbeats 4000000 in
theorem lx_c13 {w : gw_W} {X : gx_X} {n n0 : Nat} {P' : Heap → Prop} {oc : Outcome} (K : lx_K w X iL_law n n0 P' oc) (hn : 200 ≤ n) {b L bx k N ss : Nat} {xs : Nat → Int32} {C : xk_C} {σ : gm_S} {Rel : Nat → xk_C → gm_S → Prop} (hx : va_X b L xs (gx_s X) (gx_s X).heap) (hb : b < (gx_s X).heap.size ∧ ¬ gx_A X b) (hLk : 8 * k + 8 ≤ L ∧ L ≤ 512) (hS : lx_S13 N bx Rel) (hB : ∀ k C σ, Rel k C σ → xk_k C bx = 1 ∧ n0 ≤ xk_n C ∧ xk_n C ≤ n0 + 601024) (hk : k < 64) (hR : Rel k C σ) (hss : ss ≤ k * 100000 + 100000) (kont : ∀ C' σ' ss', Rel (k + 1) C' σ' → ss' ≤ (k + 1) * 100000 + 100000 → gx_G X (lx_P n0 w C' σ') (xk_n C' - n0) ss' [some (va_rf (some b)), some (va_rf (some bx)), some (va_rf (some (gw_mo w))), some (.int (nI (8 * k)))] 1257 []) : gx_G X (lx_P n0 w C σ) (xk_n C - n0) ss [some (va_rf (some b)), some (va_rf (some bx)), some (va_rf (some (gw_mo w))), some (.int (nI (8 * k)))] 693 [] := by
  have hX := K.1
  obtain ⟨C', σ', r, hfx, hfm, hR'⟩ := hS k C σ hk hR (xs (8 * k + 1))
  obtain ⟨hkx, hn0, hn1⟩ := hB k _ _ hR
  obtain ⟨-, hn2, hn3⟩ := hB (k + 1) _ _ hR'
  refine gx_aload_n hX dL_law_693 rfl ?_
  refine lx_arg (j := 1) hX hx hb rfl ⟨by omega, by omega⟩ (by decide) ⟨dL_law_694, dL_law_695, dL_law_696, dL_law_697, dL_law_698⟩ ?_
  have hM : gx_T (gw_I w (lx_A n0 w)) (lx_A n0 w) (gx_l X) yX0_tick iX0_tick 139 (va_rf (some bx) :: [.int ((xs (8 * k + 1)))]) (xk_P (lx_A n0 w) w C) 0 0 (xk_P (lx_A n0 w) w C') (.returned (some (.int r))) := (tX0_tick w (lx_A n0 w) (gx_l X) N bx C ((xs (8 * k + 1))) (r := (C', r)) hfx)
  refine lx_cN (As := [.int ((xs (8 * k + 1)))]) (rest := []) (C := C) (C' := C') (σ := σ) (r := r) K hM (lw_V q957 q958 q959 q86 q960) ⟨rfl, dsX0_tick⟩ (Nat.le_trans (by decide) hn) (Nat.le_of_ble_eq_true rfl) hkx hn0 ⟨lx_nb hn1, lx_s7 hss hk⟩ rfl (gx_w8 gx_k0 (Nat.le_of_ble_eq_true rfl)) dL_law_699 rfl ?_
  refine gx_aload_n hX dL_law_702 rfl ?_
  refine lx_arg (j := 1) hX hx hb rfl ⟨by omega, by omega⟩ (by decide) ⟨dL_law_703, dL_law_704, dL_law_705, dL_law_706, dL_law_707⟩ ?_
  have hM2 : gx_T (gw_I w (gm_A w)) (gm_A w) (gx_l X) yX3_tick iX3_tick 8 (va_rf (some (gw_mo w)) :: [.int ((xs (8 * k + 1)))]) (gm_P w σ) 0 0 (gm_P w σ') (.returned (some (.int r))) := (tX3_tick w (gm_A w) (fun _ h => h) (gx_l X) N σ ((xs (8 * k + 1))) (r := (σ', r)) hfm)
  refine lx_cM (As := [.int ((xs (8 * k + 1)))]) (rest := [.int r]) (C := C') (σ := σ) (σ' := σ') (r := r) K hM2 (lw_V q1675 q1676 q1677 q92 q1678) ⟨rfl, dsX3_tick⟩ (Nat.le_trans (by decide) hn) (Nat.le_of_ble_eq_true rfl) hn2 ⟨lx_nb hn3, lx_s7 hss hk⟩ rfl (gx_w8 (gx_kI gx_k0) (Nat.le_of_ble_eq_true rfl)) dL_law_708 rfl ?_
  refine gx_icmp_eq (tgt := 1257) hX dL_law_711 (by decide) (a := some ()) (b := none) (r := ()) (if_pos rfl) (fun _ => ?_) (fun h => by cases h)
  exact kont C' σ' ss hR' (lx_ss hss)
set_option maxHeartbeats 4000000 in
theorem lx_c14 {w : gw_W} {X : gx_X} {n n0 : Nat} {P' : Heap → Prop} {oc : Outcome} (K : lx_K w X iL_law n n0 P' oc) (hn : 200 ≤ n) {b L bx k N ss : Nat} {xs : Nat → Int32} {C : xk_C} {σ : gm_S} {Rel : Nat → xk_C → gm_S → Prop} (hx : va_X b L xs (gx_s X) (gx_s X).heap) (hb : b < (gx_s X).heap.size ∧ ¬ gx_A X b) (hLk : 8 * k + 8 ≤ L ∧ L ≤ 512) (hS : lx_S14 N bx Rel) (hB : ∀ k C σ, Rel k C σ → xk_k C bx = 1 ∧ n0 ≤ xk_n C ∧ xk_n C ≤ n0 + 601024) (hk : k < 64) (hR : Rel k C σ) (hss : ss ≤ k * 100000 + 100000) (kont : ∀ C' σ' ss', Rel (k + 1) C' σ' → ss' ≤ (k + 1) * 100000 + 100000 → gx_G X (lx_P n0 w C' σ') (xk_n C' - n0) ss' [some (va_rf (some b)), some (va_rf (some bx)), some (va_rf (some (gw_mo w))), some (.int (nI (8 * k)))] 1257 []) : gx_G X (lx_P n0 w C σ) (xk_n C - n0) ss [some (va_rf (some b)), some (va_rf (some bx)), some (va_rf (some (gw_mo w))), some (.int (nI (8 * k)))] 716 [] := by
  have hX := K.1
  obtain ⟨r, hfx, hfm, hR'⟩ := hS k C σ hk hR (xs (8 * k + 1)) (xs (8 * k + 2))
  obtain ⟨hkx, hn0, hn1⟩ := hB k _ _ hR
  obtain ⟨-, hn2, hn3⟩ := hB (k + 1) _ _ hR'
  refine gx_aload_n hX dL_law_716 rfl ?_
  refine lx_arg (j := 1) hX hx hb rfl ⟨by omega, by omega⟩ (by decide) ⟨dL_law_717, dL_law_718, dL_law_719, dL_law_720, dL_law_721⟩ ?_
  refine lx_arg (j := 2) hX hx hb rfl ⟨by omega, by omega⟩ (by decide) ⟨dL_law_722, dL_law_723, dL_law_724, dL_law_725, dL_law_726⟩ ?_
  have hM : gx_T (gw_I w (lx_A n0 w)) (lx_A n0 w) (gx_l X) yX0_row iX0_row 5 (va_rf (some bx) :: [.int ((xs (8 * k + 1))), .int ((xs (8 * k + 2)))]) (xk_P (lx_A n0 w) w C) 0 0 (xk_P (lx_A n0 w) w C) (.returned (some (.int r))) := (tX0_row w (lx_A n0 w) (gx_l X) N bx C ((xs (8 * k + 1))) ((xs (8 * k + 2))) (r := r) hfx)
  refine lx_cN (As := [.int ((xs (8 * k + 1))), .int ((xs (8 * k + 2)))]) (rest := []) (C := C) (C' := C) (σ := σ) (r := r) K hM (lw_V q1003 q1004 q1005 q86 q1006) ⟨rfl, dsX0_row⟩ (Nat.le_trans (by decide) hn) (Nat.le_of_ble_eq_true rfl) hkx hn0 ⟨lx_nb hn1, lx_s7 hss hk⟩ rfl (gx_w8 gx_k0 (Nat.le_of_ble_eq_true rfl)) dL_law_727 rfl ?_
  refine gx_aload_n hX dL_law_730 rfl ?_
  refine lx_arg (j := 1) hX hx hb rfl ⟨by omega, by omega⟩ (by decide) ⟨dL_law_731, dL_law_732, dL_law_733, dL_law_734, dL_law_735⟩ ?_
  refine lx_arg (j := 2) hX hx hb rfl ⟨by omega, by omega⟩ (by decide) ⟨dL_law_736, dL_law_737, dL_law_738, dL_law_739, dL_law_740⟩ ?_
  have hM2 : gx_T (gw_I w (gm_A w)) (gm_A w) (gx_l X) yX3_row iX3_row 3 (va_rf (some (gw_mo w)) :: [.int ((xs (8 * k + 1))), .int ((xs (8 * k + 2)))]) (gm_P w σ) 0 0 (gm_P w σ) (.returned (some (.int r))) := (tX3_row w (gm_A w) (fun _ h => h) (gx_l X) N σ ((xs (8 * k + 1))) ((xs (8 * k + 2))) (r := r) hfm)
  refine lx_cM (As := [.int ((xs (8 * k + 1))), .int ((xs (8 * k + 2)))]) (rest := [.int r]) (C := C) (σ := σ) (σ' := σ) (r := r) K hM2 (lw_V q1711 q1712 q1713 q92 q1714) ⟨rfl, dsX3_row⟩ (Nat.le_trans (by decide) hn) (Nat.le_of_ble_eq_true rfl) hn2 ⟨lx_nb hn3, lx_s7 hss hk⟩ rfl (gx_w8 (gx_kI gx_k0) (Nat.le_of_ble_eq_true rfl)) dL_law_741 rfl ?_
  refine gx_icmp_eq (tgt := 1257) hX dL_law_744 (by decide) (a := some ()) (b := none) (r := ()) (if_pos rfl) (fun _ => ?_) (fun h => by cases h)
  exact kont C σ ss hR' (lx_ss hss)
set_option maxHeartbeats 4000000 in
theorem lx_c15 {w : gw_W} {X : gx_X} {n n0 : Nat} {P' : Heap → Prop} {oc : Outcome} (K : lx_K w X iL_law n n0 P' oc) (hn : 200 ≤ n) {b L bx k N ss : Nat} {xs : Nat → Int32} {C : xk_C} {σ : gm_S} {Rel : Nat → xk_C → gm_S → Prop} (hx : va_X b L xs (gx_s X) (gx_s X).heap) (hb : b < (gx_s X).heap.size ∧ ¬ gx_A X b) (hLk : 8 * k + 8 ≤ L ∧ L ≤ 512) (hS : lx_S15 N bx Rel) (hB : ∀ k C σ, Rel k C σ → xk_k C bx = 1 ∧ n0 ≤ xk_n C ∧ xk_n C ≤ n0 + 601024) (hk : k < 64) (hR : Rel k C σ) (hss : ss ≤ k * 100000 + 100000) (kont : ∀ C' σ' ss', Rel (k + 1) C' σ' → ss' ≤ (k + 1) * 100000 + 100000 → gx_G X (lx_P n0 w C' σ') (xk_n C' - n0) ss' [some (va_rf (some b)), some (va_rf (some bx)), some (va_rf (some (gw_mo w))), some (.int (nI (8 * k)))] 1257 []) : gx_G X (lx_P n0 w C σ) (xk_n C - n0) ss [some (va_rf (some b)), some (va_rf (some bx)), some (va_rf (some (gw_mo w))), some (.int (nI (8 * k)))] 749 [] := by
  have hX := K.1
  obtain ⟨r, hfx, hfm, hR'⟩ := hS k C σ hk hR (xs (8 * k + 1))
  obtain ⟨hkx, hn0, hn1⟩ := hB k _ _ hR
  obtain ⟨-, hn2, hn3⟩ := hB (k + 1) _ _ hR'
  refine gx_aload_n hX dL_law_749 rfl ?_
  refine lx_arg (j := 1) hX hx hb rfl ⟨by omega, by omega⟩ (by decide) ⟨dL_law_750, dL_law_751, dL_law_752, dL_law_753, dL_law_754⟩ ?_
  have hM : gx_T (gw_I w (lx_A n0 w)) (lx_A n0 w) (gx_l X) yX0_exchanges iX0_exchanges 2 (va_rf (some bx) :: [.int ((xs (8 * k + 1)))]) (xk_P (lx_A n0 w) w C) 0 0 (xk_P (lx_A n0 w) w C) (.returned (some (.int r))) := (tX0_exchanges w (lx_A n0 w) (gx_l X) bx C ((xs (8 * k + 1))) (r := r) hfx)
  refine lx_cN (As := [.int ((xs (8 * k + 1)))]) (rest := []) (C := C) (C' := C) (σ := σ) (r := r) K hM (lw_V q1007 q1008 q1009 q86 q1010) ⟨rfl, dsX0_exchanges⟩ (Nat.le_trans (by decide) hn) (Nat.le_of_ble_eq_true rfl) hkx hn0 ⟨lx_nb hn1, lx_s7 hss hk⟩ rfl (gx_w8 gx_k0 (Nat.le_of_ble_eq_true rfl)) dL_law_755 rfl ?_
  refine gx_aload_n hX dL_law_758 rfl ?_
  refine lx_arg (j := 1) hX hx hb rfl ⟨by omega, by omega⟩ (by decide) ⟨dL_law_759, dL_law_760, dL_law_761, dL_law_762, dL_law_763⟩ ?_
  have hM2 : gx_T (gw_I w (gm_A w)) (gm_A w) (gx_l X) yX3_exchanges iX3_exchanges 2 (va_rf (some (gw_mo w)) :: [.int ((xs (8 * k + 1)))]) (gm_P w σ) 0 0 (gm_P w σ) (.returned (some (.int r))) := (tX3_exchanges w (gm_A w) (fun _ h => h) (gx_l X) σ ((xs (8 * k + 1))) (r := r) hfm)
  refine lx_cM (As := [.int ((xs (8 * k + 1)))]) (rest := [.int r]) (C := C) (σ := σ) (σ' := σ) (r := r) K hM2 (lw_V q1715 q1716 q1717 q92 q1718) ⟨rfl, dsX3_exchanges⟩ (Nat.le_trans (by decide) hn) (Nat.le_of_ble_eq_true rfl) hn2 ⟨lx_nb hn3, lx_s7 hss hk⟩ rfl (gx_w8 (gx_kI gx_k0) (Nat.le_of_ble_eq_true rfl)) dL_law_764 rfl ?_
  refine gx_icmp_eq (tgt := 1257) hX dL_law_767 (by decide) (a := some ()) (b := none) (r := ()) (if_pos rfl) (fun _ => ?_) (fun h => by cases h)
  exact kont C σ ss hR' (lx_ss hss)
set_option maxHeartbeats 4000000 in
theorem lx_c16 {w : gw_W} {X : gx_X} {n n0 : Nat} {P' : Heap → Prop} {oc : Outcome} (K : lx_K w X iL_law n n0 P' oc) (hn : 200 ≤ n) {b L bx k N ss : Nat} {xs : Nat → Int32} {C : xk_C} {σ : gm_S} {Rel : Nat → xk_C → gm_S → Prop} (hx : va_X b L xs (gx_s X) (gx_s X).heap) (hb : b < (gx_s X).heap.size ∧ ¬ gx_A X b) (hLk : 8 * k + 8 ≤ L ∧ L ≤ 512) (hS : lx_S16 N bx Rel) (hB : ∀ k C σ, Rel k C σ → xk_k C bx = 1 ∧ n0 ≤ xk_n C ∧ xk_n C ≤ n0 + 601024) (hk : k < 64) (hR : Rel k C σ) (hss : ss ≤ k * 100000 + 100000) (kont : ∀ C' σ' ss', Rel (k + 1) C' σ' → ss' ≤ (k + 1) * 100000 + 100000 → gx_G X (lx_P n0 w C' σ') (xk_n C' - n0) ss' [some (va_rf (some b)), some (va_rf (some bx)), some (va_rf (some (gw_mo w))), some (.int (nI (8 * k)))] 1257 []) : gx_G X (lx_P n0 w C σ) (xk_n C - n0) ss [some (va_rf (some b)), some (va_rf (some bx)), some (va_rf (some (gw_mo w))), some (.int (nI (8 * k)))] 772 [] := by
  have hX := K.1
  obtain ⟨r, hfx, hfm, hR'⟩ := hS k C σ hk hR 
  obtain ⟨hkx, hn0, hn1⟩ := hB k _ _ hR
  obtain ⟨-, hn2, hn3⟩ := hB (k + 1) _ _ hR'
  refine gx_aload_n hX dL_law_772 rfl ?_
  have hM : gx_T (gw_I w (lx_A n0 w)) (lx_A n0 w) (gx_l X) yX0_points iX0_points 5 (va_rf (some bx) :: []) (xk_P (lx_A n0 w) w C) 0 0 (xk_P (lx_A n0 w) w C) (.returned (some (.int r))) := (tX0_points w (lx_A n0 w) (gx_l X) N bx C  (r := r) hfx)
  refine lx_cN (As := []) (rest := []) (C := C) (C' := C) (σ := σ) (r := r) K hM (lw_V q1011 q1012 q1013 q86 q1014) ⟨rfl, dsX0_points⟩ (Nat.le_trans (by decide) hn) (Nat.le_of_ble_eq_true rfl) hkx hn0 ⟨lx_nb hn1, lx_s7 hss hk⟩ rfl (gx_w8 gx_k0 (Nat.le_of_ble_eq_true rfl)) dL_law_773 rfl ?_
  refine gx_aload_n hX dL_law_776 rfl ?_
  have hM2 : gx_T (gw_I w (gm_A w)) (gm_A w) (gx_l X) yX3_points iX3_points 4 (va_rf (some (gw_mo w)) :: []) (gm_P w σ) 0 0 (gm_P w σ) (.returned (some (.int r))) := (tX3_points w (gm_A w) (fun _ h => h) (gx_l X) N σ  (r := r) hfm)
  refine lx_cM (As := []) (rest := [.int r]) (C := C) (σ := σ) (σ' := σ) (r := r) K hM2 (lw_V q1719 q1720 q1721 q92 q1722) ⟨rfl, dsX3_points⟩ (Nat.le_trans (by decide) hn) (Nat.le_of_ble_eq_true rfl) hn2 ⟨lx_nb hn3, lx_s7 hss hk⟩ rfl (gx_w8 (gx_kI gx_k0) (Nat.le_of_ble_eq_true rfl)) dL_law_777 rfl ?_
  refine gx_icmp_eq (tgt := 1257) hX dL_law_780 (by decide) (a := some ()) (b := none) (r := ()) (if_pos rfl) (fun _ => ?_) (fun h => by cases h)
  exact kont C σ ss hR' (lx_ss hss)
set_option maxHeartbeats 4000000 in
theorem lx_c17 {w : gw_W} {X : gx_X} {n n0 : Nat} {P' : Heap → Prop} {oc : Outcome} (K : lx_K w X iL_law n n0 P' oc) (hn : 200 ≤ n) {b L bx k N ss : Nat} {xs : Nat → Int32} {C : xk_C} {σ : gm_S} {Rel : Nat → xk_C → gm_S → Prop} (hx : va_X b L xs (gx_s X) (gx_s X).heap) (hb : b < (gx_s X).heap.size ∧ ¬ gx_A X b) (hLk : 8 * k + 8 ≤ L ∧ L ≤ 512) (hS : lx_S17 N bx Rel) (hB : ∀ k C σ, Rel k C σ → xk_k C bx = 1 ∧ n0 ≤ xk_n C ∧ xk_n C ≤ n0 + 601024) (hk : k < 64) (hR : Rel k C σ) (hss : ss ≤ k * 100000 + 100000) (kont : ∀ C' σ' ss', Rel (k + 1) C' σ' → ss' ≤ (k + 1) * 100000 + 100000 → gx_G X (lx_P n0 w C' σ') (xk_n C' - n0) ss' [some (va_rf (some b)), some (va_rf (some bx)), some (va_rf (some (gw_mo w))), some (.int (nI (8 * k)))] 1257 []) : gx_G X (lx_P n0 w C σ) (xk_n C - n0) ss [some (va_rf (some b)), some (va_rf (some bx)), some (va_rf (some (gw_mo w))), some (.int (nI (8 * k)))] 785 [] := by
  have hX := K.1
  obtain ⟨C', σ', r, hfx, hfm, hR'⟩ := hS k C σ hk hR (xs (8 * k + 1)) (xs (8 * k + 2))
  obtain ⟨hkx, hn0, hn1⟩ := hB k _ _ hR
  obtain ⟨-, hn2, hn3⟩ := hB (k + 1) _ _ hR'
  refine gx_aload_n hX dL_law_785 rfl ?_
  refine lx_arg (j := 1) hX hx hb rfl ⟨by omega, by omega⟩ (by decide) ⟨dL_law_786, dL_law_787, dL_law_788, dL_law_789, dL_law_790⟩ ?_
  refine lx_arg (j := 2) hX hx hb rfl ⟨by omega, by omega⟩ (by decide) ⟨dL_law_791, dL_law_792, dL_law_793, dL_law_794, dL_law_795⟩ ?_
  have hM : gx_T (gw_I w (lx_A n0 w)) (lx_A n0 w) (gx_l X) yX0_chain iX0_chain 6 (va_rf (some bx) :: [.int ((xs (8 * k + 1))), .int ((xs (8 * k + 2)))]) (xk_P (lx_A n0 w) w C) 0 0 (xk_P (lx_A n0 w) w C') (.returned (some (.int r))) := (tX0_chain w (lx_A n0 w) (gx_l X) N bx C ((xs (8 * k + 1))) ((xs (8 * k + 2))) (r := (C', r)) hfx)
  refine lx_cN (As := [.int ((xs (8 * k + 1))), .int ((xs (8 * k + 2)))]) (rest := []) (C := C) (C' := C') (σ := σ) (r := r) K hM (lw_V q1015 q1016 q1017 q86 q1018) ⟨rfl, dsX0_chain⟩ (Nat.le_trans (by decide) hn) (Nat.le_of_ble_eq_true rfl) hkx hn0 ⟨lx_nb hn1, lx_s7 hss hk⟩ rfl (gx_w8 gx_k0 (Nat.le_of_ble_eq_true rfl)) dL_law_796 rfl ?_
  refine gx_aload_n hX dL_law_799 rfl ?_
  refine lx_arg (j := 1) hX hx hb rfl ⟨by omega, by omega⟩ (by decide) ⟨dL_law_800, dL_law_801, dL_law_802, dL_law_803, dL_law_804⟩ ?_
  refine lx_arg (j := 2) hX hx hb rfl ⟨by omega, by omega⟩ (by decide) ⟨dL_law_805, dL_law_806, dL_law_807, dL_law_808, dL_law_809⟩ ?_
  have hM2 : gx_T (gw_I w (gm_A w)) (gm_A w) (gx_l X) yX3_chain iX3_chain 5 (va_rf (some (gw_mo w)) :: [.int ((xs (8 * k + 1))), .int ((xs (8 * k + 2)))]) (gm_P w σ) 0 0 (gm_P w σ') (.returned (some (.int r))) := (tX3_chain w (gm_A w) (fun _ h => h) (gx_l X) N σ ((xs (8 * k + 1))) ((xs (8 * k + 2))) (r := (σ', r)) hfm)
  refine lx_cM (As := [.int ((xs (8 * k + 1))), .int ((xs (8 * k + 2)))]) (rest := [.int r]) (C := C') (σ := σ) (σ' := σ') (r := r) K hM2 (lw_V q1723 q1724 q1725 q92 q1726) ⟨rfl, dsX3_chain⟩ (Nat.le_trans (by decide) hn) (Nat.le_of_ble_eq_true rfl) hn2 ⟨lx_nb hn3, lx_s7 hss hk⟩ rfl (gx_w8 (gx_kI gx_k0) (Nat.le_of_ble_eq_true rfl)) dL_law_810 rfl ?_
  refine gx_icmp_eq (tgt := 1257) hX dL_law_813 (by decide) (a := some ()) (b := none) (r := ()) (if_pos rfl) (fun _ => ?_) (fun h => by cases h)
  exact kont C' σ' ss hR' (lx_ss hss)
set_option maxHeartbeats 4000000 in
theorem lx_c18 {w : gw_W} {X : gx_X} {n n0 : Nat} {P' : Heap → Prop} {oc : Outcome} (K : lx_K w X iL_law n n0 P' oc) (hn : 200 ≤ n) {b L bx k N ss : Nat} {xs : Nat → Int32} {C : xk_C} {σ : gm_S} {Rel : Nat → xk_C → gm_S → Prop} (hx : va_X b L xs (gx_s X) (gx_s X).heap) (hb : b < (gx_s X).heap.size ∧ ¬ gx_A X b) (hLk : 8 * k + 8 ≤ L ∧ L ≤ 512) (hS : lx_S18 N bx Rel) (hB : ∀ k C σ, Rel k C σ → xk_k C bx = 1 ∧ n0 ≤ xk_n C ∧ xk_n C ≤ n0 + 601024) (hk : k < 64) (hR : Rel k C σ) (hss : ss ≤ k * 100000 + 100000) (kont : ∀ C' σ' ss', Rel (k + 1) C' σ' → ss' ≤ (k + 1) * 100000 + 100000 → gx_G X (lx_P n0 w C' σ') (xk_n C' - n0) ss' [some (va_rf (some b)), some (va_rf (some bx)), some (va_rf (some (gw_mo w))), some (.int (nI (8 * k)))] 1257 []) : gx_G X (lx_P n0 w C σ) (xk_n C - n0) ss [some (va_rf (some b)), some (va_rf (some bx)), some (va_rf (some (gw_mo w))), some (.int (nI (8 * k)))] 818 [] := by
  have hX := K.1
  obtain ⟨C', σ', r, hfx, hfm, hR', hs⟩ := hS k C σ hk hR (xs (8 * k + 1))
  obtain ⟨hkx, hn0, hn1⟩ := hB k _ _ hR
  obtain ⟨-, hn2, hn3⟩ := hB (k + 1) _ _ hR'
  refine gx_aload_n hX dL_law_818 rfl ?_
  refine lx_arg (j := 1) hX hx hb rfl ⟨by omega, by omega⟩ (by decide) ⟨dL_law_819, dL_law_820, dL_law_821, dL_law_822, dL_law_823⟩ ?_
  have hM : gx_T (gw_I w (lx_A n0 w)) (lx_A n0 w) (gx_l X) yX0_value iX0_value 7 (va_rf (some bx) :: [.int ((xs (8 * k + 1)))]) (xk_P (lx_A n0 w) w C) (xk_n C' - xk_n C) (xk_s C' - xk_s C) (xk_P (lx_A n0 w) w C') (.returned (some (.int r))) := (tX0_value w (lx_A n0 w) (gx_l X) N bx C ((xs (8 * k + 1))) (r := (C', r)) hfx)
  refine lx_cA (As := [.int ((xs (8 * k + 1)))]) (rest := []) (C := C) (C' := C') (σ := σ) (r := r) K hM (lw_V q1023 q1024 q1025 q86 q1026) ⟨rfl, dsX0_value⟩ (Nat.le_trans (by decide) hn) (Nat.le_of_ble_eq_true rfl) hkx hn0 ⟨⟨lx_nb hn1, lx_nb hn3⟩, lx_s8 hss hk hs⟩ rfl (gx_w8 gx_k0 (Nat.le_of_ble_eq_true rfl)) dL_law_824 rfl ?_
  refine gx_aload_n hX dL_law_827 rfl ?_
  refine lx_arg (j := 1) hX hx hb rfl ⟨by omega, by omega⟩ (by decide) ⟨dL_law_828, dL_law_829, dL_law_830, dL_law_831, dL_law_832⟩ ?_
  have hM2 : gx_T (gw_I w (gm_A w)) (gm_A w) (gx_l X) yX3_value iX3_value 6 (va_rf (some (gw_mo w)) :: [.int ((xs (8 * k + 1)))]) (gm_P w σ) 0 0 (gm_P w σ') (.returned (some (.int r))) := (tX3_value w (gm_A w) (fun _ h => h) (gx_l X) N σ ((xs (8 * k + 1))) (r := (σ', r)) hfm)
  refine lx_cM (As := [.int ((xs (8 * k + 1)))]) (rest := [.int r]) (C := C') (σ := σ) (σ' := σ') (r := r) K hM2 (lw_V q1731 q1732 q1733 q92 q1734) ⟨rfl, dsX3_value⟩ (Nat.le_trans (by decide) hn) (Nat.le_of_ble_eq_true rfl) hn2 ⟨lx_nb hn3, lx_s8 hss hk hs⟩ rfl (gx_w8 (gx_kI gx_k0) (Nat.le_of_ble_eq_true rfl)) dL_law_833 rfl ?_
  refine gx_icmp_eq (tgt := 1257) hX dL_law_836 (by decide) (a := some ()) (b := none) (r := ()) (if_pos rfl) (fun _ => ?_) (fun h => by cases h)
  exact kont C' σ' (ss + (xk_s C' - xk_s C)) hR' (lx_ss2 hss hs)
set_option maxHeartbeats 4000000 in
theorem lx_c19 {w : gw_W} {X : gx_X} {n n0 : Nat} {P' : Heap → Prop} {oc : Outcome} (K : lx_K w X iL_law n n0 P' oc) (hn : 200 ≤ n) {b L bx k N ss : Nat} {xs : Nat → Int32} {C : xk_C} {σ : gm_S} {Rel : Nat → xk_C → gm_S → Prop} (hx : va_X b L xs (gx_s X) (gx_s X).heap) (hb : b < (gx_s X).heap.size ∧ ¬ gx_A X b) (hLk : 8 * k + 8 ≤ L ∧ L ≤ 512) (hS : lx_S19 N bx Rel) (hB : ∀ k C σ, Rel k C σ → xk_k C bx = 1 ∧ n0 ≤ xk_n C ∧ xk_n C ≤ n0 + 601024) (hk : k < 64) (hR : Rel k C σ) (hss : ss ≤ k * 100000 + 100000) (kont : ∀ C' σ' ss', Rel (k + 1) C' σ' → ss' ≤ (k + 1) * 100000 + 100000 → gx_G X (lx_P n0 w C' σ') (xk_n C' - n0) ss' [some (va_rf (some b)), some (va_rf (some bx)), some (va_rf (some (gw_mo w))), some (.int (nI (8 * k)))] 1257 []) : gx_G X (lx_P n0 w C σ) (xk_n C - n0) ss [some (va_rf (some b)), some (va_rf (some bx)), some (va_rf (some (gw_mo w))), some (.int (nI (8 * k)))] 841 [] := by
  have hX := K.1
  obtain ⟨C', σ', r, hfx, hfm, hR', hs⟩ := hS k C σ hk hR 
  obtain ⟨hkx, hn0, hn1⟩ := hB k _ _ hR
  obtain ⟨-, hn2, hn3⟩ := hB (k + 1) _ _ hR'
  refine gx_aload_n hX dL_law_841 rfl ?_
  have hM : gx_T (gw_I w (lx_A n0 w)) (lx_A n0 w) (gx_l X) yX0_first iX0_first 7 (va_rf (some bx) :: []) (xk_P (lx_A n0 w) w C) (xk_n C' - xk_n C) (xk_s C' - xk_s C) (xk_P (lx_A n0 w) w C') (.returned (some (.int r))) := (tX0_first w (lx_A n0 w) (gx_l X) N bx C  (r := (C', r)) hfx)
  refine lx_cA (As := []) (rest := []) (C := C) (C' := C') (σ := σ) (r := r) K hM (lw_V q1031 q1032 q1033 q86 q1034) ⟨rfl, dsX0_first⟩ (Nat.le_trans (by decide) hn) (Nat.le_of_ble_eq_true rfl) hkx hn0 ⟨⟨lx_nb hn1, lx_nb hn3⟩, lx_s8 hss hk hs⟩ rfl (gx_w8 gx_k0 (Nat.le_of_ble_eq_true rfl)) dL_law_842 rfl ?_
  refine gx_aload_n hX dL_law_845 rfl ?_
  have hM2 : gx_T (gw_I w (gm_A w)) (gm_A w) (gx_l X) yX3_first iX3_first 6 (va_rf (some (gw_mo w)) :: []) (gm_P w σ) 0 0 (gm_P w σ') (.returned (some (.int r))) := (tX3_first w (gm_A w) (fun _ h => h) (gx_l X) N σ  (r := (σ', r)) hfm)
  refine lx_cM (As := []) (rest := [.int r]) (C := C') (σ := σ) (σ' := σ') (r := r) K hM2 (lw_V q1739 q1740 q1741 q92 q1742) ⟨rfl, dsX3_first⟩ (Nat.le_trans (by decide) hn) (Nat.le_of_ble_eq_true rfl) hn2 ⟨lx_nb hn3, lx_s8 hss hk hs⟩ rfl (gx_w8 (gx_kI gx_k0) (Nat.le_of_ble_eq_true rfl)) dL_law_846 rfl ?_
  refine gx_icmp_eq (tgt := 1257) hX dL_law_849 (by decide) (a := some ()) (b := none) (r := ()) (if_pos rfl) (fun _ => ?_) (fun h => by cases h)
  exact kont C' σ' (ss + (xk_s C' - xk_s C)) hR' (lx_ss2 hss hs)
set_option maxHeartbeats 4000000 in
theorem lx_c20 {w : gw_W} {X : gx_X} {n n0 : Nat} {P' : Heap → Prop} {oc : Outcome} (K : lx_K w X iL_law n n0 P' oc) (hn : 200 ≤ n) {b L bx k N ss : Nat} {xs : Nat → Int32} {C : xk_C} {σ : gm_S} {Rel : Nat → xk_C → gm_S → Prop} (hx : va_X b L xs (gx_s X) (gx_s X).heap) (hb : b < (gx_s X).heap.size ∧ ¬ gx_A X b) (hLk : 8 * k + 8 ≤ L ∧ L ≤ 512) (hS : lx_S20 N bx Rel) (hB : ∀ k C σ, Rel k C σ → xk_k C bx = 1 ∧ n0 ≤ xk_n C ∧ xk_n C ≤ n0 + 601024) (hk : k < 64) (hR : Rel k C σ) (hss : ss ≤ k * 100000 + 100000) (kont : ∀ C' σ' ss', Rel (k + 1) C' σ' → ss' ≤ (k + 1) * 100000 + 100000 → gx_G X (lx_P n0 w C' σ') (xk_n C' - n0) ss' [some (va_rf (some b)), some (va_rf (some bx)), some (va_rf (some (gw_mo w))), some (.int (nI (8 * k)))] 1257 []) : gx_G X (lx_P n0 w C σ) (xk_n C - n0) ss [some (va_rf (some b)), some (va_rf (some bx)), some (va_rf (some (gw_mo w))), some (.int (nI (8 * k)))] 854 [] := by
  have hX := K.1
  obtain ⟨C', σ', r, hfx, hfm, hR'⟩ := hS k C σ hk hR (xs (8 * k + 1)) (xs (8 * k + 2))
  obtain ⟨hkx, hn0, hn1⟩ := hB k _ _ hR
  obtain ⟨-, hn2, hn3⟩ := hB (k + 1) _ _ hR'
  refine gx_aload_n hX dL_law_854 rfl ?_
  refine lx_arg (j := 1) hX hx hb rfl ⟨by omega, by omega⟩ (by decide) ⟨dL_law_855, dL_law_856, dL_law_857, dL_law_858, dL_law_859⟩ ?_
  refine lx_arg (j := 2) hX hx hb rfl ⟨by omega, by omega⟩ (by decide) ⟨dL_law_860, dL_law_861, dL_law_862, dL_law_863, dL_law_864⟩ ?_
  have hM : gx_T (gw_I w (lx_A n0 w)) (lx_A n0 w) (gx_l X) yX0_best iX0_best 16 (va_rf (some bx) :: [.int ((xs (8 * k + 1))), .int ((xs (8 * k + 2)))]) (xk_P (lx_A n0 w) w C) 0 0 (xk_P (lx_A n0 w) w C') (.returned (some (.int r))) := (tX0_best w (lx_A n0 w) (gx_l X) N bx C ((xs (8 * k + 1))) ((xs (8 * k + 2))) (r := (C', r)) hfx)
  refine lx_cN (As := [.int ((xs (8 * k + 1))), .int ((xs (8 * k + 2)))]) (rest := []) (C := C) (C' := C') (σ := σ) (r := r) K hM (lw_V q1035 q1036 q1037 q86 q1038) ⟨rfl, dsX0_best⟩ (Nat.le_trans (by decide) hn) (Nat.le_of_ble_eq_true rfl) hkx hn0 ⟨lx_nb hn1, lx_s7 hss hk⟩ rfl (gx_w8 gx_k0 (Nat.le_of_ble_eq_true rfl)) dL_law_865 rfl ?_
  refine gx_aload_n hX dL_law_868 rfl ?_
  refine lx_arg (j := 1) hX hx hb rfl ⟨by omega, by omega⟩ (by decide) ⟨dL_law_869, dL_law_870, dL_law_871, dL_law_872, dL_law_873⟩ ?_
  refine lx_arg (j := 2) hX hx hb rfl ⟨by omega, by omega⟩ (by decide) ⟨dL_law_874, dL_law_875, dL_law_876, dL_law_877, dL_law_878⟩ ?_
  have hM2 : gx_T (gw_I w (gm_A w)) (gm_A w) (gx_l X) yX3_best iX3_best 16 (va_rf (some (gw_mo w)) :: [.int ((xs (8 * k + 1))), .int ((xs (8 * k + 2)))]) (gm_P w σ) 0 0 (gm_P w σ') (.returned (some (.int r))) := (tX3_best w (gm_A w) (fun _ h => h) (gx_l X) N σ ((xs (8 * k + 1))) ((xs (8 * k + 2))) (r := (σ', r)) hfm)
  refine lx_cM (As := [.int ((xs (8 * k + 1))), .int ((xs (8 * k + 2)))]) (rest := [.int r]) (C := C') (σ := σ) (σ' := σ') (r := r) K hM2 (lw_V q1743 q1744 q1745 q92 q1746) ⟨rfl, dsX3_best⟩ (Nat.le_trans (by decide) hn) (Nat.le_of_ble_eq_true rfl) hn2 ⟨lx_nb hn3, lx_s7 hss hk⟩ rfl (gx_w8 (gx_kI gx_k0) (Nat.le_of_ble_eq_true rfl)) dL_law_879 rfl ?_
  refine gx_icmp_eq (tgt := 1257) hX dL_law_882 (by decide) (a := some ()) (b := none) (r := ()) (if_pos rfl) (fun _ => ?_) (fun h => by cases h)
  exact kont C' σ' ss hR' (lx_ss hss)
set_option maxHeartbeats 4000000 in
theorem lx_c21 {w : gw_W} {X : gx_X} {n n0 : Nat} {P' : Heap → Prop} {oc : Outcome} (K : lx_K w X iL_law n n0 P' oc) (hn : 200 ≤ n) {b L bx k N ss : Nat} {xs : Nat → Int32} {C : xk_C} {σ : gm_S} {Rel : Nat → xk_C → gm_S → Prop} (hx : va_X b L xs (gx_s X) (gx_s X).heap) (hb : b < (gx_s X).heap.size ∧ ¬ gx_A X b) (hLk : 8 * k + 8 ≤ L ∧ L ≤ 512) (hS : lx_S21 N bx Rel) (hB : ∀ k C σ, Rel k C σ → xk_k C bx = 1 ∧ n0 ≤ xk_n C ∧ xk_n C ≤ n0 + 601024) (hk : k < 64) (hR : Rel k C σ) (hss : ss ≤ k * 100000 + 100000) (kont : ∀ C' σ' ss', Rel (k + 1) C' σ' → ss' ≤ (k + 1) * 100000 + 100000 → gx_G X (lx_P n0 w C' σ') (xk_n C' - n0) ss' [some (va_rf (some b)), some (va_rf (some bx)), some (va_rf (some (gw_mo w))), some (.int (nI (8 * k)))] 1257 []) : gx_G X (lx_P n0 w C σ) (xk_n C - n0) ss [some (va_rf (some b)), some (va_rf (some bx)), some (va_rf (some (gw_mo w))), some (.int (nI (8 * k)))] 887 [] := by
  have hX := K.1
  obtain ⟨C', σ', r, hfx, hfm, hR'⟩ := hS k C σ hk hR (xs (8 * k + 1))
  obtain ⟨hkx, hn0, hn1⟩ := hB k _ _ hR
  obtain ⟨-, hn2, hn3⟩ := hB (k + 1) _ _ hR'
  refine gx_aload_n hX dL_law_887 rfl ?_
  refine lx_arg (j := 1) hX hx hb rfl ⟨by omega, by omega⟩ (by decide) ⟨dL_law_888, dL_law_889, dL_law_890, dL_law_891, dL_law_892⟩ ?_
  have hM : gx_T (gw_I w (lx_A n0 w)) (lx_A n0 w) (gx_l X) yX0_calm iX0_calm 16 (va_rf (some bx) :: [.int ((xs (8 * k + 1)))]) (xk_P (lx_A n0 w) w C) 0 0 (xk_P (lx_A n0 w) w C') (.returned (some (.int r))) := (tX0_calm w (lx_A n0 w) (gx_l X) N bx C ((xs (8 * k + 1))) (r := (C', r)) hfx)
  refine lx_cN (As := [.int ((xs (8 * k + 1)))]) (rest := []) (C := C) (C' := C') (σ := σ) (r := r) K hM (lw_V q1066 q1067 q1068 q86 q1069) ⟨rfl, dsX0_calm⟩ (Nat.le_trans (by decide) hn) (Nat.le_of_ble_eq_true rfl) hkx hn0 ⟨lx_nb hn1, lx_s7 hss hk⟩ rfl (gx_w8 gx_k0 (Nat.le_of_ble_eq_true rfl)) dL_law_893 rfl ?_
  refine gx_aload_n hX dL_law_896 rfl ?_
  refine lx_arg (j := 1) hX hx hb rfl ⟨by omega, by omega⟩ (by decide) ⟨dL_law_897, dL_law_898, dL_law_899, dL_law_900, dL_law_901⟩ ?_
  have hM2 : gx_T (gw_I w (gm_A w)) (gm_A w) (gx_l X) yX3_calm iX3_calm 16 (va_rf (some (gw_mo w)) :: [.int ((xs (8 * k + 1)))]) (gm_P w σ) 0 0 (gm_P w σ') (.returned (some (.int r))) := (tX3_calm w (gm_A w) (fun _ h => h) (gx_l X) N σ ((xs (8 * k + 1))) (r := (σ', r)) hfm)
  refine lx_cM (As := [.int ((xs (8 * k + 1)))]) (rest := [.int r]) (C := C') (σ := σ) (σ' := σ') (r := r) K hM2 (lw_V q1767 q1768 q1769 q92 q1770) ⟨rfl, dsX3_calm⟩ (Nat.le_trans (by decide) hn) (Nat.le_of_ble_eq_true rfl) hn2 ⟨lx_nb hn3, lx_s7 hss hk⟩ rfl (gx_w8 (gx_kI gx_k0) (Nat.le_of_ble_eq_true rfl)) dL_law_902 rfl ?_
  refine gx_icmp_eq (tgt := 1257) hX dL_law_905 (by decide) (a := some ()) (b := none) (r := ()) (if_pos rfl) (fun _ => ?_) (fun h => by cases h)
  exact kont C' σ' ss hR' (lx_ss hss)
set_option maxHeartbeats 4000000 in
theorem lx_c22 {w : gw_W} {X : gx_X} {n n0 : Nat} {P' : Heap → Prop} {oc : Outcome} (K : lx_K w X iL_law n n0 P' oc) (hn : 200 ≤ n) {b L bx k N ss : Nat} {xs : Nat → Int32} {C : xk_C} {σ : gm_S} {Rel : Nat → xk_C → gm_S → Prop} (hx : va_X b L xs (gx_s X) (gx_s X).heap) (hb : b < (gx_s X).heap.size ∧ ¬ gx_A X b) (hLk : 8 * k + 8 ≤ L ∧ L ≤ 512) (hS : lx_S22 N bx Rel) (hB : ∀ k C σ, Rel k C σ → xk_k C bx = 1 ∧ n0 ≤ xk_n C ∧ xk_n C ≤ n0 + 601024) (hk : k < 64) (hR : Rel k C σ) (hss : ss ≤ k * 100000 + 100000) (kont : ∀ C' σ' ss', Rel (k + 1) C' σ' → ss' ≤ (k + 1) * 100000 + 100000 → gx_G X (lx_P n0 w C' σ') (xk_n C' - n0) ss' [some (va_rf (some b)), some (va_rf (some bx)), some (va_rf (some (gw_mo w))), some (.int (nI (8 * k)))] 1257 []) : gx_G X (lx_P n0 w C σ) (xk_n C - n0) ss [some (va_rf (some b)), some (va_rf (some bx)), some (va_rf (some (gw_mo w))), some (.int (nI (8 * k)))] 910 [] := by
  have hX := K.1
  obtain ⟨r, hfx, hfm, hR'⟩ := hS k C σ hk hR 
  obtain ⟨hkx, hn0, hn1⟩ := hB k _ _ hR
  obtain ⟨-, hn2, hn3⟩ := hB (k + 1) _ _ hR'
  refine gx_aload_n hX dL_law_910 rfl ?_
  have hM : gx_T (gw_I w (lx_A n0 w)) (lx_A n0 w) (gx_l X) yX0_pairs iX0_pairs 5 (va_rf (some bx) :: []) (xk_P (lx_A n0 w) w C) 0 0 (xk_P (lx_A n0 w) w C) (.returned (some (.int r))) := (tX0_pairs w (lx_A n0 w) (gx_l X) N bx C  (r := r) hfx)
  refine lx_cN (As := []) (rest := []) (C := C) (C' := C) (σ := σ) (r := r) K hM (lw_V q1070 q1071 q1072 q86 q1073) ⟨rfl, dsX0_pairs⟩ (Nat.le_trans (by decide) hn) (Nat.le_of_ble_eq_true rfl) hkx hn0 ⟨lx_nb hn1, lx_s7 hss hk⟩ rfl (gx_w8 gx_k0 (Nat.le_of_ble_eq_true rfl)) dL_law_911 rfl ?_
  refine gx_aload_n hX dL_law_914 rfl ?_
  have hM2 : gx_T (gw_I w (gm_A w)) (gm_A w) (gx_l X) yX3_pairs iX3_pairs 4 (va_rf (some (gw_mo w)) :: []) (gm_P w σ) 0 0 (gm_P w σ) (.returned (some (.int r))) := (tX3_pairs w (gm_A w) (fun _ h => h) (gx_l X) N σ  (r := r) hfm)
  refine lx_cM (As := []) (rest := [.int r]) (C := C) (σ := σ) (σ' := σ) (r := r) K hM2 (lw_V q1771 q1772 q1773 q92 q1774) ⟨rfl, dsX3_pairs⟩ (Nat.le_trans (by decide) hn) (Nat.le_of_ble_eq_true rfl) hn2 ⟨lx_nb hn3, lx_s7 hss hk⟩ rfl (gx_w8 (gx_kI gx_k0) (Nat.le_of_ble_eq_true rfl)) dL_law_915 rfl ?_
  refine gx_icmp_eq (tgt := 1257) hX dL_law_918 (by decide) (a := some ()) (b := none) (r := ()) (if_pos rfl) (fun _ => ?_) (fun h => by cases h)
  exact kont C σ ss hR' (lx_ss hss)
set_option maxHeartbeats 4000000 in
theorem lx_c23 {w : gw_W} {X : gx_X} {n n0 : Nat} {P' : Heap → Prop} {oc : Outcome} (K : lx_K w X iL_law n n0 P' oc) (hn : 200 ≤ n) {b L bx k N ss : Nat} {xs : Nat → Int32} {C : xk_C} {σ : gm_S} {Rel : Nat → xk_C → gm_S → Prop} (hx : va_X b L xs (gx_s X) (gx_s X).heap) (hb : b < (gx_s X).heap.size ∧ ¬ gx_A X b) (hLk : 8 * k + 8 ≤ L ∧ L ≤ 512) (hS : lx_S23 N bx Rel) (hB : ∀ k C σ, Rel k C σ → xk_k C bx = 1 ∧ n0 ≤ xk_n C ∧ xk_n C ≤ n0 + 601024) (hk : k < 64) (hR : Rel k C σ) (hss : ss ≤ k * 100000 + 100000) (kont : ∀ C' σ' ss', Rel (k + 1) C' σ' → ss' ≤ (k + 1) * 100000 + 100000 → gx_G X (lx_P n0 w C' σ') (xk_n C' - n0) ss' [some (va_rf (some b)), some (va_rf (some bx)), some (va_rf (some (gw_mo w))), some (.int (nI (8 * k)))] 1257 []) : gx_G X (lx_P n0 w C σ) (xk_n C - n0) ss [some (va_rf (some b)), some (va_rf (some bx)), some (va_rf (some (gw_mo w))), some (.int (nI (8 * k)))] 923 [] := by
  have hX := K.1
  obtain ⟨C', σ', r, hfx, hfm, hR', hs⟩ := hS k C σ hk hR (xs (8 * k + 1)) (xs (8 * k + 2)) (xs (8 * k + 3)) (xs (8 * k + 4)) (xs (8 * k + 5)) (xs (8 * k + 6)) (xs (8 * k + 7))
  obtain ⟨hkx, hn0, hn1⟩ := hB k _ _ hR
  obtain ⟨-, hn2, hn3⟩ := hB (k + 1) _ _ hR'
  refine gx_aload_n hX dL_law_923 rfl ?_
  refine lx_arg (j := 1) hX hx hb rfl ⟨by omega, by omega⟩ (by decide) ⟨dL_law_924, dL_law_925, dL_law_926, dL_law_927, dL_law_928⟩ ?_
  refine lx_arg (j := 2) hX hx hb rfl ⟨by omega, by omega⟩ (by decide) ⟨dL_law_929, dL_law_930, dL_law_931, dL_law_932, dL_law_933⟩ ?_
  refine lx_arg (j := 3) hX hx hb rfl ⟨by omega, by omega⟩ (by decide) ⟨dL_law_934, dL_law_935, dL_law_936, dL_law_937, dL_law_938⟩ ?_
  refine lx_arg (j := 4) hX hx hb rfl ⟨by omega, by omega⟩ (by decide) ⟨dL_law_939, dL_law_940, dL_law_941, dL_law_942, dL_law_943⟩ ?_
  refine lx_arg (j := 5) hX hx hb rfl ⟨by omega, by omega⟩ (by decide) ⟨dL_law_944, dL_law_945, dL_law_946, dL_law_947, dL_law_948⟩ ?_
  refine lx_argb (j := 6) hX hx hb rfl ⟨by omega, by omega⟩ (by decide) ⟨dL_law_949, dL_law_950, dL_law_951, dL_law_953, dL_law_954⟩ ?_
  refine lx_argb (j := 7) hX hx hb rfl ⟨by omega, by omega⟩ (by decide) ⟨dL_law_955, dL_law_956, dL_law_957, dL_law_959, dL_law_960⟩ ?_
  have hM : gx_T (gw_I w (lx_A n0 w)) (lx_A n0 w) (gx_l X) yX0_film iX0_film 8 (va_rf (some bx) :: [.int ((xs (8 * k + 1))), .int ((xs (8 * k + 2))), .int ((xs (8 * k + 3))), .int ((xs (8 * k + 4))), .int ((xs (8 * k + 5))), .int ((xs (8 * k + 6))), .int ((xs (8 * k + 7)))]) (xk_P (lx_A n0 w) w C) (xk_n C' - xk_n C) (xk_s C' - xk_s C) (xk_P (lx_A n0 w) w C') (.returned (some (.int r))) := (tX0_film w (lx_A n0 w) (gx_l X) bx C ((xs (8 * k + 1))) ((xs (8 * k + 2))) ((xs (8 * k + 3))) ((xs (8 * k + 4))) ((xs (8 * k + 5))) ((xs (8 * k + 6))) ((xs (8 * k + 7))) (r := (C', r)) hfx)
  refine lx_cA (As := [.int ((xs (8 * k + 1))), .int ((xs (8 * k + 2))), .int ((xs (8 * k + 3))), .int ((xs (8 * k + 4))), .int ((xs (8 * k + 5))), .int ((xs (8 * k + 6))), .int ((xs (8 * k + 7)))]) (rest := []) (C := C) (C' := C') (σ := σ) (r := r) K hM (lw_V q1074 q1075 q1076 q86 q1077) ⟨rfl, dsX0_film⟩ (Nat.le_trans (by decide) hn) (Nat.le_of_ble_eq_true rfl) hkx hn0 ⟨⟨lx_nb hn1, lx_nb hn3⟩, lx_s8 hss hk hs⟩ rfl (gx_w8 gx_k0 (Nat.le_of_ble_eq_true rfl)) dL_law_961 rfl ?_
  refine gx_aload_n hX dL_law_964 rfl ?_
  refine lx_arg (j := 1) hX hx hb rfl ⟨by omega, by omega⟩ (by decide) ⟨dL_law_965, dL_law_966, dL_law_967, dL_law_968, dL_law_969⟩ ?_
  refine lx_arg (j := 2) hX hx hb rfl ⟨by omega, by omega⟩ (by decide) ⟨dL_law_970, dL_law_971, dL_law_972, dL_law_973, dL_law_974⟩ ?_
  refine lx_arg (j := 3) hX hx hb rfl ⟨by omega, by omega⟩ (by decide) ⟨dL_law_975, dL_law_976, dL_law_977, dL_law_978, dL_law_979⟩ ?_
  refine lx_arg (j := 4) hX hx hb rfl ⟨by omega, by omega⟩ (by decide) ⟨dL_law_980, dL_law_981, dL_law_982, dL_law_983, dL_law_984⟩ ?_
  refine lx_arg (j := 5) hX hx hb rfl ⟨by omega, by omega⟩ (by decide) ⟨dL_law_985, dL_law_986, dL_law_987, dL_law_988, dL_law_989⟩ ?_
  refine lx_argb (j := 6) hX hx hb rfl ⟨by omega, by omega⟩ (by decide) ⟨dL_law_990, dL_law_991, dL_law_992, dL_law_994, dL_law_995⟩ ?_
  refine lx_argb (j := 7) hX hx hb rfl ⟨by omega, by omega⟩ (by decide) ⟨dL_law_996, dL_law_997, dL_law_998, dL_law_1000, dL_law_1001⟩ ?_
  have hM2 : gx_T (gw_I w (gm_A w)) (gm_A w) (gx_l X) yX3_film iX3_film 3 (va_rf (some (gw_mo w)) :: [.int ((xs (8 * k + 1))), .int ((xs (8 * k + 2))), .int ((xs (8 * k + 3))), .int ((xs (8 * k + 4))), .int ((xs (8 * k + 5))), .int ((xs (8 * k + 6))), .int ((xs (8 * k + 7)))]) (gm_P w σ) 0 0 (gm_P w σ') (.returned (some (.int r))) := (tX3_film w (gm_A w) (fun _ h => h) (gx_l X) σ ((xs (8 * k + 1))) ((xs (8 * k + 2))) ((xs (8 * k + 3))) ((xs (8 * k + 4))) ((xs (8 * k + 5))) ((xs (8 * k + 6))) ((xs (8 * k + 7))) (r := (σ', r)) hfm)
  refine lx_cM (As := [.int ((xs (8 * k + 1))), .int ((xs (8 * k + 2))), .int ((xs (8 * k + 3))), .int ((xs (8 * k + 4))), .int ((xs (8 * k + 5))), .int ((xs (8 * k + 6))), .int ((xs (8 * k + 7)))]) (rest := [.int r]) (C := C') (σ := σ) (σ' := σ') (r := r) K hM2 (lw_V q1775 q1776 q1777 q92 q1778) ⟨rfl, dsX3_film⟩ (Nat.le_trans (by decide) hn) (Nat.le_of_ble_eq_true rfl) hn2 ⟨lx_nb hn3, lx_s8 hss hk hs⟩ rfl (gx_w8 (gx_kI gx_k0) (Nat.le_of_ble_eq_true rfl)) dL_law_1002 rfl ?_
  refine gx_icmp_eq (tgt := 1257) hX dL_law_1005 (by decide) (a := some ()) (b := none) (r := ()) (if_pos rfl) (fun _ => ?_) (fun h => by cases h)
  exact kont C' σ' (ss + (xk_s C' - xk_s C)) hR' (lx_ss2 hss hs)
set_option maxHeartbeats 4000000 in
theorem lx_c24 {w : gw_W} {X : gx_X} {n n0 : Nat} {P' : Heap → Prop} {oc : Outcome} (K : lx_K w X iL_law n n0 P' oc) (hn : 200 ≤ n) {b L bx k N ss : Nat} {xs : Nat → Int32} {C : xk_C} {σ : gm_S} {Rel : Nat → xk_C → gm_S → Prop} (hx : va_X b L xs (gx_s X) (gx_s X).heap) (hb : b < (gx_s X).heap.size ∧ ¬ gx_A X b) (hLk : 8 * k + 8 ≤ L ∧ L ≤ 512) (hS : lx_S24 N bx Rel) (hB : ∀ k C σ, Rel k C σ → xk_k C bx = 1 ∧ n0 ≤ xk_n C ∧ xk_n C ≤ n0 + 601024) (hk : k < 64) (hR : Rel k C σ) (hss : ss ≤ k * 100000 + 100000) (kont : ∀ C' σ' ss', Rel (k + 1) C' σ' → ss' ≤ (k + 1) * 100000 + 100000 → gx_G X (lx_P n0 w C' σ') (xk_n C' - n0) ss' [some (va_rf (some b)), some (va_rf (some bx)), some (va_rf (some (gw_mo w))), some (.int (nI (8 * k)))] 1257 []) : gx_G X (lx_P n0 w C σ) (xk_n C - n0) ss [some (va_rf (some b)), some (va_rf (some bx)), some (va_rf (some (gw_mo w))), some (.int (nI (8 * k)))] 1010 [] := by
  have hX := K.1
  obtain ⟨C', σ', r, hfx, hfm, hR'⟩ := hS k C σ hk hR (xs (8 * k + 1)) (xs (8 * k + 2))
  obtain ⟨hkx, hn0, hn1⟩ := hB k _ _ hR
  obtain ⟨-, hn2, hn3⟩ := hB (k + 1) _ _ hR'
  refine gx_aload_n hX dL_law_1010 rfl ?_
  refine lx_arg (j := 1) hX hx hb rfl ⟨by omega, by omega⟩ (by decide) ⟨dL_law_1011, dL_law_1012, dL_law_1013, dL_law_1014, dL_law_1015⟩ ?_
  refine lx_arg (j := 2) hX hx hb rfl ⟨by omega, by omega⟩ (by decide) ⟨dL_law_1016, dL_law_1017, dL_law_1018, dL_law_1019, dL_law_1020⟩ ?_
  have hM : gx_T (gw_I w (lx_A n0 w)) (lx_A n0 w) (gx_l X) yX0_reads iX0_reads 137 (va_rf (some bx) :: [.int ((xs (8 * k + 1))), .int ((xs (8 * k + 2)))]) (xk_P (lx_A n0 w) w C) 0 0 (xk_P (lx_A n0 w) w C') (.returned (some (.int r))) := (tX0_reads w (lx_A n0 w) (gx_l X) N bx C ((xs (8 * k + 1))) ((xs (8 * k + 2))) (r := (C', r)) hfx)
  refine lx_cN (As := [.int ((xs (8 * k + 1))), .int ((xs (8 * k + 2)))]) (rest := []) (C := C) (C' := C') (σ := σ) (r := r) K hM (lw_V q1106 q1107 q1108 q86 q1109) ⟨rfl, dsX0_reads⟩ (Nat.le_trans (by decide) hn) (Nat.le_of_ble_eq_true rfl) hkx hn0 ⟨lx_nb hn1, lx_s7 hss hk⟩ rfl (gx_w8 gx_k0 (Nat.le_of_ble_eq_true rfl)) dL_law_1021 rfl ?_
  refine gx_aload_n hX dL_law_1024 rfl ?_
  refine lx_arg (j := 1) hX hx hb rfl ⟨by omega, by omega⟩ (by decide) ⟨dL_law_1025, dL_law_1026, dL_law_1027, dL_law_1028, dL_law_1029⟩ ?_
  refine lx_arg (j := 2) hX hx hb rfl ⟨by omega, by omega⟩ (by decide) ⟨dL_law_1030, dL_law_1031, dL_law_1032, dL_law_1033, dL_law_1034⟩ ?_
  have hM2 : gx_T (gw_I w (gm_A w)) (gm_A w) (gx_l X) yX3_reads iX3_reads 5 (va_rf (some (gw_mo w)) :: [.int ((xs (8 * k + 1))), .int ((xs (8 * k + 2)))]) (gm_P w σ) 0 0 (gm_P w σ') (.returned (some (.int r))) := (tX3_reads w (gm_A w) (fun _ h => h) (gx_l X) N σ ((xs (8 * k + 1))) ((xs (8 * k + 2))) (r := (σ', r)) hfm)
  refine lx_cM (As := [.int ((xs (8 * k + 1))), .int ((xs (8 * k + 2)))]) (rest := [.int r]) (C := C') (σ := σ) (σ' := σ') (r := r) K hM2 (lw_V q1779 q1780 q1781 q92 q1782) ⟨rfl, dsX3_reads⟩ (Nat.le_trans (by decide) hn) (Nat.le_of_ble_eq_true rfl) hn2 ⟨lx_nb hn3, lx_s7 hss hk⟩ rfl (gx_w8 (gx_kI gx_k0) (Nat.le_of_ble_eq_true rfl)) dL_law_1035 rfl ?_
  refine gx_icmp_eq (tgt := 1257) hX dL_law_1038 (by decide) (a := some ()) (b := none) (r := ()) (if_pos rfl) (fun _ => ?_) (fun h => by cases h)
  exact kont C' σ' ss hR' (lx_ss hss)
set_option maxHeartbeats 4000000 in
theorem lx_c25 {w : gw_W} {X : gx_X} {n n0 : Nat} {P' : Heap → Prop} {oc : Outcome} (K : lx_K w X iL_law n n0 P' oc) (hn : 200 ≤ n) {b L bx k N ss : Nat} {xs : Nat → Int32} {C : xk_C} {σ : gm_S} {Rel : Nat → xk_C → gm_S → Prop} (hx : va_X b L xs (gx_s X) (gx_s X).heap) (hb : b < (gx_s X).heap.size ∧ ¬ gx_A X b) (hLk : 8 * k + 8 ≤ L ∧ L ≤ 512) (hS : lx_S25 N bx Rel) (hB : ∀ k C σ, Rel k C σ → xk_k C bx = 1 ∧ n0 ≤ xk_n C ∧ xk_n C ≤ n0 + 601024) (hk : k < 64) (hR : Rel k C σ) (hss : ss ≤ k * 100000 + 100000) (kont : ∀ C' σ' ss', Rel (k + 1) C' σ' → ss' ≤ (k + 1) * 100000 + 100000 → gx_G X (lx_P n0 w C' σ') (xk_n C' - n0) ss' [some (va_rf (some b)), some (va_rf (some bx)), some (va_rf (some (gw_mo w))), some (.int (nI (8 * k)))] 1257 []) : gx_G X (lx_P n0 w C σ) (xk_n C - n0) ss [some (va_rf (some b)), some (va_rf (some bx)), some (va_rf (some (gw_mo w))), some (.int (nI (8 * k)))] 1043 [] := by
  have hX := K.1
  obtain ⟨C', σ', r, hfx, hfm, hR'⟩ := hS k C σ hk hR 
  obtain ⟨hkx, hn0, hn1⟩ := hB k _ _ hR
  obtain ⟨-, hn2, hn3⟩ := hB (k + 1) _ _ hR'
  refine gx_aload_n hX dL_law_1043 rfl ?_
  have hM : gx_T (gw_I w (lx_A n0 w)) (lx_A n0 w) (gx_l X) yX0_sure iX0_sure 137 (va_rf (some bx) :: []) (xk_P (lx_A n0 w) w C) 0 0 (xk_P (lx_A n0 w) w C') (.returned (some (.int r))) := (tX0_sure w (lx_A n0 w) (gx_l X) N bx C  (r := (C', r)) hfx)
  refine lx_cN (As := []) (rest := []) (C := C) (C' := C') (σ := σ) (r := r) K hM (lw_V q1123 q1124 q1125 q86 q1126) ⟨rfl, dsX0_sure⟩ (Nat.le_trans (by decide) hn) (Nat.le_of_ble_eq_true rfl) hkx hn0 ⟨lx_nb hn1, lx_s7 hss hk⟩ rfl (gx_w8 gx_k0 (Nat.le_of_ble_eq_true rfl)) dL_law_1044 rfl ?_
  refine gx_aload_n hX dL_law_1047 rfl ?_
  have hM2 : gx_T (gw_I w (gm_A w)) (gm_A w) (gx_l X) yX3_sure iX3_sure 5 (va_rf (some (gw_mo w)) :: []) (gm_P w σ) 0 0 (gm_P w σ') (.returned (some (.int r))) := (tX3_sure w (gm_A w) (fun _ h => h) (gx_l X) N σ  (r := (σ', r)) hfm)
  refine lx_cM (As := []) (rest := [.int r]) (C := C') (σ := σ) (σ' := σ') (r := r) K hM2 (lw_V q1787 q1788 q1789 q92 q1790) ⟨rfl, dsX3_sure⟩ (Nat.le_trans (by decide) hn) (Nat.le_of_ble_eq_true rfl) hn2 ⟨lx_nb hn3, lx_s7 hss hk⟩ rfl (gx_w8 (gx_kI gx_k0) (Nat.le_of_ble_eq_true rfl)) dL_law_1048 rfl ?_
  refine gx_icmp_eq (tgt := 1257) hX dL_law_1051 (by decide) (a := some ()) (b := none) (r := ()) (if_pos rfl) (fun _ => ?_) (fun h => by cases h)
  exact kont C' σ' ss hR' (lx_ss hss)
set_option maxHeartbeats 4000000 in
theorem lx_c26 {w : gw_W} {X : gx_X} {n n0 : Nat} {P' : Heap → Prop} {oc : Outcome} (K : lx_K w X iL_law n n0 P' oc) (hn : 200 ≤ n) {b L bx k N ss : Nat} {xs : Nat → Int32} {C : xk_C} {σ : gm_S} {Rel : Nat → xk_C → gm_S → Prop} (hx : va_X b L xs (gx_s X) (gx_s X).heap) (hb : b < (gx_s X).heap.size ∧ ¬ gx_A X b) (hLk : 8 * k + 8 ≤ L ∧ L ≤ 512) (hS : lx_S26 N bx Rel) (hB : ∀ k C σ, Rel k C σ → xk_k C bx = 1 ∧ n0 ≤ xk_n C ∧ xk_n C ≤ n0 + 601024) (hk : k < 64) (hR : Rel k C σ) (hss : ss ≤ k * 100000 + 100000) (kont : ∀ C' σ' ss', Rel (k + 1) C' σ' → ss' ≤ (k + 1) * 100000 + 100000 → gx_G X (lx_P n0 w C' σ') (xk_n C' - n0) ss' [some (va_rf (some b)), some (va_rf (some bx)), some (va_rf (some (gw_mo w))), some (.int (nI (8 * k)))] 1257 []) : gx_G X (lx_P n0 w C σ) (xk_n C - n0) ss [some (va_rf (some b)), some (va_rf (some bx)), some (va_rf (some (gw_mo w))), some (.int (nI (8 * k)))] 1056 [] := by
  have hX := K.1
  obtain ⟨C', σ', r, hfx, hfm, hR', hs⟩ := hS k C σ hk hR (xs (8 * k + 1)) (xs (8 * k + 2)) (xs (8 * k + 3)) (xs (8 * k + 4))
  obtain ⟨hkx, hn0, hn1⟩ := hB k _ _ hR
  obtain ⟨-, hn2, hn3⟩ := hB (k + 1) _ _ hR'
  refine gx_aload_n hX dL_law_1056 rfl ?_
  refine lx_arg (j := 1) hX hx hb rfl ⟨by omega, by omega⟩ (by decide) ⟨dL_law_1057, dL_law_1058, dL_law_1059, dL_law_1060, dL_law_1061⟩ ?_
  refine lx_arg (j := 2) hX hx hb rfl ⟨by omega, by omega⟩ (by decide) ⟨dL_law_1062, dL_law_1063, dL_law_1064, dL_law_1065, dL_law_1066⟩ ?_
  refine lx_arg (j := 3) hX hx hb rfl ⟨by omega, by omega⟩ (by decide) ⟨dL_law_1067, dL_law_1068, dL_law_1069, dL_law_1070, dL_law_1071⟩ ?_
  refine lx_arg (j := 4) hX hx hb rfl ⟨by omega, by omega⟩ (by decide) ⟨dL_law_1072, dL_law_1073, dL_law_1074, dL_law_1075, dL_law_1076⟩ ?_
  have hM : gx_T (gw_I w (lx_A n0 w)) (lx_A n0 w) (gx_l X) yX0_mend iX0_mend 142 (va_rf (some bx) :: [.int ((xs (8 * k + 1))), .int ((xs (8 * k + 2))), .int ((xs (8 * k + 3))), .int ((xs (8 * k + 4)))]) (xk_P (lx_A n0 w) w C) (xk_n C' - xk_n C) (xk_s C' - xk_s C) (xk_P (lx_A n0 w) w C') (.returned (some (.int r))) := (tX0_mend w (lx_A n0 w) (gx_l X) N bx C ((xs (8 * k + 1))) ((xs (8 * k + 2))) ((xs (8 * k + 3))) ((xs (8 * k + 4))) (r := (C', r)) hfx)
  refine lx_cA (As := [.int ((xs (8 * k + 1))), .int ((xs (8 * k + 2))), .int ((xs (8 * k + 3))), .int ((xs (8 * k + 4)))]) (rest := []) (C := C) (C' := C') (σ := σ) (r := r) K hM (lw_V q1127 q1128 q1129 q86 q1130) ⟨rfl, dsX0_mend⟩ (Nat.le_trans (by decide) hn) (Nat.le_of_ble_eq_true rfl) hkx hn0 ⟨⟨lx_nb hn1, lx_nb hn3⟩, lx_s8 hss hk hs⟩ rfl (gx_w8 gx_k0 (Nat.le_of_ble_eq_true rfl)) dL_law_1077 rfl ?_
  refine gx_aload_n hX dL_law_1080 rfl ?_
  refine lx_arg (j := 1) hX hx hb rfl ⟨by omega, by omega⟩ (by decide) ⟨dL_law_1081, dL_law_1082, dL_law_1083, dL_law_1084, dL_law_1085⟩ ?_
  refine lx_arg (j := 2) hX hx hb rfl ⟨by omega, by omega⟩ (by decide) ⟨dL_law_1086, dL_law_1087, dL_law_1088, dL_law_1089, dL_law_1090⟩ ?_
  refine lx_arg (j := 3) hX hx hb rfl ⟨by omega, by omega⟩ (by decide) ⟨dL_law_1091, dL_law_1092, dL_law_1093, dL_law_1094, dL_law_1095⟩ ?_
  refine lx_arg (j := 4) hX hx hb rfl ⟨by omega, by omega⟩ (by decide) ⟨dL_law_1096, dL_law_1097, dL_law_1098, dL_law_1099, dL_law_1100⟩ ?_
  have hM2 : gx_T (gw_I w (gm_A w)) (gm_A w) (gx_l X) yX3_mend iX3_mend 9 (va_rf (some (gw_mo w)) :: [.int ((xs (8 * k + 1))), .int ((xs (8 * k + 2))), .int ((xs (8 * k + 3))), .int ((xs (8 * k + 4)))]) (gm_P w σ) 0 0 (gm_P w σ') (.returned (some (.int r))) := (tX3_mend w (gm_A w) (fun _ h => h) (gx_l X) N σ ((xs (8 * k + 1))) ((xs (8 * k + 2))) ((xs (8 * k + 3))) ((xs (8 * k + 4))) (r := (σ', r)) hfm)
  refine lx_cM (As := [.int ((xs (8 * k + 1))), .int ((xs (8 * k + 2))), .int ((xs (8 * k + 3))), .int ((xs (8 * k + 4)))]) (rest := [.int r]) (C := C') (σ := σ) (σ' := σ') (r := r) K hM2 (lw_V q1791 q1792 q1793 q92 q1794) ⟨rfl, dsX3_mend⟩ (Nat.le_trans (by decide) hn) (Nat.le_of_ble_eq_true rfl) hn2 ⟨lx_nb hn3, lx_s8 hss hk hs⟩ rfl (gx_w8 (gx_kI gx_k0) (Nat.le_of_ble_eq_true rfl)) dL_law_1101 rfl ?_
  refine gx_icmp_eq (tgt := 1257) hX dL_law_1104 (by decide) (a := some ()) (b := none) (r := ()) (if_pos rfl) (fun _ => ?_) (fun h => by cases h)
  exact kont C' σ' (ss + (xk_s C' - xk_s C)) hR' (lx_ss2 hss hs)
set_option maxHeartbeats 4000000 in
theorem lx_c27 {w : gw_W} {X : gx_X} {n n0 : Nat} {P' : Heap → Prop} {oc : Outcome} (K : lx_K w X iL_law n n0 P' oc) (hn : 200 ≤ n) {b L bx k N ss : Nat} {xs : Nat → Int32} {C : xk_C} {σ : gm_S} {Rel : Nat → xk_C → gm_S → Prop} (hx : va_X b L xs (gx_s X) (gx_s X).heap) (hb : b < (gx_s X).heap.size ∧ ¬ gx_A X b) (hLk : 8 * k + 8 ≤ L ∧ L ≤ 512) (hS : lx_S27 N bx Rel) (hB : ∀ k C σ, Rel k C σ → xk_k C bx = 1 ∧ n0 ≤ xk_n C ∧ xk_n C ≤ n0 + 601024) (hk : k < 64) (hR : Rel k C σ) (hss : ss ≤ k * 100000 + 100000) (kont : ∀ C' σ' ss', Rel (k + 1) C' σ' → ss' ≤ (k + 1) * 100000 + 100000 → gx_G X (lx_P n0 w C' σ') (xk_n C' - n0) ss' [some (va_rf (some b)), some (va_rf (some bx)), some (va_rf (some (gw_mo w))), some (.int (nI (8 * k)))] 1257 []) : gx_G X (lx_P n0 w C σ) (xk_n C - n0) ss [some (va_rf (some b)), some (va_rf (some bx)), some (va_rf (some (gw_mo w))), some (.int (nI (8 * k)))] 1109 [] := by
  have hX := K.1
  obtain ⟨C', σ', r, hfx, hfm, hR'⟩ := hS k C σ hk hR (xs (8 * k + 1)) (xs (8 * k + 2)) (xs (8 * k + 3))
  obtain ⟨hkx, hn0, hn1⟩ := hB k _ _ hR
  obtain ⟨-, hn2, hn3⟩ := hB (k + 1) _ _ hR'
  refine gx_aload_n hX dL_law_1109 rfl ?_
  refine lx_arg (j := 1) hX hx hb rfl ⟨by omega, by omega⟩ (by decide) ⟨dL_law_1110, dL_law_1111, dL_law_1112, dL_law_1113, dL_law_1114⟩ ?_
  refine lx_arg (j := 2) hX hx hb rfl ⟨by omega, by omega⟩ (by decide) ⟨dL_law_1115, dL_law_1116, dL_law_1117, dL_law_1118, dL_law_1119⟩ ?_
  refine lx_arg (j := 3) hX hx hb rfl ⟨by omega, by omega⟩ (by decide) ⟨dL_law_1120, dL_law_1121, dL_law_1122, dL_law_1123, dL_law_1124⟩ ?_
  have hM : gx_T (gw_I w (lx_A n0 w)) (lx_A n0 w) (gx_l X) yX0_act iX0_act 9 (va_rf (some bx) :: [.int ((xs (8 * k + 1))), .int ((xs (8 * k + 2))), .int ((xs (8 * k + 3)))]) (xk_P (lx_A n0 w) w C) 0 0 (xk_P (lx_A n0 w) w C') (.returned (some (.int r))) := (tX0_act w (lx_A n0 w) (gx_l X) N bx C ((xs (8 * k + 1))) ((xs (8 * k + 2))) ((xs (8 * k + 3))) (r := (C', r)) hfx)
  refine lx_cN (As := [.int ((xs (8 * k + 1))), .int ((xs (8 * k + 2))), .int ((xs (8 * k + 3)))]) (rest := []) (C := C) (C' := C') (σ := σ) (r := r) K hM (lw_V q1212 q1213 q1214 q86 q1215) ⟨rfl, dsX0_act⟩ (Nat.le_trans (by decide) hn) (Nat.le_of_ble_eq_true rfl) hkx hn0 ⟨lx_nb hn1, lx_s7 hss hk⟩ rfl (gx_w8 gx_k0 (Nat.le_of_ble_eq_true rfl)) dL_law_1125 rfl ?_
  refine gx_aload_n hX dL_law_1128 rfl ?_
  refine lx_arg (j := 1) hX hx hb rfl ⟨by omega, by omega⟩ (by decide) ⟨dL_law_1129, dL_law_1130, dL_law_1131, dL_law_1132, dL_law_1133⟩ ?_
  refine lx_arg (j := 2) hX hx hb rfl ⟨by omega, by omega⟩ (by decide) ⟨dL_law_1134, dL_law_1135, dL_law_1136, dL_law_1137, dL_law_1138⟩ ?_
  refine lx_arg (j := 3) hX hx hb rfl ⟨by omega, by omega⟩ (by decide) ⟨dL_law_1139, dL_law_1140, dL_law_1141, dL_law_1142, dL_law_1143⟩ ?_
  have hM2 : gx_T (gw_I w (gm_A w)) (gm_A w) (gx_l X) yX3_act iX3_act 9 (va_rf (some (gw_mo w)) :: [.int ((xs (8 * k + 1))), .int ((xs (8 * k + 2))), .int ((xs (8 * k + 3)))]) (gm_P w σ) 0 0 (gm_P w σ') (.returned (some (.int r))) := (tX3_act w (gm_A w) (fun _ h => h) (gx_l X) N σ ((xs (8 * k + 1))) ((xs (8 * k + 2))) ((xs (8 * k + 3))) (r := (σ', r)) hfm)
  refine lx_cM (As := [.int ((xs (8 * k + 1))), .int ((xs (8 * k + 2))), .int ((xs (8 * k + 3)))]) (rest := [.int r]) (C := C') (σ := σ) (σ' := σ') (r := r) K hM2 (lw_V q1804 q1805 q1806 q92 q1807) ⟨rfl, dsX3_act⟩ (Nat.le_trans (by decide) hn) (Nat.le_of_ble_eq_true rfl) hn2 ⟨lx_nb hn3, lx_s7 hss hk⟩ rfl (gx_w8 (gx_kI gx_k0) (Nat.le_of_ble_eq_true rfl)) dL_law_1144 rfl ?_
  refine gx_icmp_eq (tgt := 1257) hX dL_law_1147 (by decide) (a := some ()) (b := none) (r := ()) (if_pos rfl) (fun _ => ?_) (fun h => by cases h)
  exact kont C' σ' ss hR' (lx_ss hss)
set_option maxHeartbeats 4000000 in
theorem lx_c28 {w : gw_W} {X : gx_X} {n n0 : Nat} {P' : Heap → Prop} {oc : Outcome} (K : lx_K w X iL_law n n0 P' oc) (hn : 200 ≤ n) {b L bx k N ss : Nat} {xs : Nat → Int32} {C : xk_C} {σ : gm_S} {Rel : Nat → xk_C → gm_S → Prop} (hx : va_X b L xs (gx_s X) (gx_s X).heap) (hb : b < (gx_s X).heap.size ∧ ¬ gx_A X b) (hLk : 8 * k + 8 ≤ L ∧ L ≤ 512) (hS : lx_S28 N bx Rel) (hB : ∀ k C σ, Rel k C σ → xk_k C bx = 1 ∧ n0 ≤ xk_n C ∧ xk_n C ≤ n0 + 601024) (hk : k < 64) (hR : Rel k C σ) (hss : ss ≤ k * 100000 + 100000) (kont : ∀ C' σ' ss', Rel (k + 1) C' σ' → ss' ≤ (k + 1) * 100000 + 100000 → gx_G X (lx_P n0 w C' σ') (xk_n C' - n0) ss' [some (va_rf (some b)), some (va_rf (some bx)), some (va_rf (some (gw_mo w))), some (.int (nI (8 * k)))] 1257 []) : gx_G X (lx_P n0 w C σ) (xk_n C - n0) ss [some (va_rf (some b)), some (va_rf (some bx)), some (va_rf (some (gw_mo w))), some (.int (nI (8 * k)))] 1152 [] := by
  have hX := K.1
  obtain ⟨r, hfx, hfm, hR'⟩ := hS k C σ hk hR (xs (8 * k + 1))
  obtain ⟨hkx, hn0, hn1⟩ := hB k _ _ hR
  obtain ⟨-, hn2, hn3⟩ := hB (k + 1) _ _ hR'
  refine gx_aload_n hX dL_law_1152 rfl ?_
  refine lx_arg (j := 1) hX hx hb rfl ⟨by omega, by omega⟩ (by decide) ⟨dL_law_1153, dL_law_1154, dL_law_1155, dL_law_1156, dL_law_1157⟩ ?_
  have hM : gx_T (gw_I w (lx_A n0 w)) (lx_A n0 w) (gx_l X) yX0_trace iX0_trace 2 (va_rf (some bx) :: [.int ((xs (8 * k + 1)))]) (xk_P (lx_A n0 w) w C) 0 0 (xk_P (lx_A n0 w) w C) (.returned (some (.int r))) := (tX0_trace w (lx_A n0 w) (gx_l X) bx C ((xs (8 * k + 1))) (r := r) hfx)
  refine lx_cN (As := [.int ((xs (8 * k + 1)))]) (rest := []) (C := C) (C' := C) (σ := σ) (r := r) K hM (lw_V q1287 q1288 q1289 q86 q1290) ⟨rfl, dsX0_trace⟩ (Nat.le_trans (by decide) hn) (Nat.le_of_ble_eq_true rfl) hkx hn0 ⟨lx_nb hn1, lx_s7 hss hk⟩ rfl (gx_w8 gx_k0 (Nat.le_of_ble_eq_true rfl)) dL_law_1158 rfl ?_
  refine gx_aload_n hX dL_law_1161 rfl ?_
  refine lx_arg (j := 1) hX hx hb rfl ⟨by omega, by omega⟩ (by decide) ⟨dL_law_1162, dL_law_1163, dL_law_1164, dL_law_1165, dL_law_1166⟩ ?_
  have hM2 : gx_T (gw_I w (gm_A w)) (gm_A w) (gx_l X) yX3_trace iX3_trace 2 (va_rf (some (gw_mo w)) :: [.int ((xs (8 * k + 1)))]) (gm_P w σ) 0 0 (gm_P w σ) (.returned (some (.int r))) := (tX3_trace w (gm_A w) (fun _ h => h) (gx_l X) σ ((xs (8 * k + 1))) (r := r) hfm)
  refine lx_cM (As := [.int ((xs (8 * k + 1)))]) (rest := [.int r]) (C := C) (σ := σ) (σ' := σ) (r := r) K hM2 (lw_V q1843 q1844 q1845 q92 q1846) ⟨rfl, dsX3_trace⟩ (Nat.le_trans (by decide) hn) (Nat.le_of_ble_eq_true rfl) hn2 ⟨lx_nb hn3, lx_s7 hss hk⟩ rfl (gx_w8 (gx_kI gx_k0) (Nat.le_of_ble_eq_true rfl)) dL_law_1167 rfl ?_
  refine gx_icmp_eq (tgt := 1257) hX dL_law_1170 (by decide) (a := some ()) (b := none) (r := ()) (if_pos rfl) (fun _ => ?_) (fun h => by cases h)
  exact kont C σ ss hR' (lx_ss hss)
set_option maxHeartbeats 4000000 in
theorem lx_c29 {w : gw_W} {X : gx_X} {n n0 : Nat} {P' : Heap → Prop} {oc : Outcome} (K : lx_K w X iL_law n n0 P' oc) (hn : 200 ≤ n) {b L bx k N ss : Nat} {xs : Nat → Int32} {C : xk_C} {σ : gm_S} {Rel : Nat → xk_C → gm_S → Prop} (hx : va_X b L xs (gx_s X) (gx_s X).heap) (hb : b < (gx_s X).heap.size ∧ ¬ gx_A X b) (hLk : 8 * k + 8 ≤ L ∧ L ≤ 512) (hS : lx_S29 N bx Rel) (hB : ∀ k C σ, Rel k C σ → xk_k C bx = 1 ∧ n0 ≤ xk_n C ∧ xk_n C ≤ n0 + 601024) (hk : k < 64) (hR : Rel k C σ) (hss : ss ≤ k * 100000 + 100000) (kont : ∀ C' σ' ss', Rel (k + 1) C' σ' → ss' ≤ (k + 1) * 100000 + 100000 → gx_G X (lx_P n0 w C' σ') (xk_n C' - n0) ss' [some (va_rf (some b)), some (va_rf (some bx)), some (va_rf (some (gw_mo w))), some (.int (nI (8 * k)))] 1257 []) : gx_G X (lx_P n0 w C σ) (xk_n C - n0) ss [some (va_rf (some b)), some (va_rf (some bx)), some (va_rf (some (gw_mo w))), some (.int (nI (8 * k)))] 1175 [] := by
  have hX := K.1
  obtain ⟨r, hfx, hfm, hR'⟩ := hS k C σ hk hR (xs (8 * k + 1)) (xs (8 * k + 2))
  obtain ⟨hkx, hn0, hn1⟩ := hB k _ _ hR
  obtain ⟨-, hn2, hn3⟩ := hB (k + 1) _ _ hR'
  refine gx_aload_n hX dL_law_1175 rfl ?_
  refine lx_arg (j := 1) hX hx hb rfl ⟨by omega, by omega⟩ (by decide) ⟨dL_law_1176, dL_law_1177, dL_law_1178, dL_law_1179, dL_law_1180⟩ ?_
  refine lx_arg (j := 2) hX hx hb rfl ⟨by omega, by omega⟩ (by decide) ⟨dL_law_1181, dL_law_1182, dL_law_1183, dL_law_1184, dL_law_1185⟩ ?_
  have hM : gx_T (gw_I w (lx_A n0 w)) (lx_A n0 w) (gx_l X) yX0_as iX0_as 7 (va_rf (some bx) :: [.int ((xs (8 * k + 1))), .int ((xs (8 * k + 2)))]) (xk_P (lx_A n0 w) w C) 0 0 (xk_P (lx_A n0 w) w C) (.returned (some (.int r))) := (tX0_as w (lx_A n0 w) (gx_l X) N bx C ((xs (8 * k + 1))) ((xs (8 * k + 2))) (r := r) hfx)
  refine lx_cN (As := [.int ((xs (8 * k + 1))), .int ((xs (8 * k + 2)))]) (rest := []) (C := C) (C' := C) (σ := σ) (r := r) K hM (lw_V q1291 q1292 q1293 q86 q1294) ⟨rfl, dsX0_as⟩ (Nat.le_trans (by decide) hn) (Nat.le_of_ble_eq_true rfl) hkx hn0 ⟨lx_nb hn1, lx_s7 hss hk⟩ rfl (gx_w8 gx_k0 (Nat.le_of_ble_eq_true rfl)) dL_law_1186 rfl ?_
  refine gx_aload_n hX dL_law_1189 rfl ?_
  refine lx_arg (j := 1) hX hx hb rfl ⟨by omega, by omega⟩ (by decide) ⟨dL_law_1190, dL_law_1191, dL_law_1192, dL_law_1193, dL_law_1194⟩ ?_
  refine lx_arg (j := 2) hX hx hb rfl ⟨by omega, by omega⟩ (by decide) ⟨dL_law_1195, dL_law_1196, dL_law_1197, dL_law_1198, dL_law_1199⟩ ?_
  have hM2 : gx_T (gw_I w (gm_A w)) (gm_A w) (gx_l X) yX3_as iX3_as 4 (va_rf (some (gw_mo w)) :: [.int ((xs (8 * k + 1))), .int ((xs (8 * k + 2)))]) (gm_P w σ) 0 0 (gm_P w σ) (.returned (some (.int r))) := (tX3_as w (gm_A w) (fun _ h => h) (gx_l X) N σ ((xs (8 * k + 1))) ((xs (8 * k + 2))) (r := r) hfm)
  refine lx_cM (As := [.int ((xs (8 * k + 1))), .int ((xs (8 * k + 2)))]) (rest := [.int r]) (C := C) (σ := σ) (σ' := σ) (r := r) K hM2 (lw_V q1847 q1848 q1849 q92 q1850) ⟨rfl, dsX3_as⟩ (Nat.le_trans (by decide) hn) (Nat.le_of_ble_eq_true rfl) hn2 ⟨lx_nb hn3, lx_s7 hss hk⟩ rfl (gx_w8 (gx_kI gx_k0) (Nat.le_of_ble_eq_true rfl)) dL_law_1200 rfl ?_
  refine gx_icmp_eq (tgt := 1257) hX dL_law_1203 (by decide) (a := some ()) (b := none) (r := ()) (if_pos rfl) (fun _ => ?_) (fun h => by cases h)
  exact kont C σ ss hR' (lx_ss hss)
set_option maxHeartbeats 4000000 in
theorem lx_c30 {w : gw_W} {X : gx_X} {n n0 : Nat} {P' : Heap → Prop} {oc : Outcome} (K : lx_K w X iL_law n n0 P' oc) (hn : 200 ≤ n) {b L bx k N ss : Nat} {xs : Nat → Int32} {C : xk_C} {σ : gm_S} {Rel : Nat → xk_C → gm_S → Prop} (hx : va_X b L xs (gx_s X) (gx_s X).heap) (hb : b < (gx_s X).heap.size ∧ ¬ gx_A X b) (hLk : 8 * k + 8 ≤ L ∧ L ≤ 512) (hS : lx_S30 N bx Rel) (hB : ∀ k C σ, Rel k C σ → xk_k C bx = 1 ∧ n0 ≤ xk_n C ∧ xk_n C ≤ n0 + 601024) (hk : k < 64) (hR : Rel k C σ) (hss : ss ≤ k * 100000 + 100000) (kont : ∀ C' σ' ss', Rel (k + 1) C' σ' → ss' ≤ (k + 1) * 100000 + 100000 → gx_G X (lx_P n0 w C' σ') (xk_n C' - n0) ss' [some (va_rf (some b)), some (va_rf (some bx)), some (va_rf (some (gw_mo w))), some (.int (nI (8 * k)))] 1257 []) : gx_G X (lx_P n0 w C σ) (xk_n C - n0) ss [some (va_rf (some b)), some (va_rf (some bx)), some (va_rf (some (gw_mo w))), some (.int (nI (8 * k)))] 1208 [] := by
  have hX := K.1
  obtain ⟨C', σ', r, hfx, hfm, hR', hs⟩ := hS k C σ hk hR 
  obtain ⟨hkx, hn0, hn1⟩ := hB k _ _ hR
  obtain ⟨-, hn2, hn3⟩ := hB (k + 1) _ _ hR'
  refine gx_aload_n hX dL_law_1208 rfl ?_
  have hM : gx_T (gw_I w (lx_A n0 w)) (lx_A n0 w) (gx_l X) yX0_image iX0_image 6 (va_rf (some bx) :: []) (xk_P (lx_A n0 w) w C) (xk_n C' - xk_n C) (xk_s C' - xk_s C) (xk_P (lx_A n0 w) w C') (.returned (some (.int r))) := (tX0_image w (lx_A n0 w) (gx_l X) N bx C  (r := (C', r)) hfx)
  refine lx_cA (As := []) (rest := []) (C := C) (C' := C') (σ := σ) (r := r) K hM (lw_V q1324 q1325 q1326 q86 q1327) ⟨rfl, dsX0_image⟩ (Nat.le_trans (by decide) hn) (Nat.le_of_ble_eq_true rfl) hkx hn0 ⟨⟨lx_nb hn1, lx_nb hn3⟩, lx_s8 hss hk hs⟩ rfl (gx_w8 gx_k0 (Nat.le_of_ble_eq_true rfl)) dL_law_1209 rfl ?_
  refine gx_aload_n hX dL_law_1212 rfl ?_
  have hM2 : gx_T (gw_I w (gm_A w)) (gm_A w) (gx_l X) yX3_image iX3_image 1 (va_rf (some (gw_mo w)) :: []) (gm_P w σ) 0 0 (gm_P w σ') (.returned (some (.int r))) := (tX3_image w (gm_A w) (fun _ h => h) (gx_l X) N σ  (r := (σ', r)) hfm)
  refine lx_cM (As := []) (rest := [.int r]) (C := C') (σ := σ) (σ' := σ') (r := r) K hM2 (lw_V q1851 q1852 q1853 q92 q1854) ⟨rfl, dsX3_image⟩ (Nat.le_trans (by decide) hn) (Nat.le_of_ble_eq_true rfl) hn2 ⟨lx_nb hn3, lx_s8 hss hk hs⟩ rfl (gx_w8 (gx_kI gx_k0) (Nat.le_of_ble_eq_true rfl)) dL_law_1213 rfl ?_
  refine gx_icmp_eq (tgt := 1257) hX dL_law_1216 (by decide) (a := some ()) (b := none) (r := ()) (if_pos rfl) (fun _ => ?_) (fun h => by cases h)
  exact kont C' σ' (ss + (xk_s C' - xk_s C)) hR' (lx_ss2 hss hs)
set_option maxHeartbeats 4000000 in
theorem lx_c31 {w : gw_W} {X : gx_X} {n n0 : Nat} {P' : Heap → Prop} {oc : Outcome} (K : lx_K w X iL_law n n0 P' oc) (hn : 200 ≤ n) {b L bx k N ss : Nat} {xs : Nat → Int32} {C : xk_C} {σ : gm_S} {Rel : Nat → xk_C → gm_S → Prop} (hx : va_X b L xs (gx_s X) (gx_s X).heap) (hb : b < (gx_s X).heap.size ∧ ¬ gx_A X b) (hLk : 8 * k + 8 ≤ L ∧ L ≤ 512) (hS : lx_S31 N bx Rel) (hB : ∀ k C σ, Rel k C σ → xk_k C bx = 1 ∧ n0 ≤ xk_n C ∧ xk_n C ≤ n0 + 601024) (hk : k < 64) (hR : Rel k C σ) (hss : ss ≤ k * 100000 + 100000) (kont : ∀ C' σ' ss', Rel (k + 1) C' σ' → ss' ≤ (k + 1) * 100000 + 100000 → gx_G X (lx_P n0 w C' σ') (xk_n C' - n0) ss' [some (va_rf (some b)), some (va_rf (some bx)), some (va_rf (some (gw_mo w))), some (.int (nI (8 * k)))] 1257 []) : gx_G X (lx_P n0 w C σ) (xk_n C - n0) ss [some (va_rf (some b)), some (va_rf (some bx)), some (va_rf (some (gw_mo w))), some (.int (nI (8 * k)))] 1221 [] := by
  have hX := K.1
  obtain ⟨C', σ', r, hfx, hfm, hR'⟩ := hS k C σ hk hR 
  obtain ⟨hkx, hn0, hn1⟩ := hB k _ _ hR
  obtain ⟨-, hn2, hn3⟩ := hB (k + 1) _ _ hR'
  refine gx_aload_n hX dL_law_1221 rfl ?_
  have hM : gx_T (gw_I w (lx_A n0 w)) (lx_A n0 w) (gx_l X) yX0_undo iX0_undo 7 (va_rf (some bx) :: []) (xk_P (lx_A n0 w) w C) 0 0 (xk_P (lx_A n0 w) w C') (.returned (some (.int r))) := (tX0_undo w (lx_A n0 w) (gx_l X) N bx C  (r := (C', r)) hfx)
  refine lx_cN (As := []) (rest := []) (C := C) (C' := C') (σ := σ) (r := r) K hM (lw_V q1328 q1329 q1330 q86 q1331) ⟨rfl, dsX0_undo⟩ (Nat.le_trans (by decide) hn) (Nat.le_of_ble_eq_true rfl) hkx hn0 ⟨lx_nb hn1, lx_s7 hss hk⟩ rfl (gx_w8 gx_k0 (Nat.le_of_ble_eq_true rfl)) dL_law_1222 rfl ?_
  refine gx_aload_n hX dL_law_1225 rfl ?_
  have hM2 : gx_T (gw_I w (gm_A w)) (gm_A w) (gx_l X) yX3_undo iX3_undo 1 (va_rf (some (gw_mo w)) :: []) (gm_P w σ) 0 0 (gm_P w σ') (.returned (some (.int r))) := (tX3_undo w (gm_A w) (fun _ h => h) (gx_l X) N σ  (r := (σ', r)) hfm)
  refine lx_cM (As := []) (rest := [.int r]) (C := C') (σ := σ) (σ' := σ') (r := r) K hM2 (lw_V q1855 q1856 q1857 q92 q1858) ⟨rfl, dsX3_undo⟩ (Nat.le_trans (by decide) hn) (Nat.le_of_ble_eq_true rfl) hn2 ⟨lx_nb hn3, lx_s7 hss hk⟩ rfl (gx_w8 (gx_kI gx_k0) (Nat.le_of_ble_eq_true rfl)) dL_law_1226 rfl ?_
  refine gx_icmp_eq (tgt := 1257) hX dL_law_1229 (by decide) (a := some ()) (b := none) (r := ()) (if_pos rfl) (fun _ => ?_) (fun h => by cases h)
  exact kont C' σ' ss hR' (lx_ss hss)
set_option maxHeartbeats 4000000 in
theorem lx_c32 {w : gw_W} {X : gx_X} {n n0 : Nat} {P' : Heap → Prop} {oc : Outcome} (K : lx_K w X iL_law n n0 P' oc) (hn : 200 ≤ n) {b L bx k N ss : Nat} {xs : Nat → Int32} {C : xk_C} {σ : gm_S} {Rel : Nat → xk_C → gm_S → Prop} (hx : va_X b L xs (gx_s X) (gx_s X).heap) (hb : b < (gx_s X).heap.size ∧ ¬ gx_A X b) (hLk : 8 * k + 8 ≤ L ∧ L ≤ 512) (hS : lx_S32 N bx Rel) (hB : ∀ k C σ, Rel k C σ → xk_k C bx = 1 ∧ n0 ≤ xk_n C ∧ xk_n C ≤ n0 + 601024) (hk : k < 64) (hR : Rel k C σ) (hss : ss ≤ k * 100000 + 100000) (kont : ∀ C' σ' ss', Rel (k + 1) C' σ' → ss' ≤ (k + 1) * 100000 + 100000 → gx_G X (lx_P n0 w C' σ') (xk_n C' - n0) ss' [some (va_rf (some b)), some (va_rf (some bx)), some (va_rf (some (gw_mo w))), some (.int (nI (8 * k)))] 1257 []) : gx_G X (lx_P n0 w C σ) (xk_n C - n0) ss [some (va_rf (some b)), some (va_rf (some bx)), some (va_rf (some (gw_mo w))), some (.int (nI (8 * k)))] 1234 [] := by
  have hX := K.1
  obtain ⟨r, hfx, hfm, hR'⟩ := hS k C σ hk hR (xs (8 * k + 1))
  obtain ⟨hkx, hn0, hn1⟩ := hB k _ _ hR
  obtain ⟨-, hn2, hn3⟩ := hB (k + 1) _ _ hR'
  refine gx_aload_n hX dL_law_1234 rfl ?_
  refine lx_arg (j := 1) hX hx hb rfl ⟨by omega, by omega⟩ (by decide) ⟨dL_law_1235, dL_law_1236, dL_law_1237, dL_law_1238, dL_law_1239⟩ ?_
  have hM : gx_T (gw_I w (lx_A n0 w)) (lx_A n0 w) (gx_l X) yX0_count iX0_count 5 (va_rf (some bx) :: [.int ((xs (8 * k + 1)))]) (xk_P (lx_A n0 w) w C) 0 0 (xk_P (lx_A n0 w) w C) (.returned (some (.int r))) := (tX0_count w (lx_A n0 w) (gx_l X) N bx C ((xs (8 * k + 1))) (r := r) hfx)
  refine lx_cN (As := [.int ((xs (8 * k + 1)))]) (rest := []) (C := C) (C' := C) (σ := σ) (r := r) K hM (lw_V q1332 q1333 q1334 q86 q1335) ⟨rfl, dsX0_count⟩ (Nat.le_trans (by decide) hn) (Nat.le_of_ble_eq_true rfl) hkx hn0 ⟨lx_nb hn1, lx_s7 hss hk⟩ rfl (gx_w8 gx_k0 (Nat.le_of_ble_eq_true rfl)) dL_law_1240 rfl ?_
  refine gx_aload_n hX dL_law_1243 rfl ?_
  refine lx_arg (j := 1) hX hx hb rfl ⟨by omega, by omega⟩ (by decide) ⟨dL_law_1244, dL_law_1245, dL_law_1246, dL_law_1247, dL_law_1248⟩ ?_
  have hM2 : gx_T (gw_I w (gm_A w)) (gm_A w) (gx_l X) yX3_count iX3_count 2 (va_rf (some (gw_mo w)) :: [.int ((xs (8 * k + 1)))]) (gm_P w σ) 0 0 (gm_P w σ) (.returned (some (.int r))) := (tX3_count w (gm_A w) (fun _ h => h) (gx_l X) N σ ((xs (8 * k + 1))) (r := r) hfm)
  refine lx_cM (As := [.int ((xs (8 * k + 1)))]) (rest := [.int r]) (C := C) (σ := σ) (σ' := σ) (r := r) K hM2 (lw_V q1859 q1860 q1861 q92 q1862) ⟨rfl, dsX3_count⟩ (Nat.le_trans (by decide) hn) (Nat.le_of_ble_eq_true rfl) hn2 ⟨lx_nb hn3, lx_s7 hss hk⟩ rfl (gx_w8 (gx_kI gx_k0) (Nat.le_of_ble_eq_true rfl)) dL_law_1249 rfl ?_
  refine gx_icmp_eq (tgt := 1257) hX dL_law_1252 (by decide) (a := some ()) (b := none) (r := ()) (if_pos rfl) (fun _ => ?_) (fun h => by cases h)
  exact kont C σ ss hR' (lx_ss hss)
set_option maxHeartbeats 8000000 in
theorem lx_loop {w : gw_W} {X : gx_X} {n n0 : Nat} {P' : Heap → Prop} {oc : Outcome} (K : lx_K w X iL_law n n0 P' oc) (hn : 200 ≤ n) {b L bx N : Nat} {xs : Nat → Int32} {Rel : Nat → xk_C → gm_S → Prop} (hx : va_X b L xs (gx_s X) (gx_s X).heap) (hb : b < (gx_s X).heap.size ∧ ¬ gx_A X b) (hL : L ≤ 512) (hS : lx_S N bx n0 Rel)
    (hend : ∀ (k : Nat) C σ ss, k ≤ 65 → Rel k C σ → ss ≤ k * 100000 + 100000 → gx_G X (lx_P n0 w C σ) (xk_n C - n0) ss [some (va_rf (some b)), some (va_rf (some bx)), some (va_rf (some (gw_mo w))), some (.int (nI (8 * k)))] 1263 []) : ∀ (f k : Nat) C σ ss, k + f = 65 → Rel k C σ → ss ≤ k * 100000 + 100000 → gx_G X (lx_P n0 w C σ) (xk_n C - n0) ss [some (va_rf (some b)), some (va_rf (some bx)), some (va_rf (some (gw_mo w))), some (.int (nI (8 * k)))] 18 [] := by
  intro f
  induction f with
  | zero =>
    intro k C σ ss hk hR hss
    have hX := K.1
    refine gx_iload_n hX dL_law_18 rfl ?_
    refine gx_aload_n hX dL_law_19 rfl ?_
    refine lx_slen hX hx hb dL_law_20 ?_
    refine gx_bipush (v := nI 8) hX dL_law_21 (by decide) ?_
    refine gx_isub hX dL_law_23 ?_
    have h0 : nI L - nI 8 < nI (8 * k) := by
      rw [Int32.lt_iff_toInt_lt, pk_sub_toInt (by omega) (by omega), nI_toInt (by omega)]
      omega
    refine gx_icmp_gt (tgt := 1263) hX dL_law_24 (by decide) (a := some ()) (b := none) (r := ()) (if_pos h0) (fun _ => ?_) (fun h => by cases h)
    exact hend k C σ ss (by omega) hR hss
  | succ f ih =>
    intro k C σ ss hk hR hss
    have hX := K.1
    refine gx_iload_n hX dL_law_18 rfl ?_
    refine gx_aload_n hX dL_law_19 rfl ?_
    refine lx_slen hX hx hb dL_law_20 ?_
    refine gx_bipush (v := nI 8) hX dL_law_21 (by decide) ?_
    refine gx_isub hX dL_law_23 ?_
    by_cases hc : 8 * k + 8 ≤ L
    case neg =>
      have h0 : nI L - nI 8 < nI (8 * k) := by
        rw [Int32.lt_iff_toInt_lt, pk_sub_toInt (by omega) (by omega), nI_toInt (by omega)]
        omega
      refine gx_icmp_gt (tgt := 1263) hX dL_law_24 (by decide) (a := some ()) (b := none) (r := ()) (if_pos h0) (fun _ => ?_) (fun h => by cases h)
      exact hend k C σ ss (by omega) hR hss
    have h0 : ¬ nI L - nI 8 < nI (8 * k) := by
      rw [Int32.lt_iff_toInt_lt, pk_sub_toInt (by omega) (by omega), nI_toInt (by omega)]
      omega
    refine gx_icmp_gt (tgt := 1263) hX dL_law_24 (by decide) (a := none) (b := some ()) (r := ()) (if_neg h0) (fun h => by cases h) (fun _ => ?_)
    refine gx_aload_n hX dL_law_27 rfl ?_
    refine gx_iload_n hX dL_law_28 rfl ?_
    refine lx_sld hX hx hb (vp_in_nI (by omega) (by omega)) dL_law_29 ?_
    rw [nI_clamp (by omega)]
    refine gx_bipush (v := nI 63) hX dL_law_30 (by decide) ?_
    refine gx_iand hX dL_law_32 ?_
    have hk : k < 64 := by omega
    have hkont : ∀ C' σ' ss', Rel (k + 1) C' σ' → ss' ≤ (k + 1) * 100000 + 100000 → gx_G X (lx_P n0 w C' σ') (xk_n C' - n0) ss' [some (va_rf (some b)), some (va_rf (some bx)), some (va_rf (some (gw_mo w))), some (.int (nI (8 * k)))] 1257 [] := fun C' σ' ss' hR' hss' => by
      refine gx_iinc (v := 8) hX dL_law_1257 rfl (by decide) gx_c1r (lv' := [some (va_rf (some b)), some (va_rf (some bx)), some (va_rf (some (gw_mo w))), some (.int (nI (8 * k) + 8))]) rfl ?_
      refine gx_goto (tgt := 18) hX dL_law_1260 (by decide) ?_
      have e8 : nI (8 * k) + 8 = nI (8 * (k + 1)) := by
        rw [show (8 : Int32) = nI 8 from rfl, nI_add]
        congr 1
      rw [e8]
      exact ih (k + 1) C' σ' ss' (by omega) hR' hss'
    by_cases c0 : xs (8 * k) &&& nI 63 = nI 0
    · refine gx_tsw (off := 147) (tgt := 180) hX dL_law_33 (by decide) (by rw [c0]; decide) (by decide) ?_
      exact lx_c0 K hn hx hb ⟨hc, hL⟩ (hS.2.2.1) hS.1 hk hR hss hkont
    by_cases c1 : xs (8 * k) &&& nI 63 = nI 1
    · refine gx_tsw (off := 200) (tgt := 233) hX dL_law_33 (by decide) (by rw [c1]; decide) (by decide) ?_
      exact lx_c1 K hn hx hb ⟨hc, hL⟩ (hS.2.2.2.1) hS.1 hk hR hss hkont
    by_cases c2 : xs (8 * k) &&& nI 63 = nI 2
    · refine gx_tsw (off := 243) (tgt := 276) hX dL_law_33 (by decide) (by rw [c2]; decide) (by decide) ?_
      exact lx_c2 K hn hx hb ⟨hc, hL⟩ (hS.2.2.2.2.1) hS.1 hk hR hss hkont
    by_cases c3 : xs (8 * k) &&& nI 63 = nI 3
    · refine gx_tsw (off := 276) (tgt := 309) hX dL_law_33 (by decide) (by rw [c3]; decide) (by decide) ?_
      exact lx_c3 K hn hx hb ⟨hc, hL⟩ (hS.2.2.2.2.2.1) hS.1 hk hR hss hkont
    by_cases c4 : xs (8 * k) &&& nI 63 = nI 4
    · refine gx_tsw (off := 309) (tgt := 342) hX dL_law_33 (by decide) (by rw [c4]; decide) (by decide) ?_
      exact lx_c4 K hn hx hb ⟨hc, hL⟩ (hS.2.2.2.2.2.2.1) hS.1 hk hR hss hkont
    by_cases c5 : xs (8 * k) &&& nI 63 = nI 5
    · refine gx_tsw (off := 342) (tgt := 375) hX dL_law_33 (by decide) (by rw [c5]; decide) (by decide) ?_
      exact lx_c5 K hn hx hb ⟨hc, hL⟩ (hS.2.2.2.2.2.2.2.1) hS.1 hk hR hss hkont
    by_cases c6 : xs (8 * k) &&& nI 63 = nI 6
    · refine gx_tsw (off := 375) (tgt := 408) hX dL_law_33 (by decide) (by rw [c6]; decide) (by decide) ?_
      exact lx_c6 K hn hx hb ⟨hc, hL⟩ (hS.2.2.2.2.2.2.2.2.1) hS.1 hk hR hss hkont
    by_cases c7 : xs (8 * k) &&& nI 63 = nI 7
    · refine gx_tsw (off := 408) (tgt := 441) hX dL_law_33 (by decide) (by rw [c7]; decide) (by decide) ?_
      exact lx_c7 K hn hx hb ⟨hc, hL⟩ (hS.2.2.2.2.2.2.2.2.2.1) hS.1 hk hR hss hkont
    by_cases c8 : xs (8 * k) &&& nI 63 = nI 8
    · refine gx_tsw (off := 441) (tgt := 474) hX dL_law_33 (by decide) (by rw [c8]; decide) (by decide) ?_
      exact lx_c8 K hn hx hb ⟨hc, hL⟩ (hS.2.2.2.2.2.2.2.2.2.2.1) hS.1 hk hR hss hkont
    by_cases c9 : xs (8 * k) &&& nI 63 = nI 9
    · refine gx_tsw (off := 464) (tgt := 497) hX dL_law_33 (by decide) (by rw [c9]; decide) (by decide) ?_
      exact lx_c9 K hn hx hb ⟨hc, hL⟩ (hS.2.2.2.2.2.2.2.2.2.2.2.1) hS.1 hk hR hss hkont
    by_cases c10 : xs (8 * k) &&& nI 63 = nI 10
    · refine gx_tsw (off := 527) (tgt := 560) hX dL_law_33 (by decide) (by rw [c10]; decide) (by decide) ?_
      exact lx_c10 K hn hx hb ⟨hc, hL⟩ (hS.2.2.2.2.2.2.2.2.2.2.2.2.1) hS.1 hk hR hss hkont
    by_cases c11 : xs (8 * k) &&& nI 63 = nI 11
    · refine gx_tsw (off := 540) (tgt := 573) hX dL_law_33 (by decide) (by rw [c11]; decide) (by decide) ?_
      exact lx_c11 K hn hx hb ⟨hc, hL⟩ (hS.2.2.2.2.2.2.2.2.2.2.2.2.2.1) hS.1 hk hR hss hkont
    by_cases c12 : xs (8 * k) &&& nI 63 = nI 12
    · refine gx_tsw (off := 627) (tgt := 660) hX dL_law_33 (by decide) (by rw [c12]; decide) (by decide) ?_
      exact lx_c12 K hn hx hb ⟨hc, hL⟩ (hS.2.2.2.2.2.2.2.2.2.2.2.2.2.2.1) hS.1 hk hR hss hkont
    by_cases c13 : xs (8 * k) &&& nI 63 = nI 13
    · refine gx_tsw (off := 660) (tgt := 693) hX dL_law_33 (by decide) (by rw [c13]; decide) (by decide) ?_
      exact lx_c13 K hn hx hb ⟨hc, hL⟩ (hS.2.2.2.2.2.2.2.2.2.2.2.2.2.2.2.1) hS.1 hk hR hss hkont
    by_cases c14 : xs (8 * k) &&& nI 63 = nI 14
    · refine gx_tsw (off := 683) (tgt := 716) hX dL_law_33 (by decide) (by rw [c14]; decide) (by decide) ?_
      exact lx_c14 K hn hx hb ⟨hc, hL⟩ (hS.2.2.2.2.2.2.2.2.2.2.2.2.2.2.2.2.1) hS.1 hk hR hss hkont
    by_cases c15 : xs (8 * k) &&& nI 63 = nI 15
    · refine gx_tsw (off := 716) (tgt := 749) hX dL_law_33 (by decide) (by rw [c15]; decide) (by decide) ?_
      exact lx_c15 K hn hx hb ⟨hc, hL⟩ (hS.2.2.2.2.2.2.2.2.2.2.2.2.2.2.2.2.2.1) hS.1 hk hR hss hkont
    by_cases c16 : xs (8 * k) &&& nI 63 = nI 16
    · refine gx_tsw (off := 739) (tgt := 772) hX dL_law_33 (by decide) (by rw [c16]; decide) (by decide) ?_
      exact lx_c16 K hn hx hb ⟨hc, hL⟩ (hS.2.2.2.2.2.2.2.2.2.2.2.2.2.2.2.2.2.2.1) hS.1 hk hR hss hkont
    by_cases c17 : xs (8 * k) &&& nI 63 = nI 17
    · refine gx_tsw (off := 752) (tgt := 785) hX dL_law_33 (by decide) (by rw [c17]; decide) (by decide) ?_
      exact lx_c17 K hn hx hb ⟨hc, hL⟩ (hS.2.2.2.2.2.2.2.2.2.2.2.2.2.2.2.2.2.2.2.1) hS.1 hk hR hss hkont
    by_cases c18 : xs (8 * k) &&& nI 63 = nI 18
    · refine gx_tsw (off := 785) (tgt := 818) hX dL_law_33 (by decide) (by rw [c18]; decide) (by decide) ?_
      exact lx_c18 K hn hx hb ⟨hc, hL⟩ (hS.2.2.2.2.2.2.2.2.2.2.2.2.2.2.2.2.2.2.2.2.1) hS.1 hk hR hss hkont
    by_cases c19 : xs (8 * k) &&& nI 63 = nI 19
    · refine gx_tsw (off := 808) (tgt := 841) hX dL_law_33 (by decide) (by rw [c19]; decide) (by decide) ?_
      exact lx_c19 K hn hx hb ⟨hc, hL⟩ (hS.2.2.2.2.2.2.2.2.2.2.2.2.2.2.2.2.2.2.2.2.2.1) hS.1 hk hR hss hkont
    by_cases c20 : xs (8 * k) &&& nI 63 = nI 20
    · refine gx_tsw (off := 821) (tgt := 854) hX dL_law_33 (by decide) (by rw [c20]; decide) (by decide) ?_
      exact lx_c20 K hn hx hb ⟨hc, hL⟩ (hS.2.2.2.2.2.2.2.2.2.2.2.2.2.2.2.2.2.2.2.2.2.2.1) hS.1 hk hR hss hkont
    by_cases c21 : xs (8 * k) &&& nI 63 = nI 21
    · refine gx_tsw (off := 854) (tgt := 887) hX dL_law_33 (by decide) (by rw [c21]; decide) (by decide) ?_
      exact lx_c21 K hn hx hb ⟨hc, hL⟩ (hS.2.2.2.2.2.2.2.2.2.2.2.2.2.2.2.2.2.2.2.2.2.2.2.1) hS.1 hk hR hss hkont
    by_cases c22 : xs (8 * k) &&& nI 63 = nI 22
    · refine gx_tsw (off := 877) (tgt := 910) hX dL_law_33 (by decide) (by rw [c22]; decide) (by decide) ?_
      exact lx_c22 K hn hx hb ⟨hc, hL⟩ (hS.2.2.2.2.2.2.2.2.2.2.2.2.2.2.2.2.2.2.2.2.2.2.2.2.1) hS.1 hk hR hss hkont
    by_cases c23 : xs (8 * k) &&& nI 63 = nI 23
    · refine gx_tsw (off := 890) (tgt := 923) hX dL_law_33 (by decide) (by rw [c23]; decide) (by decide) ?_
      exact lx_c23 K hn hx hb ⟨hc, hL⟩ (hS.2.2.2.2.2.2.2.2.2.2.2.2.2.2.2.2.2.2.2.2.2.2.2.2.2.1) hS.1 hk hR hss hkont
    by_cases c24 : xs (8 * k) &&& nI 63 = nI 24
    · refine gx_tsw (off := 977) (tgt := 1010) hX dL_law_33 (by decide) (by rw [c24]; decide) (by decide) ?_
      exact lx_c24 K hn hx hb ⟨hc, hL⟩ (hS.2.2.2.2.2.2.2.2.2.2.2.2.2.2.2.2.2.2.2.2.2.2.2.2.2.2.1) hS.1 hk hR hss hkont
    by_cases c25 : xs (8 * k) &&& nI 63 = nI 25
    · refine gx_tsw (off := 1010) (tgt := 1043) hX dL_law_33 (by decide) (by rw [c25]; decide) (by decide) ?_
      exact lx_c25 K hn hx hb ⟨hc, hL⟩ (hS.2.2.2.2.2.2.2.2.2.2.2.2.2.2.2.2.2.2.2.2.2.2.2.2.2.2.2.1) hS.1 hk hR hss hkont
    by_cases c26 : xs (8 * k) &&& nI 63 = nI 26
    · refine gx_tsw (off := 1023) (tgt := 1056) hX dL_law_33 (by decide) (by rw [c26]; decide) (by decide) ?_
      exact lx_c26 K hn hx hb ⟨hc, hL⟩ (hS.2.2.2.2.2.2.2.2.2.2.2.2.2.2.2.2.2.2.2.2.2.2.2.2.2.2.2.2.1) hS.1 hk hR hss hkont
    by_cases c27 : xs (8 * k) &&& nI 63 = nI 27
    · refine gx_tsw (off := 1076) (tgt := 1109) hX dL_law_33 (by decide) (by rw [c27]; decide) (by decide) ?_
      exact lx_c27 K hn hx hb ⟨hc, hL⟩ (hS.2.2.2.2.2.2.2.2.2.2.2.2.2.2.2.2.2.2.2.2.2.2.2.2.2.2.2.2.2.1) hS.1 hk hR hss hkont
    by_cases c28 : xs (8 * k) &&& nI 63 = nI 28
    · refine gx_tsw (off := 1119) (tgt := 1152) hX dL_law_33 (by decide) (by rw [c28]; decide) (by decide) ?_
      exact lx_c28 K hn hx hb ⟨hc, hL⟩ (hS.2.2.2.2.2.2.2.2.2.2.2.2.2.2.2.2.2.2.2.2.2.2.2.2.2.2.2.2.2.2.1) hS.1 hk hR hss hkont
    by_cases c29 : xs (8 * k) &&& nI 63 = nI 29
    · refine gx_tsw (off := 1142) (tgt := 1175) hX dL_law_33 (by decide) (by rw [c29]; decide) (by decide) ?_
      exact lx_c29 K hn hx hb ⟨hc, hL⟩ (hS.2.2.2.2.2.2.2.2.2.2.2.2.2.2.2.2.2.2.2.2.2.2.2.2.2.2.2.2.2.2.2.1) hS.1 hk hR hss hkont
    by_cases c30 : xs (8 * k) &&& nI 63 = nI 30
    · refine gx_tsw (off := 1175) (tgt := 1208) hX dL_law_33 (by decide) (by rw [c30]; decide) (by decide) ?_
      exact lx_c30 K hn hx hb ⟨hc, hL⟩ (hS.2.2.2.2.2.2.2.2.2.2.2.2.2.2.2.2.2.2.2.2.2.2.2.2.2.2.2.2.2.2.2.2.1) hS.1 hk hR hss hkont
    by_cases c31 : xs (8 * k) &&& nI 63 = nI 31
    · refine gx_tsw (off := 1188) (tgt := 1221) hX dL_law_33 (by decide) (by rw [c31]; decide) (by decide) ?_
      exact lx_c31 K hn hx hb ⟨hc, hL⟩ (hS.2.2.2.2.2.2.2.2.2.2.2.2.2.2.2.2.2.2.2.2.2.2.2.2.2.2.2.2.2.2.2.2.2.1) hS.1 hk hR hss hkont
    by_cases c32 : xs (8 * k) &&& nI 63 = nI 32
    · refine gx_tsw (off := 1201) (tgt := 1234) hX dL_law_33 (by decide) (by rw [c32]; decide) (by decide) ?_
      exact lx_c32 K hn hx hb ⟨hc, hL⟩ (hS.2.2.2.2.2.2.2.2.2.2.2.2.2.2.2.2.2.2.2.2.2.2.2.2.2.2.2.2.2.2.2.2.2.2) hS.1 hk hR hss hkont
    have e0 : (xs (8 * k) &&& nI 63).toInt ≠ 0 := gx_nei c0
    have e1 : (xs (8 * k) &&& nI 63).toInt ≠ 1 := gx_nei c1
    have e2 : (xs (8 * k) &&& nI 63).toInt ≠ 2 := gx_nei c2
    have e3 : (xs (8 * k) &&& nI 63).toInt ≠ 3 := gx_nei c3
    have e4 : (xs (8 * k) &&& nI 63).toInt ≠ 4 := gx_nei c4
    have e5 : (xs (8 * k) &&& nI 63).toInt ≠ 5 := gx_nei c5
    have e6 : (xs (8 * k) &&& nI 63).toInt ≠ 6 := gx_nei c6
    have e7 : (xs (8 * k) &&& nI 63).toInt ≠ 7 := gx_nei c7
    have e8 : (xs (8 * k) &&& nI 63).toInt ≠ 8 := gx_nei c8
    have e9 : (xs (8 * k) &&& nI 63).toInt ≠ 9 := gx_nei c9
    have e10 : (xs (8 * k) &&& nI 63).toInt ≠ 10 := gx_nei c10
    have e11 : (xs (8 * k) &&& nI 63).toInt ≠ 11 := gx_nei c11
    have e12 : (xs (8 * k) &&& nI 63).toInt ≠ 12 := gx_nei c12
    have e13 : (xs (8 * k) &&& nI 63).toInt ≠ 13 := gx_nei c13
    have e14 : (xs (8 * k) &&& nI 63).toInt ≠ 14 := gx_nei c14
    have e15 : (xs (8 * k) &&& nI 63).toInt ≠ 15 := gx_nei c15
    have e16 : (xs (8 * k) &&& nI 63).toInt ≠ 16 := gx_nei c16
    have e17 : (xs (8 * k) &&& nI 63).toInt ≠ 17 := gx_nei c17
    have e18 : (xs (8 * k) &&& nI 63).toInt ≠ 18 := gx_nei c18
    have e19 : (xs (8 * k) &&& nI 63).toInt ≠ 19 := gx_nei c19
    have e20 : (xs (8 * k) &&& nI 63).toInt ≠ 20 := gx_nei c20
    have e21 : (xs (8 * k) &&& nI 63).toInt ≠ 21 := gx_nei c21
    have e22 : (xs (8 * k) &&& nI 63).toInt ≠ 22 := gx_nei c22
    have e23 : (xs (8 * k) &&& nI 63).toInt ≠ 23 := gx_nei c23
    have e24 : (xs (8 * k) &&& nI 63).toInt ≠ 24 := gx_nei c24
    have e25 : (xs (8 * k) &&& nI 63).toInt ≠ 25 := gx_nei c25
    have e26 : (xs (8 * k) &&& nI 63).toInt ≠ 26 := gx_nei c26
    have e27 : (xs (8 * k) &&& nI 63).toInt ≠ 27 := gx_nei c27
    have e28 : (xs (8 * k) &&& nI 63).toInt ≠ 28 := gx_nei c28
    have e29 : (xs (8 * k) &&& nI 63).toInt ≠ 29 := gx_nei c29
    have e30 : (xs (8 * k) &&& nI 63).toInt ≠ 30 := gx_nei c30
    have e31 : (xs (8 * k) &&& nI 63).toInt ≠ 31 := gx_nei c31
    have e32 : (xs (8 * k) &&& nI 63).toInt ≠ 32 := gx_nei c32
    refine gx_tsw (off := 1224) (tgt := 1257) hX dL_law_33 (by decide) (by unfold gx_to; rw [if_pos (by omega)]) (by decide) ?_
    exact hkont C σ ss (hS.2.1 k C σ hk hR) (lx_ss hss)
