/-! the reference: its small methods -/
set_option maxRecDepth 100000
def p_least (x y : Int32) : Int32 := if x < y then x else y
def p_sum (f : Nat → Int32) : Nat → Int32
  | 0 => nI 0
  | k + 1 => p_sum f k + f k
def p_dep (S : b_St) (b : Nat) : Int32 := S 0 0 (7 + kd S b)
def p_deps (S : b_St) (k : Nat) (c : Int32) : Int32 := c * (nI 12 * S 0 0 (7 + k) + S 0 0 10)
def p_price (S : b_St) (b : Nat) (c : Int32) : Int32 := p_deps S (kd S b) c + c * S 0 0 11
def p_full (S : b_St) (b : Nat) (n : Int32) : Int32 := n - ((S 1 b 8 + n) / S 0 0 12 - S 1 b 8 / S 0 0 12)
def f_crates (S : b_St) : Nat → Int32 := fun s => S 2 s 1
def p_crates (S : b_St) : Int32 := p_sum (f_crates S) (ns S)
def f_empt (S : b_St) (s k : Nat) : Nat → Int32 := fun b => if kd S b = k then S 5 s b else nI 0
def p_empt (S : b_St) (s k : Nat) : Int32 := p_sum (f_empt S s k) (nb S)
def f_yard (S : b_St) (k : Nat) : Nat → Int32 := fun b => if kd S b = k then S 1 b 4 else nI 0
def p_yard (S : b_St) (k : Nat) : Int32 := p_sum (f_yard S k) (nb S)
def p_inF (S : b_St) (b : Nat) : Int32 := p_sum (fun s => S 4 s b) (ns S)
def p_inE (S : b_St) (b : Nat) : Int32 := p_sum (fun s => S 5 s b) (ns S)
def p_sumF (S : b_St) (s : Nat) : Int32 := p_sum (fun b => S 4 s b) 8
def p_sumE (S : b_St) (s : Nat) : Int32 := p_sum (fun b => S 5 s b) 8
def a_deliver (S : b_St) (b s : Nat) (c : Int32) : Int32 := if S 1 b 2 < nI 12 * c then nI 1 else if S 0 0 2 < c then nI 2 else if S 2 s 0 < p_price S b c then nI 3 else nI 0
def a_sell (S : b_St) (s b : Nat) (n : Int32) : Int32 := if S 4 s b < n then nI 1 else nI 0
def a_take (S : b_St) (s b : Nat) (n : Int32) : Int32 := if S 1 b 3 < n then nI 1 else if S 2 s 0 < n * p_dep S b then nI 3 else nI 0
def a_break (S : b_St) (s b : Nat) (n : Int32) : Int32 := if S 5 s b < n then nI 1 else nI 0
def a_collect (S : b_St) (s k : Nat) (c : Int32) : Int32 := if p_empt S s k < nI 12 * c then nI 1 else if S 2 s 1 < c then nI 2 else nI 0
/-- the deeds -/
def s_fill (S : b_St) (b : Nat) (n : Int32) : b_St := u3 (u3 (u3 (u3 S 1 b 1 (S 1 b 1 - n)) 1 b 2 (S 1 b 2 + p_full S b n)) 1 b 7 (S 1 b 7 + (n - p_full S b n))) 1 b 8 (S 1 b 8 + n)
def s_deliver (S : b_St) (b s : Nat) (c : Int32) : b_St :=
  u3 (u3 (u3 (u3 (u3 (u3 (u3 (u3 (u3 S 1 b 2 (S 1 b 2 - nI 12 * c)) 4 s b (S 4 s b + nI 12 * c)) 0 0 2 (S 0 0 2 - c)) 2 s 1 (S 2 s 1 + c)) 2 s 0 (S 2 s 0 - (p_deps S (kd S b) c + c * S 0 0 11))) 2 s 2 (S 2 s 2 + p_deps S (kd S b) c)) 2 s 3 (S 2 s 3 + c * S 0 0 11)) 0 0 3 (S 0 0 3 + p_deps S (kd S b) c)) 0 0 5 (S 0 0 5 + c * S 0 0 11)
def s_sell (S : b_St) (s b : Nat) (n : Int32) : b_St := u3 (u3 (u3 (u3 S 4 s b (S 4 s b - n)) 1 b 3 (S 1 b 3 + n)) 2 s 4 (S 2 s 4 + n)) 2 s 0 (S 2 s 0 + n * p_dep S b)
def s_take (S : b_St) (s b : Nat) (n : Int32) : b_St := u3 (u3 (u3 (u3 S 1 b 3 (S 1 b 3 - n)) 5 s b (S 5 s b + n)) 2 s 4 (S 2 s 4 - n)) 2 s 0 (S 2 s 0 - n * p_dep S b)
def p_paid (S : b_St) (b : Nat) (n : Int32) : Int32 := p_least (n * p_dep S b) (S 0 0 5)
def s_break (S : b_St) (s b : Nat) (n : Int32) : b_St := u3 (u3 (u3 (u3 (u3 (u3 S 5 s b (S 5 s b - n)) 1 b 5 (S 1 b 5 + n)) 0 0 4 (S 0 0 4 + n * p_dep S b)) 0 0 5 (S 0 0 5 - p_paid S b n)) 2 s 0 (S 2 s 0 + p_paid S b n)) 2 s 3 (S 2 s 3 - p_paid S b n)
theorem b_WF.up {S : b_St} (h : b_WF S) {k i j : Nat} {x : Int32} (h0 : ¬ (k = 0 ∧ (j = 0 ∨ j = 1 ∨ j = 12))) (h1 : ¬ (k = 1 ∧ j = 0)) : b_WF (u3 S k i j x) := by
  have e0 : u3 S k i j x 0 0 0 = S 0 0 0 := u3_n S x (fun q => h0 ⟨q.1.symm, Or.inl q.2.1.symm⟩)
  have e1 : u3 S k i j x 0 0 1 = S 0 0 1 := u3_n S x (fun q => h0 ⟨q.1.symm, Or.inr (Or.inl q.2.1.symm)⟩)
  have e2 : u3 S k i j x 0 0 12 = S 0 0 12 := u3_n S x (fun q => h0 ⟨q.1.symm, Or.inr (Or.inr q.2.1.symm)⟩)
  have e3 : ∀ b, u3 S k i j x 1 b 0 = S 1 b 0 := fun b => u3_n S x (fun q => h1 ⟨q.1.symm, q.2.1.symm⟩)
  unfold b_WF nb ns kd
  simp only [e0, e1, e2, e3]
  exact h
theorem p_ix {x : Int32} {n : Nat} (hn : n < 1000) (h : nI 0 ≤ x ∧ x ≤ nI n - nI 1) : ∃ j : Nat, j < n ∧ x = nI j := by
  obtain ⟨h0, h1⟩ := h
  obtain ⟨j, hj, rfl⟩ := nI_of (x := x) (fun q => Int32.lt_irrefl (Int32.lt_of_le_of_lt h0 q))
  refine ⟨j, ?_, rfl⟩
  rcases Nat.eq_zero_or_pos n with rfl | hp
  · exfalso
    have h2 : nI j ≤ (-1 : Int32) := h1
    rw [Int32.le_iff_toInt_le, nI_toInt hj] at h2
    have h3 : (-1 : Int32).toInt = -1 := rfl
    omega
  · rw [pk_sub hp] at h1
    have := (nI_leI hj (by omega)).mp h1
    omega
set_option maxHeartbeats 2000000 in
set_option maxRecDepth 100000 in
theorem m_X3_in (l : Launch) {G : b_G} {B0 : Nat} {H : Heap} {x : Int32} {lo : Int32} {hi : Int32} : Met l yX3_in (ws_ yX3_in cX3_in 3 (Option.some Jvm.ClassFile.FieldType.boolean)) ({ frames := 0, cells := 0, slots := 0, locals := 0 } : Room) (b_Pc G B0 H [.int x, .int lo, .int hi]) (b_Qi B0 (fun r H1 => r = bI (lo ≤ x ∧ x ≤ hi) ∧ H1 = H)) 0 0 (b_A B0) := by
  refine b_of (by decide) (Nat.le_of_ble_eq_true rfl) ?_
  intro p e s m below meth c CX hr hlk hnm hS ls hl
  have CX : b_Cx p s m _ c cX3_in 3 RX3 G B0 := CX
  have hx := CX.hx
  have hb := CX.hb
  have hl : lv_has ls 3 [(0, .int x), (1, .int lo), (2, .int hi)] := hl
  generalize hQ : MQ below (b_Qi B0 (fun r H1 => r = bI (lo ≤ x ∧ x ≤ hi) ∧ H1 = H)) ([.int x, .int lo, .int hi] : List Value).toArray s 0 0 (b_A B0) = Q
  refine lv_iload_n hx hb dX3_in_0 rfl (lv_at hl 0 rfl) ?_
  refine lv_iload_n hx hb dX3_in_1 rfl (lv_at hl 1 rfl) ?_
  refine lv_icmp_lt (tgt := 14) hx hb dX3_in_2 (by decide) (fun c_2 => ?_) (fun c_2 => ?_)
  · refine lv_iconst (v := nI 0) hx hb dX3_in_14 rfl ?_
    rw [← hQ]
    exact b_zret CX hr hlk hS (Nat.le_of_ble_eq_true rfl) (Nat.le_of_ble_eq_true rfl) rfl dX3_in_15 (⟨by first | exact (bI_f (fun q => absurd q.1 (Int32.not_le.mpr c_2))).symm | exact (bI_f (fun q => absurd q.2 (Int32.not_le.mpr c_7))).symm | exact (bI_t ⟨Int32.not_lt.mp c_2, Int32.not_lt.mp c_7⟩).symm, rfl⟩)
  · refine lv_iload_n hx hb dX3_in_5 rfl (lv_at hl 0 rfl) ?_
    refine lv_iload_n hx hb dX3_in_6 rfl (lv_at hl 2 rfl) ?_
    refine lv_icmp_gt (tgt := 14) hx hb dX3_in_7 (by decide) (fun c_7 => ?_) (fun c_7 => ?_)
    · refine lv_iconst (v := nI 0) hx hb dX3_in_14 rfl ?_
      rw [← hQ]
      exact b_zret CX hr hlk hS (Nat.le_of_ble_eq_true rfl) (Nat.le_of_ble_eq_true rfl) rfl dX3_in_15 (⟨by first | exact (bI_f (fun q => absurd q.1 (Int32.not_le.mpr c_2))).symm | exact (bI_f (fun q => absurd q.2 (Int32.not_le.mpr c_7))).symm | exact (bI_t ⟨Int32.not_lt.mp c_2, Int32.not_lt.mp c_7⟩).symm, rfl⟩)
    · refine lv_iconst (v := nI 1) hx hb dX3_in_10 rfl ?_
      refine lv_goto (tgt := 15) hx hb dX3_in_11 (by decide) ?_
      rw [← hQ]
      exact b_zret CX hr hlk hS (Nat.le_of_ble_eq_true rfl) (Nat.le_of_ble_eq_true rfl) rfl dX3_in_15 (⟨by first | exact (bI_f (fun q => absurd q.1 (Int32.not_le.mpr c_2))).symm | exact (bI_f (fun q => absurd q.2 (Int32.not_le.mpr c_7))).symm | exact (bI_t ⟨Int32.not_lt.mp c_2, Int32.not_lt.mp c_7⟩).symm, rfl⟩)
set_option maxHeartbeats 2000000 in
set_option maxRecDepth 100000 in
theorem m_X3_least (l : Launch) {G : b_G} {B0 : Nat} {H : Heap} {x : Int32} {y : Int32} : Met l yX3_least (ws_ yX3_least cX3_least 2 (Option.some Jvm.ClassFile.FieldType.int)) ({ frames := 0, cells := 0, slots := 0, locals := 0 } : Room) (b_Pc G B0 H [.int x, .int y]) (b_Qi B0 (fun r H1 => r = p_least x y ∧ H1 = H)) 0 0 (b_A B0) := by
  refine b_of (by decide) (Nat.le_of_ble_eq_true rfl) ?_
  intro p e s m below meth c CX hr hlk hnm hS ls hl
  have CX : b_Cx p s m _ c cX3_least 2 RX3 G B0 := CX
  have hx := CX.hx
  have hb := CX.hb
  have hl : lv_has ls 2 [(0, .int x), (1, .int y)] := hl
  generalize hQ : MQ below (b_Qi B0 (fun r H1 => r = p_least x y ∧ H1 = H)) ([.int x, .int y] : List Value).toArray s 0 0 (b_A B0) = Q
  refine lv_iload_n hx hb dX3_least_0 rfl (lv_at hl 0 rfl) ?_
  refine lv_iload_n hx hb dX3_least_1 rfl (lv_at hl 1 rfl) ?_
  refine lv_icmp_ge (tgt := 9) hx hb dX3_least_2 (by decide) (fun c_2 => ?_) (fun c_2 => ?_)
  · refine lv_iload_n hx hb dX3_least_9 rfl (lv_at hl 1 rfl) ?_
    rw [← hQ]
    exact b_iret CX hr hlk hS (Nat.le_of_ble_eq_true rfl) (Nat.le_of_ble_eq_true rfl) dX3_least_10 (⟨by first | exact (if_neg (Int32.not_lt.mpr c_2)).symm | exact (if_pos (Int32.not_le.mp c_2)).symm, rfl⟩)
  · refine lv_iload_n hx hb dX3_least_5 rfl (lv_at hl 0 rfl) ?_
    refine lv_goto (tgt := 10) hx hb dX3_least_6 (by decide) ?_
    rw [← hQ]
    exact b_iret CX hr hlk hS (Nat.le_of_ble_eq_true rfl) (Nat.le_of_ble_eq_true rfl) dX3_least_10 (⟨by first | exact (if_neg (Int32.not_lt.mpr c_2)).symm | exact (if_pos (Int32.not_le.mp c_2)).symm, rfl⟩)
set_option maxHeartbeats 2000000 in
set_option maxRecDepth 100000 in
theorem m_X3_brandAt (l : Launch) {G : b_G} {B0 : Nat} {H : Heap} {b : Nat} {w : Nat} : Met l yX3_brandAt (ws_ yX3_brandAt cX3_brandAt 2 (Option.some Jvm.ClassFile.FieldType.int)) ({ frames := 0, cells := 0, slots := 0, locals := 0 } : Room) (b_Pc G B0 H [.int (nI b), .int (nI w)]) (b_Qi B0 (fun r H1 => r = nI (13 + 10 * b + w) ∧ H1 = H)) 0 0 (b_A B0) := by
  refine b_of (by decide) (Nat.le_of_ble_eq_true rfl) ?_
  intro p e s m below meth c CX hr hlk hnm hS ls hl
  have CX : b_Cx p s m _ c cX3_brandAt 2 RX3 G B0 := CX
  have hx := CX.hx
  have hb := CX.hb
  have hl : lv_has ls 2 [(0, .int (nI b)), (1, .int (nI w))] := hl
  generalize hQ : MQ below (b_Qi B0 (fun r H1 => r = nI (13 + 10 * b + w) ∧ H1 = H)) ([.int (nI b), .int (nI w)] : List Value).toArray s 0 0 (b_A B0) = Q
  refine lv_bipush (v := nI 13) hx hb dX3_brandAt_0 rfl ?_
  refine lv_bipush (v := nI 10) hx hb dX3_brandAt_2 rfl ?_
  refine lv_iload_n hx hb dX3_brandAt_4 rfl (lv_at hl 0 rfl) ?_
  refine b_imulN CX dX3_brandAt_5 ?_
  refine b_iaddN CX dX3_brandAt_6 ?_
  refine lv_iload_n hx hb dX3_brandAt_7 rfl (lv_at hl 1 rfl) ?_
  refine b_iaddN CX dX3_brandAt_8 ?_
  rw [← hQ]
  exact b_iret CX hr hlk hS (Nat.le_of_ble_eq_true rfl) (Nat.le_of_ble_eq_true rfl) dX3_brandAt_9 (⟨rfl, rfl⟩)
set_option maxHeartbeats 2000000 in
set_option maxRecDepth 100000 in
theorem m_X3_shopAt_a (l : Launch) {G : b_G} {B0 : Nat} {H : Heap} {b : Nat} {w : Nat} : Met l yX3_shopAt (ws_ yX3_shopAt cX3_shopAt 2 (Option.some Jvm.ClassFile.FieldType.int)) ({ frames := 0, cells := 0, slots := 0, locals := 0 } : Room) (b_Pc G B0 H [.int (nI b), .int (nI (5 + w))]) (b_Qi B0 (fun r H1 => r = nI (93 + 21 * b + (5 + w)) ∧ H1 = H)) 0 0 (b_A B0) := by
  refine b_of (by decide) (Nat.le_of_ble_eq_true rfl) ?_
  intro p e s m below meth c CX hr hlk hnm hS ls hl
  have CX : b_Cx p s m _ c cX3_shopAt 2 RX3 G B0 := CX
  have hx := CX.hx
  have hb := CX.hb
  have hl : lv_has ls 2 [(0, .int (nI b)), (1, .int (nI (5 + w)))] := hl
  generalize hQ : MQ below (b_Qi B0 (fun r H1 => r = nI (93 + 21 * b + (5 + w)) ∧ H1 = H)) ([.int (nI b), .int (nI (5 + w))] : List Value).toArray s 0 0 (b_A B0) = Q
  refine lv_bipush (v := nI 93) hx hb dX3_shopAt_0 rfl ?_
  refine lv_bipush (v := nI 21) hx hb dX3_shopAt_2 rfl ?_
  refine lv_iload_n hx hb dX3_shopAt_4 rfl (lv_at hl 0 rfl) ?_
  refine b_imulN CX dX3_shopAt_5 ?_
  refine b_iaddN CX dX3_shopAt_6 ?_
  refine lv_iload_n hx hb dX3_shopAt_7 rfl (lv_at hl 1 rfl) ?_
  refine b_iaddN CX dX3_shopAt_8 ?_
  rw [← hQ]
  exact b_iret CX hr hlk hS (Nat.le_of_ble_eq_true rfl) (Nat.le_of_ble_eq_true rfl) dX3_shopAt_9 (⟨rfl, rfl⟩)
set_option maxHeartbeats 2000000 in
set_option maxRecDepth 100000 in
theorem m_X3_shopAt_b (l : Launch) {G : b_G} {B0 : Nat} {H : Heap} {b : Nat} {w : Nat} : Met l yX3_shopAt (ws_ yX3_shopAt cX3_shopAt 2 (Option.some Jvm.ClassFile.FieldType.int)) ({ frames := 0, cells := 0, slots := 0, locals := 0 } : Room) (b_Pc G B0 H [.int (nI b), .int (nI (13 + w))]) (b_Qi B0 (fun r H1 => r = nI (93 + 21 * b + (13 + w)) ∧ H1 = H)) 0 0 (b_A B0) := by
  refine b_of (by decide) (Nat.le_of_ble_eq_true rfl) ?_
  intro p e s m below meth c CX hr hlk hnm hS ls hl
  have CX : b_Cx p s m _ c cX3_shopAt 2 RX3 G B0 := CX
  have hx := CX.hx
  have hb := CX.hb
  have hl : lv_has ls 2 [(0, .int (nI b)), (1, .int (nI (13 + w)))] := hl
  generalize hQ : MQ below (b_Qi B0 (fun r H1 => r = nI (93 + 21 * b + (13 + w)) ∧ H1 = H)) ([.int (nI b), .int (nI (13 + w))] : List Value).toArray s 0 0 (b_A B0) = Q
  refine lv_bipush (v := nI 93) hx hb dX3_shopAt_0 rfl ?_
  refine lv_bipush (v := nI 21) hx hb dX3_shopAt_2 rfl ?_
  refine lv_iload_n hx hb dX3_shopAt_4 rfl (lv_at hl 0 rfl) ?_
  refine b_imulN CX dX3_shopAt_5 ?_
  refine b_iaddN CX dX3_shopAt_6 ?_
  refine lv_iload_n hx hb dX3_shopAt_7 rfl (lv_at hl 1 rfl) ?_
  refine b_iaddN CX dX3_shopAt_8 ?_
  rw [← hQ]
  exact b_iret CX hr hlk hS (Nat.le_of_ble_eq_true rfl) (Nat.le_of_ble_eq_true rfl) dX3_shopAt_9 (⟨rfl, rfl⟩)
set_option maxHeartbeats 2000000 in
set_option maxRecDepth 100000 in
theorem m_X3_shopAt_c (l : Launch) {G : b_G} {B0 : Nat} {H : Heap} {b : Nat} {w : Nat} : Met l yX3_shopAt (ws_ yX3_shopAt cX3_shopAt 2 (Option.some Jvm.ClassFile.FieldType.int)) ({ frames := 0, cells := 0, slots := 0, locals := 0 } : Room) (b_Pc G B0 H [.int (nI b), .int (nI w)]) (b_Qi B0 (fun r H1 => r = nI (93 + 21 * b + w) ∧ H1 = H)) 0 0 (b_A B0) := by
  refine b_of (by decide) (Nat.le_of_ble_eq_true rfl) ?_
  intro p e s m below meth c CX hr hlk hnm hS ls hl
  have CX : b_Cx p s m _ c cX3_shopAt 2 RX3 G B0 := CX
  have hx := CX.hx
  have hb := CX.hb
  have hl : lv_has ls 2 [(0, .int (nI b)), (1, .int (nI w))] := hl
  generalize hQ : MQ below (b_Qi B0 (fun r H1 => r = nI (93 + 21 * b + w) ∧ H1 = H)) ([.int (nI b), .int (nI w)] : List Value).toArray s 0 0 (b_A B0) = Q
  refine lv_bipush (v := nI 93) hx hb dX3_shopAt_0 rfl ?_
  refine lv_bipush (v := nI 21) hx hb dX3_shopAt_2 rfl ?_
  refine lv_iload_n hx hb dX3_shopAt_4 rfl (lv_at hl 0 rfl) ?_
  refine b_imulN CX dX3_shopAt_5 ?_
  refine b_iaddN CX dX3_shopAt_6 ?_
  refine lv_iload_n hx hb dX3_shopAt_7 rfl (lv_at hl 1 rfl) ?_
  refine b_iaddN CX dX3_shopAt_8 ?_
  rw [← hQ]
  exact b_iret CX hr hlk hS (Nat.le_of_ble_eq_true rfl) (Nat.le_of_ble_eq_true rfl) dX3_shopAt_9 (⟨rfl, rfl⟩)
theorem gf_X3_28_8 {p : Program} {l : Launch} {e : Env} {R : Room} {s : State} {m : MethodId} {args : Array Value} {below : List Frame} {meth : Method} {c : Code} {H : Heap} {locs : List Loc} {cells slots : Nat} {Q : State → Prop} {cc : ByteArray} {pc nL a : Nat} {ls : Array Slot} {rest : List Value} {G : b_G} {B0 : Nat} (CX : b_Cx p s m args c cc nL RX3 G B0) {fs : List Value} (hP : b_at G a (.inr (8, fs)) H) {v : Value} (hv : fs[6]? = some v) (hdg : decode cc pc = .ok (.getfield 28, 3)) (kk : W p l e R s m args below meth c H locs cells slots Q (F0 m (pc + 3) ls (v :: rest))) : W p l e R s m args below meth c H locs cells slots Q (F0 m pc ls (.ref a :: rest)) := b_get CX in_X3 rfl 6 (by decide) q1852 (Or.inl rfl) hP hv hdg kk
set_option maxHeartbeats 2000000 in
set_option maxRecDepth 100000 in
theorem m_X3_thrown (l : Launch) {G : b_G} {B0 : Nat} {o : Nat → Nat} {Hr H : Heap} {S : b_St} {sp sv tx : Nat → Int32} {sa le th pl iw lt on ot nu di : Int32} (hM : MW G B0 o Hr H (enc S) sp sv tx sa le th pl iw lt on ot nu di) : Met l yX3_thrown (ws_ yX3_thrown cX3_thrown 1 (Option.some Jvm.ClassFile.FieldType.int)) ({ frames := 0, cells := 0, slots := 0, locals := 0 } : Room) (b_Pc G B0 H [.ref (o 0)]) (b_Qi B0 (fun r H1 => r = th ∧ H1 = H)) 0 0 (b_A B0) := by
  refine b_of (by decide) (Nat.le_of_ble_eq_true rfl) ?_
  intro p e s m below meth c CX hr hlk hnm hS ls hl
  have CX : b_Cx p s m _ c cX3_thrown 1 RX3 G B0 := CX
  have hx := CX.hx
  have hb := CX.hb
  have hl : lv_has ls 1 [(0, .ref (o 0))] := hl
  generalize hQ : MQ below (b_Qi B0 (fun r H1 => r = th ∧ H1 = H)) ([.ref (o 0)] : List Value).toArray s 0 0 (b_A B0) = Q
  refine lv_aload_n hx hb dX3_thrown_0 rfl (lv_at hl 0 rfl) ?_
  refine gf_X3_28_8 CX hM.o0 rfl dX3_thrown_1 ?_
  rw [← hQ]
  exact b_iret CX hr hlk hS (Nat.le_of_ble_eq_true rfl) (Nat.le_of_ble_eq_true rfl) dX3_thrown_4 (⟨rfl, rfl⟩)
theorem pf_X3_28_8 {p : Program} {l : Launch} {e : Env} {R : Room} {s : State} {m : MethodId} {args : Array Value} {below : List Frame} {meth : Method} {c : Code} {H : Heap} {locs : List Loc} {cells slots : Nat} {Q : State → Prop} {cc : ByteArray} {pc nL a : Nat} {ls : Array Slot} {rest : List Value} {G : b_G} {B0 : Nat} (CX : b_Cx p s m args c cc nL RX3 G B0) {fs : List Value} (hP : b_at G a (.inr (8, fs)) H) (hS : va_S (b_A B0) s.heap H locs) (ha : B0 ≤ a) {v : Value} (hn : narrow (tyX3 6) v = v) (hfit : fits (tyX3 6) v = true) (hl : 6 < fs.length) (hdg : decode cc pc = .ok (.putfield 28, 3)) (kk : ∀ (H1 : Heap) (locs1 : List Loc), b_at G a (.inr (8, fs.set 6 v)) H1 → b_Up a H H1 → va_S (b_A B0) s.heap H1 locs1 → W p l e R s m args below meth c H1 locs1 cells slots Q (F0 m (pc + 3) ls rest)) : W p l e R s m args below meth c H locs cells slots Q (F0 m pc ls (v :: .ref a :: rest)) := b_put CX in_X3 tyX3 tyX3_ok rfl 6 (by decide) (by decide +kernel) q1852 (Or.inl rfl) rfl hP hS ha hn hfit hl hdg kk
set_option maxHeartbeats 2000000 in
set_option maxRecDepth 100000 in
theorem m_X3_fails (l : Launch) {G : b_G} {B0 : Nat} {o : Nat → Nat} {Hr H : Heap} {S : b_St} {sp sv tx : Nat → Int32} {sa le th pl iw lt on ot nu di : Int32} {code : Int32} (hM : MW G B0 o Hr H (enc S) sp sv tx sa le th pl iw lt on ot nu di) : Met l yX3_fails (ws_ yX3_fails cX3_fails 2 (Option.some Jvm.ClassFile.FieldType.int)) ({ frames := 0, cells := 0, slots := 0, locals := 0 } : Room) (b_Pc G B0 H [.ref (o 0), .int code]) (b_Qi B0 (fun r H1 => r = nI 0 ∧ MW G B0 o H H1 (enc S) sp sv tx sa le code pl iw lt on ot nu di)) 0 0 (b_A B0) := by
  refine b_of (by decide) (Nat.le_of_ble_eq_true rfl) ?_
  intro p e s m below meth c CX hr hlk hnm hS ls hl
  have CX : b_Cx p s m _ c cX3_fails 2 RX3 G B0 := CX
  have hx := CX.hx
  have hb := CX.hb
  have hl : lv_has ls 2 [(0, .ref (o 0)), (1, .int code)] := hl
  generalize hQ : MQ below (b_Qi B0 (fun r H1 => r = nI 0 ∧ MW G B0 o H H1 (enc S) sp sv tx sa le code pl iw lt on ot nu di)) ([.ref (o 0), .int code] : List Value).toArray s 0 0 (b_A B0) = Q
  have hM := hM.re
  refine lv_aload_n hx hb dX3_fails_0 rfl (lv_at hl 0 rfl) ?_
  refine lv_iload_n hx hb dX3_fails_1 rfl (lv_at hl 1 rfl) ?_
  refine pf_X3_28_8 CX hM.o0 hS (hM.B (by decide)) rfl rfl (Nat.le_of_ble_eq_true rfl) dX3_fails_2 (fun H1 locs hat hu hS => ?_)
  have hM : MW G B0 o H H1 (enc S) sp sv tx sa le code pl iw lt on ot nu di := hM.set0 hat hu
  refine lv_iconst (v := nI 0) hx hb dX3_fails_5 rfl ?_
  rw [← hQ]
  exact b_iret CX hr hlk hS (Nat.le_of_ble_eq_true rfl) (Nat.le_of_ble_eq_true rfl) dX3_fails_6 (⟨rfl, hM⟩)
theorem gf_X3_7_8 {p : Program} {l : Launch} {e : Env} {R : Room} {s : State} {m : MethodId} {args : Array Value} {below : List Frame} {meth : Method} {c : Code} {H : Heap} {locs : List Loc} {cells slots : Nat} {Q : State → Prop} {cc : ByteArray} {pc nL a : Nat} {ls : Array Slot} {rest : List Value} {G : b_G} {B0 : Nat} (CX : b_Cx p s m args c cc nL RX3 G B0) {fs : List Value} (hP : b_at G a (.inr (8, fs)) H) {v : Value} (hv : fs[0]? = some v) (hdg : decode cc pc = .ok (.getfield 7, 3)) (kk : W p l e R s m args below meth c H locs cells slots Q (F0 m (pc + 3) ls (v :: rest))) : W p l e R s m args below meth c H locs cells slots Q (F0 m pc ls (.ref a :: rest)) := b_get CX in_X3 rfl 0 (by decide) q1846 (Or.inl rfl) hP hv hdg kk
theorem cs_X3_35 {p : Program} {l : Launch} {e : Env} {R : Room} {s : State} {m : MethodId} {args : Array Value} {below : List Frame} {meth : Method} {c : Code} {H : Heap} {locs : List Loc} {cells slots : Nat} {cc : ByteArray} {pc nL : Nat} {ls : Array Slot} {rest : List Value} {G : b_G} {B0 : Nat} (CX : b_Cx p s m args c cc nL RX3 G B0) (hls : ls.size = nL) {rm : Room} {mc ms : Nat} {As st0 : List Value} {Qc : Array Value → State → Outcome → State → Prop} (hM : Met l yX3_in (ws_ yX3_in cX3_in 3 (Option.some Jvm.ClassFile.FieldType.boolean)) rm (b_Pc G B0 H As) Qc mc ms (b_A B0)) (hn : As.length = 3) (hS : va_S (b_A B0) s.heap H locs) (hst : st0 = As.reverse ++ rest) (hr : rm.cells = mc ∧ rm.slots = ms ∧ rm.frames + 1 ≤ R.frames ∧ 8 + (3 + 11) + rm.locals ≤ R.locals) (hw : (rest.map fun v => v.category).sum ≤ 8) (hdg : decode cc pc = .ok (.invokestatic 35, 3)) (hf : cells + mc ≤ R.cells ∧ slots + ms ≤ R.slots) : va_Run p l e R s m args below meth c H locs cells slots mc ms (F0 m pc ls st0) rest (Qc As.toArray) (b_A B0) := va_runS CX.fix hM (va_cwS 3 CX.ts (lw_S q1903 q1904 q88 q1905) rfl hr.1 hr.2.1 (by decide +kernel) ⟨hr.2.2.1, hr.2.2.2⟩) ⟨b_blind G B0 H _, b_pre _ CX.K hS⟩ rfl hn hls hst (lv_room hw) hdg hf
set_option maxHeartbeats 2000000 in
set_option maxRecDepth 100000 in
theorem m_X3_isBrand (l : Launch) {G : b_G} {B0 : Nat} {o : Nat → Nat} {Hr H : Heap} {S : b_St} {sp sv tx : Nat → Int32} {sa le th pl iw lt on ot nu di : Int32} {x : Int32} (hM : MW G B0 o Hr H (enc S) sp sv tx sa le th pl iw lt on ot nu di) (hW : b_WF S) : Met l yX3_isBrand (ws_ yX3_isBrand cX3_isBrand 2 (Option.some Jvm.ClassFile.FieldType.boolean)) ({ frames := 1, cells := 0, slots := 0, locals := 22 } : Room) (b_Pc G B0 H [.ref (o 0), .int x]) (b_Qi B0 (fun r H1 => r = bI (nI 0 ≤ x ∧ x ≤ nI (nb S) - nI 1) ∧ H1 = H)) 0 0 (b_A B0) := by
  refine b_of (by decide) (Nat.le_of_ble_eq_true rfl) ?_
  intro p e s m below meth c CX hr hlk hnm hS ls hl
  have CX : b_Cx p s m _ c cX3_isBrand 2 RX3 G B0 := CX
  have hx := CX.hx
  have hb := CX.hb
  have hl : lv_has ls 2 [(0, .ref (o 0)), (1, .int x)] := hl
  generalize hQ : MQ below (b_Qi B0 (fun r H1 => r = bI (nI 0 ≤ x ∧ x ≤ nI (nb S) - nI 1) ∧ H1 = H)) ([.ref (o 0), .int x] : List Value).toArray s 0 0 (b_A B0) = Q
  refine lv_iload_n hx hb dX3_isBrand_0 rfl (lv_at hl 1 rfl) ?_
  refine lv_iconst (v := nI 0) hx hb dX3_isBrand_1 rfl ?_
  refine lv_aload_n hx hb dX3_isBrand_2 rfl (lv_at hl 0 rfl) ?_
  refine gf_X3_7_8 CX hM.o0 rfl dX3_isBrand_3 ?_
  refine lv_iconst (v := nI 0) hx hb dX3_isBrand_6 rfl ?_
  refine b_ild CX hM.o1 (x := nI (nb S)) (vp_in_nI (by omega) (by omega)) (b_at_nI (by omega) (((enc_0 _ (by decide))).trans hW.nbE)) dX3_isBrand_7 ?_
  refine lv_iconst (v := nI 1) hx hb dX3_isBrand_8 rfl ?_
  refine lv_isub hx hb dX3_isBrand_9 ?_
  refine b_ci0 (cs_X3_35 (rest := []) CX hl.1 (m_X3_in l (x := x) (lo := nI 0) (hi := (nI (nb S)) - (nI 1))  ) rfl hS rfl ⟨rfl, rfl, Nat.le_of_ble_eq_true rfl, Nat.le_of_ble_eq_true rfl⟩ (Nat.le_of_ble_eq_true rfl) dX3_isBrand_10 ⟨Nat.le_of_ble_eq_true rfl, Nat.le_of_ble_eq_true rfl⟩) hS (fun locs hS => ?_)
  rw [← hQ]
  exact b_zret CX hr hlk hS (Nat.le_of_ble_eq_true rfl) (Nat.le_of_ble_eq_true rfl) bI_nar dX3_isBrand_13 (⟨rfl, rfl⟩)
set_option maxHeartbeats 2000000 in
set_option maxRecDepth 100000 in
theorem m_X3_isShop (l : Launch) {G : b_G} {B0 : Nat} {o : Nat → Nat} {Hr H : Heap} {S : b_St} {sp sv tx : Nat → Int32} {sa le th pl iw lt on ot nu di : Int32} {x : Int32} (hM : MW G B0 o Hr H (enc S) sp sv tx sa le th pl iw lt on ot nu di) (hW : b_WF S) : Met l yX3_isShop (ws_ yX3_isShop cX3_isShop 2 (Option.some Jvm.ClassFile.FieldType.boolean)) ({ frames := 1, cells := 0, slots := 0, locals := 22 } : Room) (b_Pc G B0 H [.ref (o 0), .int x]) (b_Qi B0 (fun r H1 => r = bI (nI 0 ≤ x ∧ x ≤ nI (ns S) - nI 1) ∧ H1 = H)) 0 0 (b_A B0) := by
  refine b_of (by decide) (Nat.le_of_ble_eq_true rfl) ?_
  intro p e s m below meth c CX hr hlk hnm hS ls hl
  have CX : b_Cx p s m _ c cX3_isShop 2 RX3 G B0 := CX
  have hx := CX.hx
  have hb := CX.hb
  have hl : lv_has ls 2 [(0, .ref (o 0)), (1, .int x)] := hl
  generalize hQ : MQ below (b_Qi B0 (fun r H1 => r = bI (nI 0 ≤ x ∧ x ≤ nI (ns S) - nI 1) ∧ H1 = H)) ([.ref (o 0), .int x] : List Value).toArray s 0 0 (b_A B0) = Q
  refine lv_iload_n hx hb dX3_isShop_0 rfl (lv_at hl 1 rfl) ?_
  refine lv_iconst (v := nI 0) hx hb dX3_isShop_1 rfl ?_
  refine lv_aload_n hx hb dX3_isShop_2 rfl (lv_at hl 0 rfl) ?_
  refine gf_X3_7_8 CX hM.o0 rfl dX3_isShop_3 ?_
  refine lv_iconst (v := nI 1) hx hb dX3_isShop_6 rfl ?_
  refine b_ild CX hM.o1 (x := nI (ns S)) (vp_in_nI (by omega) (by omega)) (b_at_nI (by omega) (((enc_0 _ (by decide))).trans hW.nsE)) dX3_isShop_7 ?_
  refine lv_iconst (v := nI 1) hx hb dX3_isShop_8 rfl ?_
  refine lv_isub hx hb dX3_isShop_9 ?_
  refine b_ci0 (cs_X3_35 (rest := []) CX hl.1 (m_X3_in l (x := x) (lo := nI 0) (hi := (nI (ns S)) - (nI 1))  ) rfl hS rfl ⟨rfl, rfl, Nat.le_of_ble_eq_true rfl, Nat.le_of_ble_eq_true rfl⟩ (Nat.le_of_ble_eq_true rfl) dX3_isShop_10 ⟨Nat.le_of_ble_eq_true rfl, Nat.le_of_ble_eq_true rfl⟩) hS (fun locs hS => ?_)
  rw [← hQ]
  exact b_zret CX hr hlk hS (Nat.le_of_ble_eq_true rfl) (Nat.le_of_ble_eq_true rfl) bI_nar dX3_isShop_13 (⟨rfl, rfl⟩)
theorem cs_X3_39 {p : Program} {l : Launch} {e : Env} {R : Room} {s : State} {m : MethodId} {args : Array Value} {below : List Frame} {meth : Method} {c : Code} {H : Heap} {locs : List Loc} {cells slots : Nat} {cc : ByteArray} {pc nL : Nat} {ls : Array Slot} {rest : List Value} {G : b_G} {B0 : Nat} (CX : b_Cx p s m args c cc nL RX3 G B0) (hls : ls.size = nL) {rm : Room} {mc ms : Nat} {As st0 : List Value} {Qc : Array Value → State → Outcome → State → Prop} (hM : Met l yX3_brandAt (ws_ yX3_brandAt cX3_brandAt 2 (Option.some Jvm.ClassFile.FieldType.int)) rm (b_Pc G B0 H As) Qc mc ms (b_A B0)) (hn : As.length = 2) (hS : va_S (b_A B0) s.heap H locs) (hst : st0 = As.reverse ++ rest) (hr : rm.cells = mc ∧ rm.slots = ms ∧ rm.frames + 1 ≤ R.frames ∧ 8 + (2 + 11) + rm.locals ≤ R.locals) (hw : (rest.map fun v => v.category).sum ≤ 8) (hdg : decode cc pc = .ok (.invokestatic 39, 3)) (hf : cells + mc ≤ R.cells ∧ slots + ms ≤ R.slots) : va_Run p l e R s m args below meth c H locs cells slots mc ms (F0 m pc ls st0) rest (Qc As.toArray) (b_A B0) := va_runS CX.fix hM (va_cwS 2 CX.ts (lw_S q1914 q1915 q88 q1916) rfl hr.1 hr.2.1 (by decide +kernel) ⟨hr.2.2.1, hr.2.2.2⟩) ⟨b_blind G B0 H _, b_pre _ CX.K hS⟩ rfl hn hls hst (lv_room hw) hdg hf
set_option maxHeartbeats 2000000 in
set_option maxRecDepth 100000 in
theorem m_X3_of (l : Launch) {G : b_G} {B0 : Nat} {o : Nat → Nat} {Hr H : Heap} {S : b_St} {sp sv tx : Nat → Int32} {sa le th pl iw lt on ot nu di : Int32} {b : Nat} {w : Nat} (hM : MW G B0 o Hr H (enc S) sp sv tx sa le th pl iw lt on ot nu di) (hb : b < 8) (hw : w < 10) : Met l yX3_of (ws_ yX3_of cX3_of 3 (Option.some Jvm.ClassFile.FieldType.int)) ({ frames := 1, cells := 0, slots := 0, locals := 21 } : Room) (b_Pc G B0 H [.ref (o 0), .int (nI b), .int (nI w)]) (b_Qi B0 (fun r H1 => r = S 1 b w ∧ H1 = H)) 0 0 (b_A B0) := by
  refine b_of (by decide) (Nat.le_of_ble_eq_true rfl) ?_
  intro p e s m below meth c CX hr hlk hnm hS ls hl
  have CX : b_Cx p s m _ c cX3_of 3 RX3 G B0 := CX
  have hx := CX.hx
  have hb := CX.hb
  have hl : lv_has ls 3 [(0, .ref (o 0)), (1, .int (nI b)), (2, .int (nI w))] := hl
  generalize hQ : MQ below (b_Qi B0 (fun r H1 => r = S 1 b w ∧ H1 = H)) ([.ref (o 0), .int (nI b), .int (nI w)] : List Value).toArray s 0 0 (b_A B0) = Q
  refine lv_aload_n hx hb dX3_of_0 rfl (lv_at hl 0 rfl) ?_
  refine gf_X3_7_8 CX hM.o0 rfl dX3_of_1 ?_
  refine lv_iload_n hx hb dX3_of_4 rfl (lv_at hl 1 rfl) ?_
  refine lv_iload_n hx hb dX3_of_5 rfl (lv_at hl 2 rfl) ?_
  refine b_ci0 (cs_X3_39 (rest := [.ref (o 1)]) CX hl.1 (m_X3_brandAt l (b := b) (w := w)  ) rfl hS rfl ⟨rfl, rfl, Nat.le_of_ble_eq_true rfl, Nat.le_of_ble_eq_true rfl⟩ (Nat.le_of_ble_eq_true rfl) dX3_of_6 ⟨Nat.le_of_ble_eq_true rfl, Nat.le_of_ble_eq_true rfl⟩) hS (fun locs hS => ?_)
  refine b_ild CX hM.o1 (x := S 1 b w) (vp_in_nI (by omega) (by omega)) (b_at_nI (by omega) ((enc_1 _ (by omega) (by omega)))) dX3_of_9 ?_
  rw [← hQ]
  exact b_iret CX hr hlk hS (Nat.le_of_ble_eq_true rfl) (Nat.le_of_ble_eq_true rfl) dX3_of_10 (⟨rfl, rfl⟩)
theorem cs_X3_43 {p : Program} {l : Launch} {e : Env} {R : Room} {s : State} {m : MethodId} {args : Array Value} {below : List Frame} {meth : Method} {c : Code} {H : Heap} {locs : List Loc} {cells slots : Nat} {cc : ByteArray} {pc nL : Nat} {ls : Array Slot} {rest : List Value} {G : b_G} {B0 : Nat} (CX : b_Cx p s m args c cc nL RX3 G B0) (hls : ls.size = nL) {rm : Room} {mc ms : Nat} {As st0 : List Value} {Qc : Array Value → State → Outcome → State → Prop} (hM : Met l yX3_shopAt (ws_ yX3_shopAt cX3_shopAt 2 (Option.some Jvm.ClassFile.FieldType.int)) rm (b_Pc G B0 H As) Qc mc ms (b_A B0)) (hn : As.length = 2) (hS : va_S (b_A B0) s.heap H locs) (hst : st0 = As.reverse ++ rest) (hr : rm.cells = mc ∧ rm.slots = ms ∧ rm.frames + 1 ≤ R.frames ∧ 8 + (2 + 11) + rm.locals ≤ R.locals) (hw : (rest.map fun v => v.category).sum ≤ 8) (hdg : decode cc pc = .ok (.invokestatic 43, 3)) (hf : cells + mc ≤ R.cells ∧ slots + ms ≤ R.slots) : va_Run p l e R s m args below meth c H locs cells slots mc ms (F0 m pc ls st0) rest (Qc As.toArray) (b_A B0) := va_runS CX.fix hM (va_cwS 2 CX.ts (lw_S q1922 q1923 q88 q1924) rfl hr.1 hr.2.1 (by decide +kernel) ⟨hr.2.2.1, hr.2.2.2⟩) ⟨b_blind G B0 H _, b_pre _ CX.K hS⟩ rfl hn hls hst (lv_room hw) hdg hf
set_option maxHeartbeats 2000000 in
set_option maxRecDepth 100000 in
theorem m_X3_ofShop_a (l : Launch) {G : b_G} {B0 : Nat} {o : Nat → Nat} {Hr H : Heap} {S : b_St} {sp sv tx : Nat → Int32} {sa le th pl iw lt on ot nu di : Int32} {s_ : Nat} {b : Nat} (hM : MW G B0 o Hr H (enc S) sp sv tx sa le th pl iw lt on ot nu di) (hs : s_ < 6) (hb : b < 8) : Met l yX3_ofShop (ws_ yX3_ofShop cX3_ofShop 3 (Option.some Jvm.ClassFile.FieldType.int)) ({ frames := 1, cells := 0, slots := 0, locals := 21 } : Room) (b_Pc G B0 H [.ref (o 0), .int (nI s_), .int (nI (5 + b))]) (b_Qi B0 (fun r H1 => r = S 4 s_ b ∧ H1 = H)) 0 0 (b_A B0) := by
  refine b_of (by decide) (Nat.le_of_ble_eq_true rfl) ?_
  intro p e s m below meth c CX hr hlk hnm hS ls hl
  have CX : b_Cx p s m _ c cX3_ofShop 3 RX3 G B0 := CX
  have hx := CX.hx
  have hb := CX.hb
  have hl : lv_has ls 3 [(0, .ref (o 0)), (1, .int (nI s_)), (2, .int (nI (5 + b)))] := hl
  generalize hQ : MQ below (b_Qi B0 (fun r H1 => r = S 4 s_ b ∧ H1 = H)) ([.ref (o 0), .int (nI s_), .int (nI (5 + b))] : List Value).toArray s 0 0 (b_A B0) = Q
  refine lv_aload_n hx hb dX3_ofShop_0 rfl (lv_at hl 0 rfl) ?_
  refine gf_X3_7_8 CX hM.o0 rfl dX3_ofShop_1 ?_
  refine lv_iload_n hx hb dX3_ofShop_4 rfl (lv_at hl 1 rfl) ?_
  refine lv_iload_n hx hb dX3_ofShop_5 rfl (lv_at hl 2 rfl) ?_
  refine b_ci0 (cs_X3_43 (rest := [.ref (o 1)]) CX hl.1 (m_X3_shopAt_a l (b := s_) (w := b)  ) rfl hS rfl ⟨rfl, rfl, Nat.le_of_ble_eq_true rfl, Nat.le_of_ble_eq_true rfl⟩ (Nat.le_of_ble_eq_true rfl) dX3_ofShop_6 ⟨Nat.le_of_ble_eq_true rfl, Nat.le_of_ble_eq_true rfl⟩) hS (fun locs hS => ?_)
  refine b_ild CX hM.o1 (x := S 4 s_ b) (vp_in_nI (by omega) (by omega)) (b_at_nI (by omega) ((enc_4 _ (by omega) (by omega)))) dX3_ofShop_9 ?_
  rw [← hQ]
  exact b_iret CX hr hlk hS (Nat.le_of_ble_eq_true rfl) (Nat.le_of_ble_eq_true rfl) dX3_ofShop_10 (⟨rfl, rfl⟩)
set_option maxHeartbeats 2000000 in
set_option maxRecDepth 100000 in
theorem m_X3_ofShop_b (l : Launch) {G : b_G} {B0 : Nat} {o : Nat → Nat} {Hr H : Heap} {S : b_St} {sp sv tx : Nat → Int32} {sa le th pl iw lt on ot nu di : Int32} {s_ : Nat} {b : Nat} (hM : MW G B0 o Hr H (enc S) sp sv tx sa le th pl iw lt on ot nu di) (hs : s_ < 6) (hb : b < 8) : Met l yX3_ofShop (ws_ yX3_ofShop cX3_ofShop 3 (Option.some Jvm.ClassFile.FieldType.int)) ({ frames := 1, cells := 0, slots := 0, locals := 21 } : Room) (b_Pc G B0 H [.ref (o 0), .int (nI s_), .int (nI (13 + b))]) (b_Qi B0 (fun r H1 => r = S 5 s_ b ∧ H1 = H)) 0 0 (b_A B0) := by
  refine b_of (by decide) (Nat.le_of_ble_eq_true rfl) ?_
  intro p e s m below meth c CX hr hlk hnm hS ls hl
  have CX : b_Cx p s m _ c cX3_ofShop 3 RX3 G B0 := CX
  have hx := CX.hx
  have hb := CX.hb
  have hl : lv_has ls 3 [(0, .ref (o 0)), (1, .int (nI s_)), (2, .int (nI (13 + b)))] := hl
  generalize hQ : MQ below (b_Qi B0 (fun r H1 => r = S 5 s_ b ∧ H1 = H)) ([.ref (o 0), .int (nI s_), .int (nI (13 + b))] : List Value).toArray s 0 0 (b_A B0) = Q
  refine lv_aload_n hx hb dX3_ofShop_0 rfl (lv_at hl 0 rfl) ?_
  refine gf_X3_7_8 CX hM.o0 rfl dX3_ofShop_1 ?_
  refine lv_iload_n hx hb dX3_ofShop_4 rfl (lv_at hl 1 rfl) ?_
  refine lv_iload_n hx hb dX3_ofShop_5 rfl (lv_at hl 2 rfl) ?_
  refine b_ci0 (cs_X3_43 (rest := [.ref (o 1)]) CX hl.1 (m_X3_shopAt_b l (b := s_) (w := b)  ) rfl hS rfl ⟨rfl, rfl, Nat.le_of_ble_eq_true rfl, Nat.le_of_ble_eq_true rfl⟩ (Nat.le_of_ble_eq_true rfl) dX3_ofShop_6 ⟨Nat.le_of_ble_eq_true rfl, Nat.le_of_ble_eq_true rfl⟩) hS (fun locs hS => ?_)
  refine b_ild CX hM.o1 (x := S 5 s_ b) (vp_in_nI (by omega) (by omega)) (b_at_nI (by omega) ((enc_5 _ (by omega) (by omega)))) dX3_ofShop_9 ?_
  rw [← hQ]
  exact b_iret CX hr hlk hS (Nat.le_of_ble_eq_true rfl) (Nat.le_of_ble_eq_true rfl) dX3_ofShop_10 (⟨rfl, rfl⟩)
set_option maxHeartbeats 2000000 in
set_option maxRecDepth 100000 in
theorem m_X3_ofShop_0 (l : Launch) {G : b_G} {B0 : Nat} {o : Nat → Nat} {Hr H : Heap} {S : b_St} {sp sv tx : Nat → Int32} {sa le th pl iw lt on ot nu di : Int32} {s_ : Nat} (hM : MW G B0 o Hr H (enc S) sp sv tx sa le th pl iw lt on ot nu di) (hs : s_ < 6) : Met l yX3_ofShop (ws_ yX3_ofShop cX3_ofShop 3 (Option.some Jvm.ClassFile.FieldType.int)) ({ frames := 1, cells := 0, slots := 0, locals := 21 } : Room) (b_Pc G B0 H [.ref (o 0), .int (nI s_), .int (nI 0)]) (b_Qi B0 (fun r H1 => r = S 2 s_ 0 ∧ H1 = H)) 0 0 (b_A B0) := by
  refine b_of (by decide) (Nat.le_of_ble_eq_true rfl) ?_
  intro p e s m below meth c CX hr hlk hnm hS ls hl
  have CX : b_Cx p s m _ c cX3_ofShop 3 RX3 G B0 := CX
  have hx := CX.hx
  have hb := CX.hb
  have hl : lv_has ls 3 [(0, .ref (o 0)), (1, .int (nI s_)), (2, .int (nI 0))] := hl
  generalize hQ : MQ below (b_Qi B0 (fun r H1 => r = S 2 s_ 0 ∧ H1 = H)) ([.ref (o 0), .int (nI s_), .int (nI 0)] : List Value).toArray s 0 0 (b_A B0) = Q
  refine lv_aload_n hx hb dX3_ofShop_0 rfl (lv_at hl 0 rfl) ?_
  refine gf_X3_7_8 CX hM.o0 rfl dX3_ofShop_1 ?_
  refine lv_iload_n hx hb dX3_ofShop_4 rfl (lv_at hl 1 rfl) ?_
  refine lv_iload_n hx hb dX3_ofShop_5 rfl (lv_at hl 2 rfl) ?_
  refine b_ci0 (cs_X3_43 (rest := [.ref (o 1)]) CX hl.1 (m_X3_shopAt_c l (b := s_) (w := 0)  ) rfl hS rfl ⟨rfl, rfl, Nat.le_of_ble_eq_true rfl, Nat.le_of_ble_eq_true rfl⟩ (Nat.le_of_ble_eq_true rfl) dX3_ofShop_6 ⟨Nat.le_of_ble_eq_true rfl, Nat.le_of_ble_eq_true rfl⟩) hS (fun locs hS => ?_)
  refine b_ild CX hM.o1 (x := S 2 s_ 0) (vp_in_nI (by omega) (by omega)) (b_at_nI (by omega) ((enc_2 _ (by omega) (by omega)))) dX3_ofShop_9 ?_
  rw [← hQ]
  exact b_iret CX hr hlk hS (Nat.le_of_ble_eq_true rfl) (Nat.le_of_ble_eq_true rfl) dX3_ofShop_10 (⟨rfl, rfl⟩)
set_option maxHeartbeats 2000000 in
set_option maxRecDepth 100000 in
theorem m_X3_ofShop_1 (l : Launch) {G : b_G} {B0 : Nat} {o : Nat → Nat} {Hr H : Heap} {S : b_St} {sp sv tx : Nat → Int32} {sa le th pl iw lt on ot nu di : Int32} {s_ : Nat} (hM : MW G B0 o Hr H (enc S) sp sv tx sa le th pl iw lt on ot nu di) (hs : s_ < 6) : Met l yX3_ofShop (ws_ yX3_ofShop cX3_ofShop 3 (Option.some Jvm.ClassFile.FieldType.int)) ({ frames := 1, cells := 0, slots := 0, locals := 21 } : Room) (b_Pc G B0 H [.ref (o 0), .int (nI s_), .int (nI 1)]) (b_Qi B0 (fun r H1 => r = S 2 s_ 1 ∧ H1 = H)) 0 0 (b_A B0) := by
  refine b_of (by decide) (Nat.le_of_ble_eq_true rfl) ?_
  intro p e s m below meth c CX hr hlk hnm hS ls hl
  have CX : b_Cx p s m _ c cX3_ofShop 3 RX3 G B0 := CX
  have hx := CX.hx
  have hb := CX.hb
  have hl : lv_has ls 3 [(0, .ref (o 0)), (1, .int (nI s_)), (2, .int (nI 1))] := hl
  generalize hQ : MQ below (b_Qi B0 (fun r H1 => r = S 2 s_ 1 ∧ H1 = H)) ([.ref (o 0), .int (nI s_), .int (nI 1)] : List Value).toArray s 0 0 (b_A B0) = Q
  refine lv_aload_n hx hb dX3_ofShop_0 rfl (lv_at hl 0 rfl) ?_
  refine gf_X3_7_8 CX hM.o0 rfl dX3_ofShop_1 ?_
  refine lv_iload_n hx hb dX3_ofShop_4 rfl (lv_at hl 1 rfl) ?_
  refine lv_iload_n hx hb dX3_ofShop_5 rfl (lv_at hl 2 rfl) ?_
  refine b_ci0 (cs_X3_43 (rest := [.ref (o 1)]) CX hl.1 (m_X3_shopAt_c l (b := s_) (w := 1)  ) rfl hS rfl ⟨rfl, rfl, Nat.le_of_ble_eq_true rfl, Nat.le_of_ble_eq_true rfl⟩ (Nat.le_of_ble_eq_true rfl) dX3_ofShop_6 ⟨Nat.le_of_ble_eq_true rfl, Nat.le_of_ble_eq_true rfl⟩) hS (fun locs hS => ?_)
  refine b_ild CX hM.o1 (x := S 2 s_ 1) (vp_in_nI (by omega) (by omega)) (b_at_nI (by omega) ((enc_2 _ (by omega) (by omega)))) dX3_ofShop_9 ?_
  rw [← hQ]
  exact b_iret CX hr hlk hS (Nat.le_of_ble_eq_true rfl) (Nat.le_of_ble_eq_true rfl) dX3_ofShop_10 (⟨rfl, rfl⟩)
set_option maxHeartbeats 2000000 in
set_option maxRecDepth 100000 in
theorem m_X3_ofShop_2 (l : Launch) {G : b_G} {B0 : Nat} {o : Nat → Nat} {Hr H : Heap} {S : b_St} {sp sv tx : Nat → Int32} {sa le th pl iw lt on ot nu di : Int32} {s_ : Nat} (hM : MW G B0 o Hr H (enc S) sp sv tx sa le th pl iw lt on ot nu di) (hs : s_ < 6) : Met l yX3_ofShop (ws_ yX3_ofShop cX3_ofShop 3 (Option.some Jvm.ClassFile.FieldType.int)) ({ frames := 1, cells := 0, slots := 0, locals := 21 } : Room) (b_Pc G B0 H [.ref (o 0), .int (nI s_), .int (nI 2)]) (b_Qi B0 (fun r H1 => r = S 2 s_ 2 ∧ H1 = H)) 0 0 (b_A B0) := by
  refine b_of (by decide) (Nat.le_of_ble_eq_true rfl) ?_
  intro p e s m below meth c CX hr hlk hnm hS ls hl
  have CX : b_Cx p s m _ c cX3_ofShop 3 RX3 G B0 := CX
  have hx := CX.hx
  have hb := CX.hb
  have hl : lv_has ls 3 [(0, .ref (o 0)), (1, .int (nI s_)), (2, .int (nI 2))] := hl
  generalize hQ : MQ below (b_Qi B0 (fun r H1 => r = S 2 s_ 2 ∧ H1 = H)) ([.ref (o 0), .int (nI s_), .int (nI 2)] : List Value).toArray s 0 0 (b_A B0) = Q
  refine lv_aload_n hx hb dX3_ofShop_0 rfl (lv_at hl 0 rfl) ?_
  refine gf_X3_7_8 CX hM.o0 rfl dX3_ofShop_1 ?_
  refine lv_iload_n hx hb dX3_ofShop_4 rfl (lv_at hl 1 rfl) ?_
  refine lv_iload_n hx hb dX3_ofShop_5 rfl (lv_at hl 2 rfl) ?_
  refine b_ci0 (cs_X3_43 (rest := [.ref (o 1)]) CX hl.1 (m_X3_shopAt_c l (b := s_) (w := 2)  ) rfl hS rfl ⟨rfl, rfl, Nat.le_of_ble_eq_true rfl, Nat.le_of_ble_eq_true rfl⟩ (Nat.le_of_ble_eq_true rfl) dX3_ofShop_6 ⟨Nat.le_of_ble_eq_true rfl, Nat.le_of_ble_eq_true rfl⟩) hS (fun locs hS => ?_)
  refine b_ild CX hM.o1 (x := S 2 s_ 2) (vp_in_nI (by omega) (by omega)) (b_at_nI (by omega) ((enc_2 _ (by omega) (by omega)))) dX3_ofShop_9 ?_
  rw [← hQ]
  exact b_iret CX hr hlk hS (Nat.le_of_ble_eq_true rfl) (Nat.le_of_ble_eq_true rfl) dX3_ofShop_10 (⟨rfl, rfl⟩)
set_option maxHeartbeats 2000000 in
set_option maxRecDepth 100000 in
theorem m_X3_ofShop_3 (l : Launch) {G : b_G} {B0 : Nat} {o : Nat → Nat} {Hr H : Heap} {S : b_St} {sp sv tx : Nat → Int32} {sa le th pl iw lt on ot nu di : Int32} {s_ : Nat} (hM : MW G B0 o Hr H (enc S) sp sv tx sa le th pl iw lt on ot nu di) (hs : s_ < 6) : Met l yX3_ofShop (ws_ yX3_ofShop cX3_ofShop 3 (Option.some Jvm.ClassFile.FieldType.int)) ({ frames := 1, cells := 0, slots := 0, locals := 21 } : Room) (b_Pc G B0 H [.ref (o 0), .int (nI s_), .int (nI 3)]) (b_Qi B0 (fun r H1 => r = S 2 s_ 3 ∧ H1 = H)) 0 0 (b_A B0) := by
  refine b_of (by decide) (Nat.le_of_ble_eq_true rfl) ?_
  intro p e s m below meth c CX hr hlk hnm hS ls hl
  have CX : b_Cx p s m _ c cX3_ofShop 3 RX3 G B0 := CX
  have hx := CX.hx
  have hb := CX.hb
  have hl : lv_has ls 3 [(0, .ref (o 0)), (1, .int (nI s_)), (2, .int (nI 3))] := hl
  generalize hQ : MQ below (b_Qi B0 (fun r H1 => r = S 2 s_ 3 ∧ H1 = H)) ([.ref (o 0), .int (nI s_), .int (nI 3)] : List Value).toArray s 0 0 (b_A B0) = Q
  refine lv_aload_n hx hb dX3_ofShop_0 rfl (lv_at hl 0 rfl) ?_
  refine gf_X3_7_8 CX hM.o0 rfl dX3_ofShop_1 ?_
  refine lv_iload_n hx hb dX3_ofShop_4 rfl (lv_at hl 1 rfl) ?_
  refine lv_iload_n hx hb dX3_ofShop_5 rfl (lv_at hl 2 rfl) ?_
  refine b_ci0 (cs_X3_43 (rest := [.ref (o 1)]) CX hl.1 (m_X3_shopAt_c l (b := s_) (w := 3)  ) rfl hS rfl ⟨rfl, rfl, Nat.le_of_ble_eq_true rfl, Nat.le_of_ble_eq_true rfl⟩ (Nat.le_of_ble_eq_true rfl) dX3_ofShop_6 ⟨Nat.le_of_ble_eq_true rfl, Nat.le_of_ble_eq_true rfl⟩) hS (fun locs hS => ?_)
  refine b_ild CX hM.o1 (x := S 2 s_ 3) (vp_in_nI (by omega) (by omega)) (b_at_nI (by omega) ((enc_2 _ (by omega) (by omega)))) dX3_ofShop_9 ?_
  rw [← hQ]
  exact b_iret CX hr hlk hS (Nat.le_of_ble_eq_true rfl) (Nat.le_of_ble_eq_true rfl) dX3_ofShop_10 (⟨rfl, rfl⟩)
set_option maxHeartbeats 2000000 in
set_option maxRecDepth 100000 in
theorem m_X3_ofShop_4 (l : Launch) {G : b_G} {B0 : Nat} {o : Nat → Nat} {Hr H : Heap} {S : b_St} {sp sv tx : Nat → Int32} {sa le th pl iw lt on ot nu di : Int32} {s_ : Nat} (hM : MW G B0 o Hr H (enc S) sp sv tx sa le th pl iw lt on ot nu di) (hs : s_ < 6) : Met l yX3_ofShop (ws_ yX3_ofShop cX3_ofShop 3 (Option.some Jvm.ClassFile.FieldType.int)) ({ frames := 1, cells := 0, slots := 0, locals := 21 } : Room) (b_Pc G B0 H [.ref (o 0), .int (nI s_), .int (nI 4)]) (b_Qi B0 (fun r H1 => r = S 2 s_ 4 ∧ H1 = H)) 0 0 (b_A B0) := by
  refine b_of (by decide) (Nat.le_of_ble_eq_true rfl) ?_
  intro p e s m below meth c CX hr hlk hnm hS ls hl
  have CX : b_Cx p s m _ c cX3_ofShop 3 RX3 G B0 := CX
  have hx := CX.hx
  have hb := CX.hb
  have hl : lv_has ls 3 [(0, .ref (o 0)), (1, .int (nI s_)), (2, .int (nI 4))] := hl
  generalize hQ : MQ below (b_Qi B0 (fun r H1 => r = S 2 s_ 4 ∧ H1 = H)) ([.ref (o 0), .int (nI s_), .int (nI 4)] : List Value).toArray s 0 0 (b_A B0) = Q
  refine lv_aload_n hx hb dX3_ofShop_0 rfl (lv_at hl 0 rfl) ?_
  refine gf_X3_7_8 CX hM.o0 rfl dX3_ofShop_1 ?_
  refine lv_iload_n hx hb dX3_ofShop_4 rfl (lv_at hl 1 rfl) ?_
  refine lv_iload_n hx hb dX3_ofShop_5 rfl (lv_at hl 2 rfl) ?_
  refine b_ci0 (cs_X3_43 (rest := [.ref (o 1)]) CX hl.1 (m_X3_shopAt_c l (b := s_) (w := 4)  ) rfl hS rfl ⟨rfl, rfl, Nat.le_of_ble_eq_true rfl, Nat.le_of_ble_eq_true rfl⟩ (Nat.le_of_ble_eq_true rfl) dX3_ofShop_6 ⟨Nat.le_of_ble_eq_true rfl, Nat.le_of_ble_eq_true rfl⟩) hS (fun locs hS => ?_)
  refine b_ild CX hM.o1 (x := S 2 s_ 4) (vp_in_nI (by omega) (by omega)) (b_at_nI (by omega) ((enc_2 _ (by omega) (by omega)))) dX3_ofShop_9 ?_
  rw [← hQ]
  exact b_iret CX hr hlk hS (Nat.le_of_ble_eq_true rfl) (Nat.le_of_ble_eq_true rfl) dX3_ofShop_10 (⟨rfl, rfl⟩)
theorem cs_X3_46 {p : Program} {l : Launch} {e : Env} {R : Room} {s : State} {m : MethodId} {args : Array Value} {below : List Frame} {meth : Method} {c : Code} {H : Heap} {locs : List Loc} {cells slots : Nat} {cc : ByteArray} {pc nL a : Nat} {ls : Array Slot} {rest : List Value} {G : b_G} {B0 : Nat} (CX : b_Cx p s m args c cc nL RX3 G B0) (hls : ls.size = nL) {rm : Room} {mc ms : Nat} {As st0 : List Value} {Qc : Array Value → State → Outcome → State → Prop} (hM : Met l yX3_of (ws_ yX3_of cX3_of 3 (Option.some Jvm.ClassFile.FieldType.int)) rm (b_Pc G B0 H (.ref a :: As)) Qc mc ms (b_A B0)) (hn : As.length = 2) {fs : List Value} {ci : Nat} {qc : vw_C} (hc : b_cl[ci]? = some qc) (hq : qc.1 = RX3) (hP : b_at G a (.inr (ci, fs)) H) (hS : va_S (b_A B0) s.heap H locs) (hst : st0 = As.reverse ++ .ref a :: rest) (hr : rm.cells = mc ∧ rm.slots = ms ∧ rm.frames + 1 ≤ R.frames ∧ 8 + (3 + 11) + rm.locals ≤ R.locals) (hw : (rest.map fun v => v.category).sum ≤ 8) (hdg : decode cc pc = .ok (.invokevirtual 46, 3)) (hf : cells + mc ≤ R.cells ∧ slots + ms ≤ R.slots) : va_Run p l e R s m args below meth c H locs cells slots mc ms (F0 m pc ls st0) rest (Qc (Value.ref a :: As).toArray) (b_A B0) := va_runV CX.fix hM (cwV 2 CX.ts (lw_V q1949 q1951 qs42 q88 q1952) rfl hr.1 hr.2.1 (by decide +kernel) ⟨hr.2.2.1, hr.2.2.2⟩) ⟨b_blind G B0 H _, by have h9 := b_recv CX.K hc hP; rw [hq] at h9; exact h9, b_pre _ CX.K hS⟩ rfl hn hls hst (lv_room hw) hdg hf
set_option maxHeartbeats 2000000 in
set_option maxRecDepth 100000 in
theorem m_X3_deposit (l : Launch) {G : b_G} {B0 : Nat} {o : Nat → Nat} {Hr H : Heap} {S : b_St} {sp sv tx : Nat → Int32} {sa le th pl iw lt on ot nu di : Int32} {b : Nat} (hM : MW G B0 o Hr H (enc S) sp sv tx sa le th pl iw lt on ot nu di) (hW : b_WF S) (hb : b < 8) : Met l yX3_deposit (ws_ yX3_deposit cX3_deposit 2 (Option.some Jvm.ClassFile.FieldType.int)) ({ frames := 2, cells := 0, slots := 0, locals := 43 } : Room) (b_Pc G B0 H [.ref (o 0), .int (nI b)]) (b_Qi B0 (fun r H1 => r = S 0 0 (7 + kd S b) ∧ H1 = H)) 0 0 (b_A B0) := by
  refine b_of (by decide) (Nat.le_of_ble_eq_true rfl) ?_
  intro p e s m below meth c CX hr hlk hnm hS ls hl
  have CX : b_Cx p s m _ c cX3_deposit 2 RX3 G B0 := CX
  have hx := CX.hx
  have hb := CX.hb
  have hl : lv_has ls 2 [(0, .ref (o 0)), (1, .int (nI b))] := hl
  generalize hQ : MQ below (b_Qi B0 (fun r H1 => r = S 0 0 (7 + kd S b) ∧ H1 = H)) ([.ref (o 0), .int (nI b)] : List Value).toArray s 0 0 (b_A B0) = Q
  have hkd := hW.kd3 (b := b) (by omega)
  refine lv_aload_n hx hb dX3_deposit_0 rfl (lv_at hl 0 rfl) ?_
  refine gf_X3_7_8 CX hM.o0 rfl dX3_deposit_1 ?_
  refine lv_bipush (v := nI 7) hx hb dX3_deposit_4 rfl ?_
  refine lv_aload_n hx hb dX3_deposit_6 rfl (lv_at hl 0 rfl) ?_
  refine lv_iload_n hx hb dX3_deposit_7 rfl (lv_at hl 1 rfl) ?_
  refine lv_iconst (v := nI 0) hx hb dX3_deposit_8 rfl ?_
  refine b_ci0 (cs_X3_46 (rest := [.int (nI 7), .ref (o 1)]) CX hl.1 (m_X3_of l (b := b) (w := 0) hM (by omega) (by omega)) rfl rfl rfl hM.o0 hS rfl ⟨rfl, rfl, Nat.le_of_ble_eq_true rfl, Nat.le_of_ble_eq_true rfl⟩ (Nat.le_of_ble_eq_true rfl) dX3_deposit_9 ⟨Nat.le_of_ble_eq_true rfl, Nat.le_of_ble_eq_true rfl⟩) hS (fun locs hS => ?_)
  refine b_top (x := S 1 b 0) (y := nI (kd S b)) ((hW.kdE (by omega))) ?_
  refine b_iaddN CX dX3_deposit_12 ?_
  refine b_ild CX hM.o1 (x := S 0 0 (7 + (kd S b))) (vp_in_nI (by omega) (by omega)) (b_at_nI (by omega) ((enc_0 _ (by omega)))) dX3_deposit_13 ?_
  rw [← hQ]
  exact b_iret CX hr hlk hS (Nat.le_of_ble_eq_true rfl) (Nat.le_of_ble_eq_true rfl) dX3_deposit_14 (⟨rfl, rfl⟩)
set_option maxHeartbeats 2000000 in
set_option maxRecDepth 100000 in
theorem m_X3_depositsFor (l : Launch) {G : b_G} {B0 : Nat} {o : Nat → Nat} {Hr H : Heap} {S : b_St} {sp sv tx : Nat → Int32} {sa le th pl iw lt on ot nu di : Int32} {k : Nat} {c_ : Int32} (hM : MW G B0 o Hr H (enc S) sp sv tx sa le th pl iw lt on ot nu di) (hk : k < 3) : Met l yX3_depositsFor (ws_ yX3_depositsFor cX3_depositsFor 3 (Option.some Jvm.ClassFile.FieldType.int)) ({ frames := 0, cells := 0, slots := 0, locals := 0 } : Room) (b_Pc G B0 H [.ref (o 0), .int (nI k), .int c_]) (b_Qi B0 (fun r H1 => r = c_ * (nI 12 * S 0 0 (7 + k) + S 0 0 10) ∧ H1 = H)) 0 0 (b_A B0) := by
  refine b_of (by decide) (Nat.le_of_ble_eq_true rfl) ?_
  intro p e s m below meth c CX hr hlk hnm hS ls hl
  have CX : b_Cx p s m _ c cX3_depositsFor 3 RX3 G B0 := CX
  have hx := CX.hx
  have hb := CX.hb
  have hl : lv_has ls 3 [(0, .ref (o 0)), (1, .int (nI k)), (2, .int c_)] := hl
  generalize hQ : MQ below (b_Qi B0 (fun r H1 => r = c_ * (nI 12 * S 0 0 (7 + k) + S 0 0 10) ∧ H1 = H)) ([.ref (o 0), .int (nI k), .int c_] : List Value).toArray s 0 0 (b_A B0) = Q
  refine lv_iload_n hx hb dX3_depositsFor_0 rfl (lv_at hl 2 rfl) ?_
  refine lv_bipush (v := nI 12) hx hb dX3_depositsFor_1 rfl ?_
  refine lv_aload_n hx hb dX3_depositsFor_3 rfl (lv_at hl 0 rfl) ?_
  refine gf_X3_7_8 CX hM.o0 rfl dX3_depositsFor_4 ?_
  refine lv_bipush (v := nI 7) hx hb dX3_depositsFor_7 rfl ?_
  refine lv_iload_n hx hb dX3_depositsFor_9 rfl (lv_at hl 1 rfl) ?_
  refine b_iaddN CX dX3_depositsFor_10 ?_
  refine b_ild CX hM.o1 (x := S 0 0 (7 + k)) (vp_in_nI (by omega) (by omega)) (b_at_nI (by omega) ((enc_0 _ (by omega)))) dX3_depositsFor_11 ?_
  refine lv_imul hx hb dX3_depositsFor_12 ?_
  refine lv_aload_n hx hb dX3_depositsFor_13 rfl (lv_at hl 0 rfl) ?_
  refine gf_X3_7_8 CX hM.o0 rfl dX3_depositsFor_14 ?_
  refine lv_bipush (v := nI 10) hx hb dX3_depositsFor_17 rfl ?_
  refine b_ild CX hM.o1 (x := S 0 0 10) (vp_in_nI (by omega) (by omega)) (b_at_nI (by omega) ((enc_0 _ (by decide)))) dX3_depositsFor_19 ?_
  refine lv_iadd hx hb dX3_depositsFor_20 ?_
  refine lv_imul hx hb dX3_depositsFor_21 ?_
  rw [← hQ]
  exact b_iret CX hr hlk hS (Nat.le_of_ble_eq_true rfl) (Nat.le_of_ble_eq_true rfl) dX3_depositsFor_22 (⟨rfl, rfl⟩)
theorem cs_X3_67 {p : Program} {l : Launch} {e : Env} {R : Room} {s : State} {m : MethodId} {args : Array Value} {below : List Frame} {meth : Method} {c : Code} {H : Heap} {locs : List Loc} {cells slots : Nat} {cc : ByteArray} {pc nL a : Nat} {ls : Array Slot} {rest : List Value} {G : b_G} {B0 : Nat} (CX : b_Cx p s m args c cc nL RX3 G B0) (hls : ls.size = nL) {rm : Room} {mc ms : Nat} {As st0 : List Value} {Qc : Array Value → State → Outcome → State → Prop} (hM : Met l yX3_depositsFor (ws_ yX3_depositsFor cX3_depositsFor 3 (Option.some Jvm.ClassFile.FieldType.int)) rm (b_Pc G B0 H (.ref a :: As)) Qc mc ms (b_A B0)) (hn : As.length = 2) {fs : List Value} {ci : Nat} {qc : vw_C} (hc : b_cl[ci]? = some qc) (hq : qc.1 = RX3) (hP : b_at G a (.inr (ci, fs)) H) (hS : va_S (b_A B0) s.heap H locs) (hst : st0 = As.reverse ++ .ref a :: rest) (hr : rm.cells = mc ∧ rm.slots = ms ∧ rm.frames + 1 ≤ R.frames ∧ 8 + (3 + 11) + rm.locals ≤ R.locals) (hw : (rest.map fun v => v.category).sum ≤ 8) (hdg : decode cc pc = .ok (.invokevirtual 67, 3)) (hf : cells + mc ≤ R.cells ∧ slots + ms ≤ R.slots) : va_Run p l e R s m args below meth c H locs cells slots mc ms (F0 m pc ls st0) rest (Qc (Value.ref a :: As).toArray) (b_A B0) := va_runV CX.fix hM (cwV 2 CX.ts (lw_V q1977 q1979 qs48 q88 q1980) rfl hr.1 hr.2.1 (by decide +kernel) ⟨hr.2.2.1, hr.2.2.2⟩) ⟨b_blind G B0 H _, by have h9 := b_recv CX.K hc hP; rw [hq] at h9; exact h9, b_pre _ CX.K hS⟩ rfl hn hls hst (lv_room hw) hdg hf
set_option maxHeartbeats 2000000 in
set_option maxRecDepth 100000 in
theorem m_X3_priceFor (l : Launch) {G : b_G} {B0 : Nat} {o : Nat → Nat} {Hr H : Heap} {S : b_St} {sp sv tx : Nat → Int32} {sa le th pl iw lt on ot nu di : Int32} {b : Nat} {c_ : Int32} (hM : MW G B0 o Hr H (enc S) sp sv tx sa le th pl iw lt on ot nu di) (hW : b_WF S) (hb : b < 8) : Met l yX3_priceFor (ws_ yX3_priceFor cX3_priceFor 3 (Option.some Jvm.ClassFile.FieldType.int)) ({ frames := 2, cells := 0, slots := 0, locals := 43 } : Room) (b_Pc G B0 H [.ref (o 0), .int (nI b), .int c_]) (b_Qi B0 (fun r H1 => r = p_price S b c_ ∧ H1 = H)) 0 0 (b_A B0) := by
  refine b_of (by decide) (Nat.le_of_ble_eq_true rfl) ?_
  intro p e s m below meth c CX hr hlk hnm hS ls hl
  have CX : b_Cx p s m _ c cX3_priceFor 3 RX3 G B0 := CX
  have hx := CX.hx
  have hb := CX.hb
  have hl : lv_has ls 3 [(0, .ref (o 0)), (1, .int (nI b)), (2, .int c_)] := hl
  generalize hQ : MQ below (b_Qi B0 (fun r H1 => r = p_price S b c_ ∧ H1 = H)) ([.ref (o 0), .int (nI b), .int c_] : List Value).toArray s 0 0 (b_A B0) = Q
  have hkd := hW.kd3 (b := b) (by omega)
  refine lv_aload_n hx hb dX3_priceFor_0 rfl (lv_at hl 0 rfl) ?_
  refine lv_aload_n hx hb dX3_priceFor_1 rfl (lv_at hl 0 rfl) ?_
  refine lv_iload_n hx hb dX3_priceFor_2 rfl (lv_at hl 1 rfl) ?_
  refine lv_iconst (v := nI 0) hx hb dX3_priceFor_3 rfl ?_
  refine b_ci0 (cs_X3_46 (rest := [.ref (o 0)]) CX hl.1 (m_X3_of l (b := b) (w := 0) hM (by omega) (by omega)) rfl rfl rfl hM.o0 hS rfl ⟨rfl, rfl, Nat.le_of_ble_eq_true rfl, Nat.le_of_ble_eq_true rfl⟩ (Nat.le_of_ble_eq_true rfl) dX3_priceFor_4 ⟨Nat.le_of_ble_eq_true rfl, Nat.le_of_ble_eq_true rfl⟩) hS (fun locs hS => ?_)
  refine b_top (x := S 1 b 0) (y := nI (kd S b)) ((hW.kdE (by omega))) ?_
  refine lv_iload_n hx hb dX3_priceFor_7 rfl (lv_at hl 2 rfl) ?_
  refine b_ci0 (cs_X3_67 (rest := []) CX hl.1 (m_X3_depositsFor l (k := kd S b) (c_ := c_) hM (by omega)) rfl rfl rfl hM.o0 hS rfl ⟨rfl, rfl, Nat.le_of_ble_eq_true rfl, Nat.le_of_ble_eq_true rfl⟩ (Nat.le_of_ble_eq_true rfl) dX3_priceFor_8 ⟨Nat.le_of_ble_eq_true rfl, Nat.le_of_ble_eq_true rfl⟩) hS (fun locs hS => ?_)
  refine lv_iload_n hx hb dX3_priceFor_11 rfl (lv_at hl 2 rfl) ?_
  refine lv_aload_n hx hb dX3_priceFor_12 rfl (lv_at hl 0 rfl) ?_
  refine gf_X3_7_8 CX hM.o0 rfl dX3_priceFor_13 ?_
  refine lv_bipush (v := nI 11) hx hb dX3_priceFor_16 rfl ?_
  refine b_ild CX hM.o1 (x := S 0 0 11) (vp_in_nI (by omega) (by omega)) (b_at_nI (by omega) ((enc_0 _ (by decide)))) dX3_priceFor_18 ?_
  refine lv_imul hx hb dX3_priceFor_19 ?_
  refine lv_iadd hx hb dX3_priceFor_20 ?_
  rw [← hQ]
  exact b_iret CX hr hlk hS (Nat.le_of_ble_eq_true rfl) (Nat.le_of_ble_eq_true rfl) dX3_priceFor_21 (⟨rfl, rfl⟩)
set_option maxHeartbeats 2000000 in
set_option maxRecDepth 100000 in
theorem m_X3_full (l : Launch) {G : b_G} {B0 : Nat} {o : Nat → Nat} {Hr H : Heap} {S : b_St} {sp sv tx : Nat → Int32} {sa le th pl iw lt on ot nu di : Int32} {b : Nat} {n_ : Int32} (hM : MW G B0 o Hr H (enc S) sp sv tx sa le th pl iw lt on ot nu di) (hW : b_WF S) (hb : b < 8) : Met l yX3_full (ws_ yX3_full cX3_full 4 (Option.some Jvm.ClassFile.FieldType.int)) ({ frames := 2, cells := 0, slots := 0, locals := 43 } : Room) (b_Pc G B0 H [.ref (o 0), .int (nI b), .int n_]) (b_Qi B0 (fun r H1 => r = p_full S b n_ ∧ H1 = H)) 0 0 (b_A B0) := by
  refine b_of (by decide) (Nat.le_of_ble_eq_true rfl) ?_
  intro p e s m below meth c CX hr hlk hnm hS ls hl
  have CX : b_Cx p s m _ c cX3_full 4 RX3 G B0 := CX
  have hx := CX.hx
  have hb := CX.hb
  have hl : lv_has ls 4 [(0, .ref (o 0)), (1, .int (nI b)), (2, .int n_)] := hl
  generalize hQ : MQ below (b_Qi B0 (fun r H1 => r = p_full S b n_ ∧ H1 = H)) ([.ref (o 0), .int (nI b), .int n_] : List Value).toArray s 0 0 (b_A B0) = Q
  refine lv_aload_n hx hb dX3_full_0 rfl (lv_at hl 0 rfl) ?_
  refine gf_X3_7_8 CX hM.o0 rfl dX3_full_1 ?_
  refine lv_bipush (v := nI 12) hx hb dX3_full_4 rfl ?_
  refine b_ild CX hM.o1 (x := S 0 0 12) (vp_in_nI (by omega) (by omega)) (b_at_nI (by omega) ((enc_0 _ (by decide)))) dX3_full_6 ?_
  refine lv_istore_n (lv' := [(3, .int (S 0 0 12)), (0, .ref (o 0)), (1, .int (nI b)), (2, .int n_)]) hx hb dX3_full_7 rfl hl (Nat.le_of_ble_eq_true rfl) rfl (fun ls hl => ?_)
  refine lv_iload_n hx hb dX3_full_8 rfl (lv_at hl 3 rfl) ?_
  refine lv_aload_n hx hb dX3_full_9 rfl (lv_at hl 1 rfl) ?_
  refine lv_iload_n hx hb dX3_full_10 rfl (lv_at hl 2 rfl) ?_
  refine lv_bipush (v := nI 8) hx hb dX3_full_11 rfl ?_
  refine b_ci0 (cs_X3_46 (rest := [.int n_]) CX hl.1 (m_X3_of l (b := b) (w := 8) hM (by omega) (by omega)) rfl rfl rfl hM.o0 hS rfl ⟨rfl, rfl, Nat.le_of_ble_eq_true rfl, Nat.le_of_ble_eq_true rfl⟩ (Nat.le_of_ble_eq_true rfl) dX3_full_13 ⟨Nat.le_of_ble_eq_true rfl, Nat.le_of_ble_eq_true rfl⟩) hS (fun locs hS => ?_)
  refine lv_iload_n hx hb dX3_full_16 rfl (lv_at hl 3 rfl) ?_
  refine lv_iadd hx hb dX3_full_17 ?_
  refine lv_iload_n hx hb dX3_full_18 rfl (lv_at hl 0 rfl) ?_
  refine lv_idiv hx hb dX3_full_19 (hW.wear) ?_
  refine lv_aload_n hx hb dX3_full_20 rfl (lv_at hl 1 rfl) ?_
  refine lv_iload_n hx hb dX3_full_21 rfl (lv_at hl 2 rfl) ?_
  refine lv_bipush (v := nI 8) hx hb dX3_full_22 rfl ?_
  refine b_ci0 (cs_X3_46 (rest := [.int (((S 1 b 8) + n_) / (S 0 0 12)), .int n_]) CX hl.1 (m_X3_of l (b := b) (w := 8) hM (by omega) (by omega)) rfl rfl rfl hM.o0 hS rfl ⟨rfl, rfl, Nat.le_of_ble_eq_true rfl, Nat.le_of_ble_eq_true rfl⟩ (Nat.le_of_ble_eq_true rfl) dX3_full_24 ⟨Nat.le_of_ble_eq_true rfl, Nat.le_of_ble_eq_true rfl⟩) hS (fun locs hS => ?_)
  refine lv_iload_n hx hb dX3_full_27 rfl (lv_at hl 0 rfl) ?_
  refine lv_idiv hx hb dX3_full_28 (hW.wear) ?_
  refine lv_isub hx hb dX3_full_29 ?_
  refine lv_isub hx hb dX3_full_30 ?_
  rw [← hQ]
  exact b_iret CX hr hlk hS (Nat.le_of_ble_eq_true rfl) (Nat.le_of_ble_eq_true rfl) dX3_full_31 (⟨rfl, rfl⟩)
theorem cs_X3_57 {p : Program} {l : Launch} {e : Env} {R : Room} {s : State} {m : MethodId} {args : Array Value} {below : List Frame} {meth : Method} {c : Code} {H : Heap} {locs : List Loc} {cells slots : Nat} {cc : ByteArray} {pc nL a : Nat} {ls : Array Slot} {rest : List Value} {G : b_G} {B0 : Nat} (CX : b_Cx p s m args c cc nL RX3 G B0) (hls : ls.size = nL) {rm : Room} {mc ms : Nat} {As st0 : List Value} {Qc : Array Value → State → Outcome → State → Prop} (hM : Met l yX3_ofShop (ws_ yX3_ofShop cX3_ofShop 3 (Option.some Jvm.ClassFile.FieldType.int)) rm (b_Pc G B0 H (.ref a :: As)) Qc mc ms (b_A B0)) (hn : As.length = 2) {fs : List Value} {ci : Nat} {qc : vw_C} (hc : b_cl[ci]? = some qc) (hq : qc.1 = RX3) (hP : b_at G a (.inr (ci, fs)) H) (hS : va_S (b_A B0) s.heap H locs) (hst : st0 = As.reverse ++ .ref a :: rest) (hr : rm.cells = mc ∧ rm.slots = ms ∧ rm.frames + 1 ≤ R.frames ∧ 8 + (3 + 11) + rm.locals ≤ R.locals) (hw : (rest.map fun v => v.category).sum ≤ 8) (hdg : decode cc pc = .ok (.invokevirtual 57, 3)) (hf : cells + mc ≤ R.cells ∧ slots + ms ≤ R.slots) : va_Run p l e R s m args below meth c H locs cells slots mc ms (F0 m pc ls st0) rest (Qc (Value.ref a :: As).toArray) (b_A B0) := va_runV CX.fix hM (cwV 2 CX.ts (lw_V q1933 q1935 qs40 q88 q1936) rfl hr.1 hr.2.1 (by decide +kernel) ⟨hr.2.2.1, hr.2.2.2⟩) ⟨b_blind G B0 H _, by have h9 := b_recv CX.K hc hP; rw [hq] at h9; exact h9, b_pre _ CX.K hS⟩ rfl hn hls hst (lv_room hw) hdg hf
set_option maxHeartbeats 2000000 in
set_option maxRecDepth 100000 in
theorem m_X3_cratesInShops (l : Launch) {G : b_G} {B0 : Nat} {o : Nat → Nat} {Hr H : Heap} {S : b_St} {sp sv tx : Nat → Int32} {sa le th pl iw lt on ot nu di : Int32} (hM : MW G B0 o Hr H (enc S) sp sv tx sa le th pl iw lt on ot nu di) (hW : b_WF S) : Met l yX3_cratesInShops (ws_ yX3_cratesInShops cX3_cratesInShops 3 (Option.some Jvm.ClassFile.FieldType.int)) ({ frames := 2, cells := 0, slots := 0, locals := 43 } : Room) (b_Pc G B0 H [.ref (o 0)]) (b_Qi B0 (fun r H1 => r = p_crates S ∧ H1 = H)) 0 0 (b_A B0) := by
  refine b_of (by decide) (Nat.le_of_ble_eq_true rfl) ?_
  intro p e s m below meth c CX hr hlk hnm hS ls hl
  have CX : b_Cx p s m _ c cX3_cratesInShops 3 RX3 G B0 := CX
  have hx := CX.hx
  have hb := CX.hb
  have hl : lv_has ls 3 [(0, .ref (o 0))] := hl
  generalize hQ : MQ below (b_Qi B0 (fun r H1 => r = p_crates S ∧ H1 = H)) ([.ref (o 0)] : List Value).toArray s 0 0 (b_A B0) = Q
  have hn8 := hW.nb8
  have hn6 := hW.ns6
  refine lv_iconst (v := nI 0) hx hb dX3_cratesInShops_0 rfl ?_
  refine lv_istore_n (lv' := [(1, .int (nI 0)), (0, .ref (o 0))]) hx hb dX3_cratesInShops_1 rfl hl (Nat.le_of_ble_eq_true rfl) rfl (fun ls hl => ?_)
  refine lv_iconst (v := nI 0) hx hb dX3_cratesInShops_2 rfl ?_
  refine lv_istore_n (lv' := [(2, .int (nI 0)), (1, .int (nI 0)), (0, .ref (o 0))]) hx hb dX3_cratesInShops_3 rfl hl (Nat.le_of_ble_eq_true rfl) rfl (fun ls hl => ?_)
  have lp4_1 : ∀ (n_ : Nat) (i : Nat), i ≤ ns S → ns S - i < n_ → ∀ (locs : List Loc), va_S (b_A B0) s.heap H locs → ∀ ls : Array Slot, lv_has ls 3 [(1, .int (p_sum (f_crates S) i)), (2, .int (nI i)), (0, .ref (o 0))] → W p l e ({ frames := 2, cells := 0, slots := 0, locals := 43 } : Room) s m ([.ref (o 0)] : List Value).toArray below meth c H locs 0 0 Q (F0 m 4 ls []) := by
    intro n_
    induction n_ with
    | zero => intro i hi hlt locs hS ls hl; exact absurd hlt (Nat.not_lt_zero _)
    | succ n_ ih4 =>
      intro i hi hlt locs hS ls hl
      refine lv_iload_n hx hb dX3_cratesInShops_4 rfl (lv_at hl 1 rfl) ?_
      refine lv_aload_n hx hb dX3_cratesInShops_5 rfl (lv_at hl 2 rfl) ?_
      refine gf_X3_7_8 CX hM.o0 rfl dX3_cratesInShops_6 ?_
      refine lv_iconst (v := nI 1) hx hb dX3_cratesInShops_9 rfl ?_
      refine b_ild CX hM.o1 (x := nI (ns S)) (vp_in_nI (by omega) (by omega)) (b_at_nI (by omega) (((enc_0 _ (by decide))).trans hW.nsE)) dX3_cratesInShops_10 ?_
      refine b_icmp_geN (tgt := 29) CX (by omega) (by omega) dX3_cratesInShops_11 (by decide) (fun c_11 => ?_) (fun c_11 => ?_)
      · obtain rfl : i = ns S := by omega
        refine lv_iload_n hx hb dX3_cratesInShops_29 rfl (lv_at hl 0 rfl) ?_
        rw [← hQ]
        exact b_iret CX hr hlk hS (Nat.le_of_ble_eq_true rfl) (Nat.le_of_ble_eq_true rfl) dX3_cratesInShops_30 (⟨rfl, rfl⟩)
      · refine lv_iload_n hx hb dX3_cratesInShops_14 rfl (lv_at hl 0 rfl) ?_
        refine lv_aload_n hx hb dX3_cratesInShops_15 rfl (lv_at hl 2 rfl) ?_
        refine lv_iload_n hx hb dX3_cratesInShops_16 rfl (lv_at hl 1 rfl) ?_
        refine lv_iconst (v := nI 1) hx hb dX3_cratesInShops_17 rfl ?_
        refine b_ci0 (cs_X3_57 (rest := [.int (p_sum (f_crates S) i)]) CX hl.1 (m_X3_ofShop_1 l (s_ := i) hM (by omega)) rfl rfl rfl hM.o0 hS rfl ⟨rfl, rfl, Nat.le_of_ble_eq_true rfl, Nat.le_of_ble_eq_true rfl⟩ (Nat.le_of_ble_eq_true rfl) dX3_cratesInShops_18 ⟨Nat.le_of_ble_eq_true rfl, Nat.le_of_ble_eq_true rfl⟩) hS (fun locs hS => ?_)
        refine lv_iadd hx hb dX3_cratesInShops_21 ?_
        refine lv_istore_n (lv' := [(1, .int ((p_sum (f_crates S) i) + (S 2 i 1))), (2, .int (nI i)), (0, .ref (o 0))]) hx hb dX3_cratesInShops_22 rfl hl (Nat.le_of_ble_eq_true rfl) rfl (fun ls hl => ?_)
        refine lv_iinc (v := nI (i + 1)) (lv' := [(2, .int (nI (i + 1))), (1, .int ((p_sum (f_crates S) i) + (S 2 i 1))), (0, .ref (o 0))]) hx hb dX3_cratesInShops_23 hl (k := 1) rfl (nI_1 _) (Nat.le_of_ble_eq_true rfl) rfl (fun ls hl => ?_)
        refine lv_goto (tgt := 4) hx hb dX3_cratesInShops_26 (by decide) ?_
        exact ih4 (i + 1) (by omega) (by omega) _ hS ls (lv_sub hl [1, 0, 2] rfl)
  exact lp4_1 _ 0 (Nat.zero_le _) (Nat.lt_succ_self _) _ hS ls (lv_sub hl [1, 0, 2] rfl)
set_option maxHeartbeats 2000000 in
set_option maxRecDepth 100000 in
theorem m_X3_emptiesOf (l : Launch) {G : b_G} {B0 : Nat} {o : Nat → Nat} {Hr H : Heap} {S : b_St} {sp sv tx : Nat → Int32} {sa le th pl iw lt on ot nu di : Int32} {s_ : Nat} {k : Nat} (hM : MW G B0 o Hr H (enc S) sp sv tx sa le th pl iw lt on ot nu di) (hW : b_WF S) (hs : s_ < 6) (hk : k < 3) : Met l yX3_emptiesOf (ws_ yX3_emptiesOf cX3_emptiesOf 5 (Option.some Jvm.ClassFile.FieldType.int)) ({ frames := 2, cells := 0, slots := 0, locals := 43 } : Room) (b_Pc G B0 H [.ref (o 0), .int (nI s_), .int (nI k)]) (b_Qi B0 (fun r H1 => r = p_empt S s_ k ∧ H1 = H)) 0 0 (b_A B0) := by
  refine b_of (by decide) (Nat.le_of_ble_eq_true rfl) ?_
  intro p e s m below meth c CX hr hlk hnm hS ls hl
  have CX : b_Cx p s m _ c cX3_emptiesOf 5 RX3 G B0 := CX
  have hx := CX.hx
  have hb := CX.hb
  have hl : lv_has ls 5 [(0, .ref (o 0)), (1, .int (nI s_)), (2, .int (nI k))] := hl
  generalize hQ : MQ below (b_Qi B0 (fun r H1 => r = p_empt S s_ k ∧ H1 = H)) ([.ref (o 0), .int (nI s_), .int (nI k)] : List Value).toArray s 0 0 (b_A B0) = Q
  have hn8 := hW.nb8
  have hn6 := hW.ns6
  refine lv_iconst (v := nI 0) hx hb dX3_emptiesOf_0 rfl ?_
  refine lv_istore_n (lv' := [(3, .int (nI 0)), (0, .ref (o 0)), (1, .int (nI s_)), (2, .int (nI k))]) hx hb dX3_emptiesOf_1 rfl hl (Nat.le_of_ble_eq_true rfl) rfl (fun ls hl => ?_)
  refine lv_iconst (v := nI 0) hx hb dX3_emptiesOf_2 rfl ?_
  refine lv_istore (lv' := [(4, .int (nI 0)), (3, .int (nI 0)), (0, .ref (o 0)), (1, .int (nI s_)), (2, .int (nI k))]) hx hb dX3_emptiesOf_3 hl (Nat.le_of_ble_eq_true rfl) rfl (fun ls hl => ?_)
  have lp5_1 : ∀ (n_ : Nat) (i : Nat), i ≤ nb S → nb S - i < n_ → ∀ (locs : List Loc), va_S (b_A B0) s.heap H locs → ∀ ls : Array Slot, lv_has ls 5 [(3, .int (p_sum (f_empt S s_ k) i)), (4, .int (nI i)), (0, .ref (o 0)), (1, .int (nI s_)), (2, .int (nI k))] → W p l e ({ frames := 2, cells := 0, slots := 0, locals := 43 } : Room) s m ([.ref (o 0), .int (nI s_), .int (nI k)] : List Value).toArray below meth c H locs 0 0 Q (F0 m 5 ls []) := by
    intro n_
    induction n_ with
    | zero => intro i hi hlt locs hS ls hl; exact absurd hlt (Nat.not_lt_zero _)
    | succ n_ ih5 =>
      intro i hi hlt locs hS ls hl
      refine lv_iload hx hb dX3_emptiesOf_5 (lv_at hl 1 rfl) ?_
      refine lv_aload_n hx hb dX3_emptiesOf_7 rfl (lv_at hl 2 rfl) ?_
      refine gf_X3_7_8 CX hM.o0 rfl dX3_emptiesOf_8 ?_
      refine lv_iconst (v := nI 0) hx hb dX3_emptiesOf_11 rfl ?_
      refine b_ild CX hM.o1 (x := nI (nb S)) (vp_in_nI (by omega) (by omega)) (b_at_nI (by omega) (((enc_0 _ (by decide))).trans hW.nbE)) dX3_emptiesOf_12 ?_
      refine b_icmp_geN (tgt := 50) CX (by omega) (by omega) dX3_emptiesOf_13 (by decide) (fun c_13 => ?_) (fun c_13 => ?_)
      · obtain rfl : i = nb S := by omega
        refine lv_iload_n hx hb dX3_emptiesOf_50 rfl (lv_at hl 0 rfl) ?_
        rw [← hQ]
        exact b_iret CX hr hlk hS (Nat.le_of_ble_eq_true rfl) (Nat.le_of_ble_eq_true rfl) dX3_emptiesOf_51 (⟨rfl, rfl⟩)
      · have hkd := hW.kd3 (b := i) (by omega)
        refine lv_iload_n hx hb dX3_emptiesOf_16 rfl (lv_at hl 0 rfl) ?_
        refine lv_aload_n hx hb dX3_emptiesOf_17 rfl (lv_at hl 2 rfl) ?_
        refine lv_iload hx hb dX3_emptiesOf_18 (lv_at hl 1 rfl) ?_
        refine lv_iconst (v := nI 0) hx hb dX3_emptiesOf_20 rfl ?_
        refine b_ci0 (cs_X3_46 (rest := [.int (p_sum (f_empt S s_ k) i)]) CX hl.1 (m_X3_of l (b := i) (w := 0) hM (by omega) (by omega)) rfl rfl rfl hM.o0 hS rfl ⟨rfl, rfl, Nat.le_of_ble_eq_true rfl, Nat.le_of_ble_eq_true rfl⟩ (Nat.le_of_ble_eq_true rfl) dX3_emptiesOf_21 ⟨Nat.le_of_ble_eq_true rfl, Nat.le_of_ble_eq_true rfl⟩) hS (fun locs hS => ?_)
        refine b_top (x := S 1 i 0) (y := nI (kd S i)) ((hW.kdE (by omega))) ?_
        refine lv_iload_n hx hb dX3_emptiesOf_24 rfl (lv_at hl 4 rfl) ?_
        refine b_icmp_neN (tgt := 41) CX (by omega) (by omega) dX3_emptiesOf_25 (by decide) (fun c_25 => ?_) (fun c_25 => ?_)
        · refine lv_iconst (v := nI 0) hx hb dX3_emptiesOf_41 rfl ?_
          refine lv_iadd hx hb dX3_emptiesOf_42 ?_
          refine b_top (x := (p_sum (f_empt S s_ k) i) + (nI 0)) (y := p_sum (f_empt S s_ k) (i + 1)) (by show _ = p_sum _ i + (if kd S i = k then S 5 s_ i else nI 0); first | rw [if_pos c_25] | rw [if_neg c_25]) ?_
          refine lv_istore_n (lv' := [(3, .int (p_sum (f_empt S s_ k) (i + 1))), (4, .int (nI i)), (0, .ref (o 0)), (1, .int (nI s_)), (2, .int (nI k))]) hx hb dX3_emptiesOf_43 rfl hl (Nat.le_of_ble_eq_true rfl) rfl (fun ls hl => ?_)
          refine lv_iinc (v := nI (i + 1)) (lv' := [(4, .int (nI (i + 1))), (3, .int (p_sum (f_empt S s_ k) (i + 1))), (0, .ref (o 0)), (1, .int (nI s_)), (2, .int (nI k))]) hx hb dX3_emptiesOf_44 hl (k := 1) rfl (nI_1 _) (Nat.le_of_ble_eq_true rfl) rfl (fun ls hl => ?_)
          refine lv_goto (tgt := 5) hx hb dX3_emptiesOf_47 (by decide) ?_
          exact ih5 (i + 1) (by omega) (by omega) _ hS ls (lv_sub hl [1, 0, 2, 3, 4] rfl)
        · refine lv_aload_n hx hb dX3_emptiesOf_28 rfl (lv_at hl 2 rfl) ?_
          refine lv_iload_n hx hb dX3_emptiesOf_29 rfl (lv_at hl 3 rfl) ?_
          refine lv_bipush (v := nI 13) hx hb dX3_emptiesOf_30 rfl ?_
          refine lv_iload hx hb dX3_emptiesOf_32 (lv_at hl 1 rfl) ?_
          refine b_iaddN CX dX3_emptiesOf_34 ?_
          refine b_ci0 (cs_X3_57 (rest := [.int (p_sum (f_empt S s_ k) i)]) CX hl.1 (m_X3_ofShop_b l (s_ := s_) (b := i) hM (by omega) (by omega)) rfl rfl rfl hM.o0 hS rfl ⟨rfl, rfl, Nat.le_of_ble_eq_true rfl, Nat.le_of_ble_eq_true rfl⟩ (Nat.le_of_ble_eq_true rfl) dX3_emptiesOf_35 ⟨Nat.le_of_ble_eq_true rfl, Nat.le_of_ble_eq_true rfl⟩) hS (fun locs hS => ?_)
          refine lv_goto (tgt := 42) hx hb dX3_emptiesOf_38 (by decide) ?_
          refine lv_iadd hx hb dX3_emptiesOf_42 ?_
          refine b_top (x := (p_sum (f_empt S s_ k) i) + (S 5 s_ i)) (y := p_sum (f_empt S s_ k) (i + 1)) (by show _ = p_sum _ i + (if kd S i = k then S 5 s_ i else nI 0); first | rw [if_pos c_25] | rw [if_neg c_25]) ?_
          refine lv_istore_n (lv' := [(3, .int (p_sum (f_empt S s_ k) (i + 1))), (4, .int (nI i)), (0, .ref (o 0)), (1, .int (nI s_)), (2, .int (nI k))]) hx hb dX3_emptiesOf_43 rfl hl (Nat.le_of_ble_eq_true rfl) rfl (fun ls hl => ?_)
          refine lv_iinc (v := nI (i + 1)) (lv' := [(4, .int (nI (i + 1))), (3, .int (p_sum (f_empt S s_ k) (i + 1))), (0, .ref (o 0)), (1, .int (nI s_)), (2, .int (nI k))]) hx hb dX3_emptiesOf_44 hl (k := 1) rfl (nI_1 _) (Nat.le_of_ble_eq_true rfl) rfl (fun ls hl => ?_)
          refine lv_goto (tgt := 5) hx hb dX3_emptiesOf_47 (by decide) ?_
          exact ih5 (i + 1) (by omega) (by omega) _ hS ls (lv_sub hl [1, 0, 2, 3, 4] rfl)
  exact lp5_1 _ 0 (Nat.zero_le _) (Nat.lt_succ_self _) _ hS ls (lv_sub hl [1, 0, 2, 3, 4] rfl)
set_option maxHeartbeats 2000000 in
set_option maxRecDepth 100000 in
theorem m_X3_yardOf (l : Launch) {G : b_G} {B0 : Nat} {o : Nat → Nat} {Hr H : Heap} {S : b_St} {sp sv tx : Nat → Int32} {sa le th pl iw lt on ot nu di : Int32} {k : Nat} (hM : MW G B0 o Hr H (enc S) sp sv tx sa le th pl iw lt on ot nu di) (hW : b_WF S) (hk : k < 3) : Met l yX3_yardOf (ws_ yX3_yardOf cX3_yardOf 4 (Option.some Jvm.ClassFile.FieldType.int)) ({ frames := 2, cells := 0, slots := 0, locals := 43 } : Room) (b_Pc G B0 H [.ref (o 0), .int (nI k)]) (b_Qi B0 (fun r H1 => r = p_yard S k ∧ H1 = H)) 0 0 (b_A B0) := by
  refine b_of (by decide) (Nat.le_of_ble_eq_true rfl) ?_
  intro p e s m below meth c CX hr hlk hnm hS ls hl
  have CX : b_Cx p s m _ c cX3_yardOf 4 RX3 G B0 := CX
  have hx := CX.hx
  have hb := CX.hb
  have hl : lv_has ls 4 [(0, .ref (o 0)), (1, .int (nI k))] := hl
  generalize hQ : MQ below (b_Qi B0 (fun r H1 => r = p_yard S k ∧ H1 = H)) ([.ref (o 0), .int (nI k)] : List Value).toArray s 0 0 (b_A B0) = Q
  have hn8 := hW.nb8
  have hn6 := hW.ns6
  refine lv_iconst (v := nI 0) hx hb dX3_yardOf_0 rfl ?_
  refine lv_istore_n (lv' := [(2, .int (nI 0)), (0, .ref (o 0)), (1, .int (nI k))]) hx hb dX3_yardOf_1 rfl hl (Nat.le_of_ble_eq_true rfl) rfl (fun ls hl => ?_)
  refine lv_iconst (v := nI 0) hx hb dX3_yardOf_2 rfl ?_
  refine lv_istore_n (lv' := [(3, .int (nI 0)), (2, .int (nI 0)), (0, .ref (o 0)), (1, .int (nI k))]) hx hb dX3_yardOf_3 rfl hl (Nat.le_of_ble_eq_true rfl) rfl (fun ls hl => ?_)
  have lp4_1 : ∀ (n_ : Nat) (i : Nat), i ≤ nb S → nb S - i < n_ → ∀ (locs : List Loc), va_S (b_A B0) s.heap H locs → ∀ ls : Array Slot, lv_has ls 4 [(2, .int (p_sum (f_yard S k) i)), (3, .int (nI i)), (0, .ref (o 0)), (1, .int (nI k))] → W p l e ({ frames := 2, cells := 0, slots := 0, locals := 43 } : Room) s m ([.ref (o 0), .int (nI k)] : List Value).toArray below meth c H locs 0 0 Q (F0 m 4 ls []) := by
    intro n_
    induction n_ with
    | zero => intro i hi hlt locs hS ls hl; exact absurd hlt (Nat.not_lt_zero _)
    | succ n_ ih4 =>
      intro i hi hlt locs hS ls hl
      refine lv_iload_n hx hb dX3_yardOf_4 rfl (lv_at hl 1 rfl) ?_
      refine lv_aload_n hx hb dX3_yardOf_5 rfl (lv_at hl 2 rfl) ?_
      refine gf_X3_7_8 CX hM.o0 rfl dX3_yardOf_6 ?_
      refine lv_iconst (v := nI 0) hx hb dX3_yardOf_9 rfl ?_
      refine b_ild CX hM.o1 (x := nI (nb S)) (vp_in_nI (by omega) (by omega)) (b_at_nI (by omega) (((enc_0 _ (by decide))).trans hW.nbE)) dX3_yardOf_10 ?_
      refine b_icmp_geN (tgt := 43) CX (by omega) (by omega) dX3_yardOf_11 (by decide) (fun c_11 => ?_) (fun c_11 => ?_)
      · obtain rfl : i = nb S := by omega
        refine lv_iload_n hx hb dX3_yardOf_43 rfl (lv_at hl 0 rfl) ?_
        rw [← hQ]
        exact b_iret CX hr hlk hS (Nat.le_of_ble_eq_true rfl) (Nat.le_of_ble_eq_true rfl) dX3_yardOf_44 (⟨rfl, rfl⟩)
      · have hkd := hW.kd3 (b := i) (by omega)
        refine lv_iload_n hx hb dX3_yardOf_14 rfl (lv_at hl 0 rfl) ?_
        refine lv_aload_n hx hb dX3_yardOf_15 rfl (lv_at hl 2 rfl) ?_
        refine lv_iload_n hx hb dX3_yardOf_16 rfl (lv_at hl 1 rfl) ?_
        refine lv_iconst (v := nI 0) hx hb dX3_yardOf_17 rfl ?_
        refine b_ci0 (cs_X3_46 (rest := [.int (p_sum (f_yard S k) i)]) CX hl.1 (m_X3_of l (b := i) (w := 0) hM (by omega) (by omega)) rfl rfl rfl hM.o0 hS rfl ⟨rfl, rfl, Nat.le_of_ble_eq_true rfl, Nat.le_of_ble_eq_true rfl⟩ (Nat.le_of_ble_eq_true rfl) dX3_yardOf_18 ⟨Nat.le_of_ble_eq_true rfl, Nat.le_of_ble_eq_true rfl⟩) hS (fun locs hS => ?_)
        refine b_top (x := S 1 i 0) (y := nI (kd S i)) ((hW.kdE (by omega))) ?_
        refine lv_iload_n hx hb dX3_yardOf_21 rfl (lv_at hl 3 rfl) ?_
        refine b_icmp_neN (tgt := 34) CX (by omega) (by omega) dX3_yardOf_22 (by decide) (fun c_22 => ?_) (fun c_22 => ?_)
        · refine lv_iconst (v := nI 0) hx hb dX3_yardOf_34 rfl ?_
          refine lv_iadd hx hb dX3_yardOf_35 ?_
          refine b_top (x := (p_sum (f_yard S k) i) + (nI 0)) (y := p_sum (f_yard S k) (i + 1)) (by show _ = p_sum _ i + (if kd S i = k then S 1 i 4 else nI 0); first | rw [if_pos c_22] | rw [if_neg c_22]) ?_
          refine lv_istore_n (lv' := [(2, .int (p_sum (f_yard S k) (i + 1))), (3, .int (nI i)), (0, .ref (o 0)), (1, .int (nI k))]) hx hb dX3_yardOf_36 rfl hl (Nat.le_of_ble_eq_true rfl) rfl (fun ls hl => ?_)
          refine lv_iinc (v := nI (i + 1)) (lv' := [(3, .int (nI (i + 1))), (2, .int (p_sum (f_yard S k) (i + 1))), (0, .ref (o 0)), (1, .int (nI k))]) hx hb dX3_yardOf_37 hl (k := 1) rfl (nI_1 _) (Nat.le_of_ble_eq_true rfl) rfl (fun ls hl => ?_)
          refine lv_goto (tgt := 4) hx hb dX3_yardOf_40 (by decide) ?_
          exact ih4 (i + 1) (by omega) (by omega) _ hS ls (lv_sub hl [1, 0, 2, 3] rfl)
        · refine lv_aload_n hx hb dX3_yardOf_25 rfl (lv_at hl 2 rfl) ?_
          refine lv_iload_n hx hb dX3_yardOf_26 rfl (lv_at hl 1 rfl) ?_
          refine lv_iconst (v := nI 4) hx hb dX3_yardOf_27 rfl ?_
          refine b_ci0 (cs_X3_46 (rest := [.int (p_sum (f_yard S k) i)]) CX hl.1 (m_X3_of l (b := i) (w := 4) hM (by omega) (by omega)) rfl rfl rfl hM.o0 hS rfl ⟨rfl, rfl, Nat.le_of_ble_eq_true rfl, Nat.le_of_ble_eq_true rfl⟩ (Nat.le_of_ble_eq_true rfl) dX3_yardOf_28 ⟨Nat.le_of_ble_eq_true rfl, Nat.le_of_ble_eq_true rfl⟩) hS (fun locs hS => ?_)
          refine lv_goto (tgt := 35) hx hb dX3_yardOf_31 (by decide) ?_
          refine lv_iadd hx hb dX3_yardOf_35 ?_
          refine b_top (x := (p_sum (f_yard S k) i) + (S 1 i 4)) (y := p_sum (f_yard S k) (i + 1)) (by show _ = p_sum _ i + (if kd S i = k then S 1 i 4 else nI 0); first | rw [if_pos c_22] | rw [if_neg c_22]) ?_
          refine lv_istore_n (lv' := [(2, .int (p_sum (f_yard S k) (i + 1))), (3, .int (nI i)), (0, .ref (o 0)), (1, .int (nI k))]) hx hb dX3_yardOf_36 rfl hl (Nat.le_of_ble_eq_true rfl) rfl (fun ls hl => ?_)
          refine lv_iinc (v := nI (i + 1)) (lv' := [(3, .int (nI (i + 1))), (2, .int (p_sum (f_yard S k) (i + 1))), (0, .ref (o 0)), (1, .int (nI k))]) hx hb dX3_yardOf_37 hl (k := 1) rfl (nI_1 _) (Nat.le_of_ble_eq_true rfl) rfl (fun ls hl => ?_)
          refine lv_goto (tgt := 4) hx hb dX3_yardOf_40 (by decide) ?_
          exact ih4 (i + 1) (by omega) (by omega) _ hS ls (lv_sub hl [1, 0, 2, 3] rfl)
  exact lp4_1 _ 0 (Nat.zero_le _) (Nat.lt_succ_self _) _ hS ls (lv_sub hl [1, 0, 2, 3] rfl)
set_option maxHeartbeats 2000000 in
set_option maxRecDepth 100000 in
theorem m_X3_inShops_a (l : Launch) {G : b_G} {B0 : Nat} {o : Nat → Nat} {Hr H : Heap} {S : b_St} {sp sv tx : Nat → Int32} {sa le th pl iw lt on ot nu di : Int32} {b : Nat} (hM : MW G B0 o Hr H (enc S) sp sv tx sa le th pl iw lt on ot nu di) (hW : b_WF S) (hb : b < 8) : Met l yX3_inShops (ws_ yX3_inShops cX3_inShops 5 (Option.some Jvm.ClassFile.FieldType.int)) ({ frames := 2, cells := 0, slots := 0, locals := 43 } : Room) (b_Pc G B0 H [.ref (o 0), .int (nI b), .int (nI 5)]) (b_Qi B0 (fun r H1 => r = p_inF S b ∧ H1 = H)) 0 0 (b_A B0) := by
  refine b_of (by decide) (Nat.le_of_ble_eq_true rfl) ?_
  intro p e s m below meth c CX hr hlk hnm hS ls hl
  have CX : b_Cx p s m _ c cX3_inShops 5 RX3 G B0 := CX
  have hx := CX.hx
  have hb := CX.hb
  have hl : lv_has ls 5 [(0, .ref (o 0)), (1, .int (nI b)), (2, .int (nI 5))] := hl
  generalize hQ : MQ below (b_Qi B0 (fun r H1 => r = p_inF S b ∧ H1 = H)) ([.ref (o 0), .int (nI b), .int (nI 5)] : List Value).toArray s 0 0 (b_A B0) = Q
  have hn8 := hW.nb8
  have hn6 := hW.ns6
  refine lv_iconst (v := nI 0) hx hb dX3_inShops_0 rfl ?_
  refine lv_istore_n (lv' := [(3, .int (nI 0)), (0, .ref (o 0)), (1, .int (nI b)), (2, .int (nI 5))]) hx hb dX3_inShops_1 rfl hl (Nat.le_of_ble_eq_true rfl) rfl (fun ls hl => ?_)
  refine lv_iconst (v := nI 0) hx hb dX3_inShops_2 rfl ?_
  refine lv_istore (lv' := [(4, .int (nI 0)), (3, .int (nI 0)), (0, .ref (o 0)), (1, .int (nI b)), (2, .int (nI 5))]) hx hb dX3_inShops_3 hl (Nat.le_of_ble_eq_true rfl) rfl (fun ls hl => ?_)
  have lp5_1 : ∀ (n_ : Nat) (i : Nat), i ≤ ns S → ns S - i < n_ → ∀ (locs : List Loc), va_S (b_A B0) s.heap H locs → ∀ ls : Array Slot, lv_has ls 5 [(3, .int (p_sum (fun s => S 4 s b) i)), (4, .int (nI i)), (0, .ref (o 0)), (1, .int (nI b)), (2, .int (nI 5))] → W p l e ({ frames := 2, cells := 0, slots := 0, locals := 43 } : Room) s m ([.ref (o 0), .int (nI b), .int (nI 5)] : List Value).toArray below meth c H locs 0 0 Q (F0 m 5 ls []) := by
    intro n_
    induction n_ with
    | zero => intro i hi hlt locs hS ls hl; exact absurd hlt (Nat.not_lt_zero _)
    | succ n_ ih5 =>
      intro i hi hlt locs hS ls hl
      refine lv_iload hx hb dX3_inShops_5 (lv_at hl 1 rfl) ?_
      refine lv_aload_n hx hb dX3_inShops_7 rfl (lv_at hl 2 rfl) ?_
      refine gf_X3_7_8 CX hM.o0 rfl dX3_inShops_8 ?_
      refine lv_iconst (v := nI 1) hx hb dX3_inShops_11 rfl ?_
      refine b_ild CX hM.o1 (x := nI (ns S)) (vp_in_nI (by omega) (by omega)) (b_at_nI (by omega) (((enc_0 _ (by decide))).trans hW.nsE)) dX3_inShops_12 ?_
      refine b_icmp_geN (tgt := 34) CX (by omega) (by omega) dX3_inShops_13 (by decide) (fun c_13 => ?_) (fun c_13 => ?_)
      · obtain rfl : i = ns S := by omega
        refine lv_iload_n hx hb dX3_inShops_34 rfl (lv_at hl 0 rfl) ?_
        rw [← hQ]
        exact b_iret CX hr hlk hS (Nat.le_of_ble_eq_true rfl) (Nat.le_of_ble_eq_true rfl) dX3_inShops_35 (⟨rfl, rfl⟩)
      · refine lv_iload_n hx hb dX3_inShops_16 rfl (lv_at hl 0 rfl) ?_
        refine lv_aload_n hx hb dX3_inShops_17 rfl (lv_at hl 2 rfl) ?_
        refine lv_iload hx hb dX3_inShops_18 (lv_at hl 1 rfl) ?_
        refine lv_iload_n hx hb dX3_inShops_20 rfl (lv_at hl 4 rfl) ?_
        refine lv_iload_n hx hb dX3_inShops_21 rfl (lv_at hl 3 rfl) ?_
        refine b_iaddN CX dX3_inShops_22 ?_
        refine b_ci0 (cs_X3_57 (rest := [.int (p_sum (fun s => S 4 s b) i)]) CX hl.1 (m_X3_ofShop_a l (s_ := i) (b := b) hM (by omega) (by omega)) rfl rfl rfl hM.o0 hS rfl ⟨rfl, rfl, Nat.le_of_ble_eq_true rfl, Nat.le_of_ble_eq_true rfl⟩ (Nat.le_of_ble_eq_true rfl) dX3_inShops_23 ⟨Nat.le_of_ble_eq_true rfl, Nat.le_of_ble_eq_true rfl⟩) hS (fun locs hS => ?_)
        refine lv_iadd hx hb dX3_inShops_26 ?_
        refine lv_istore_n (lv' := [(3, .int ((p_sum (fun s => S 4 s b) i) + (S 4 i b))), (4, .int (nI i)), (0, .ref (o 0)), (1, .int (nI b)), (2, .int (nI 5))]) hx hb dX3_inShops_27 rfl hl (Nat.le_of_ble_eq_true rfl) rfl (fun ls hl => ?_)
        refine lv_iinc (v := nI (i + 1)) (lv' := [(4, .int (nI (i + 1))), (3, .int ((p_sum (fun s => S 4 s b) i) + (S 4 i b))), (0, .ref (o 0)), (1, .int (nI b)), (2, .int (nI 5))]) hx hb dX3_inShops_28 hl (k := 1) rfl (nI_1 _) (Nat.le_of_ble_eq_true rfl) rfl (fun ls hl => ?_)
        refine lv_goto (tgt := 5) hx hb dX3_inShops_31 (by decide) ?_
        exact ih5 (i + 1) (by omega) (by omega) _ hS ls (lv_sub hl [1, 0, 2, 3, 4] rfl)
  exact lp5_1 _ 0 (Nat.zero_le _) (Nat.lt_succ_self _) _ hS ls (lv_sub hl [1, 0, 2, 3, 4] rfl)
set_option maxHeartbeats 2000000 in
set_option maxRecDepth 100000 in
theorem m_X3_inShops_b (l : Launch) {G : b_G} {B0 : Nat} {o : Nat → Nat} {Hr H : Heap} {S : b_St} {sp sv tx : Nat → Int32} {sa le th pl iw lt on ot nu di : Int32} {b : Nat} (hM : MW G B0 o Hr H (enc S) sp sv tx sa le th pl iw lt on ot nu di) (hW : b_WF S) (hb : b < 8) : Met l yX3_inShops (ws_ yX3_inShops cX3_inShops 5 (Option.some Jvm.ClassFile.FieldType.int)) ({ frames := 2, cells := 0, slots := 0, locals := 43 } : Room) (b_Pc G B0 H [.ref (o 0), .int (nI b), .int (nI 13)]) (b_Qi B0 (fun r H1 => r = p_inE S b ∧ H1 = H)) 0 0 (b_A B0) := by
  refine b_of (by decide) (Nat.le_of_ble_eq_true rfl) ?_
  intro p e s m below meth c CX hr hlk hnm hS ls hl
  have CX : b_Cx p s m _ c cX3_inShops 5 RX3 G B0 := CX
  have hx := CX.hx
  have hb := CX.hb
  have hl : lv_has ls 5 [(0, .ref (o 0)), (1, .int (nI b)), (2, .int (nI 13))] := hl
  generalize hQ : MQ below (b_Qi B0 (fun r H1 => r = p_inE S b ∧ H1 = H)) ([.ref (o 0), .int (nI b), .int (nI 13)] : List Value).toArray s 0 0 (b_A B0) = Q
  have hn8 := hW.nb8
  have hn6 := hW.ns6
  refine lv_iconst (v := nI 0) hx hb dX3_inShops_0 rfl ?_
  refine lv_istore_n (lv' := [(3, .int (nI 0)), (0, .ref (o 0)), (1, .int (nI b)), (2, .int (nI 13))]) hx hb dX3_inShops_1 rfl hl (Nat.le_of_ble_eq_true rfl) rfl (fun ls hl => ?_)
  refine lv_iconst (v := nI 0) hx hb dX3_inShops_2 rfl ?_
  refine lv_istore (lv' := [(4, .int (nI 0)), (3, .int (nI 0)), (0, .ref (o 0)), (1, .int (nI b)), (2, .int (nI 13))]) hx hb dX3_inShops_3 hl (Nat.le_of_ble_eq_true rfl) rfl (fun ls hl => ?_)
  have lp5_1 : ∀ (n_ : Nat) (i : Nat), i ≤ ns S → ns S - i < n_ → ∀ (locs : List Loc), va_S (b_A B0) s.heap H locs → ∀ ls : Array Slot, lv_has ls 5 [(3, .int (p_sum (fun s => S 5 s b) i)), (4, .int (nI i)), (0, .ref (o 0)), (1, .int (nI b)), (2, .int (nI 13))] → W p l e ({ frames := 2, cells := 0, slots := 0, locals := 43 } : Room) s m ([.ref (o 0), .int (nI b), .int (nI 13)] : List Value).toArray below meth c H locs 0 0 Q (F0 m 5 ls []) := by
    intro n_
    induction n_ with
    | zero => intro i hi hlt locs hS ls hl; exact absurd hlt (Nat.not_lt_zero _)
    | succ n_ ih5 =>
      intro i hi hlt locs hS ls hl
      refine lv_iload hx hb dX3_inShops_5 (lv_at hl 1 rfl) ?_
      refine lv_aload_n hx hb dX3_inShops_7 rfl (lv_at hl 2 rfl) ?_
      refine gf_X3_7_8 CX hM.o0 rfl dX3_inShops_8 ?_
      refine lv_iconst (v := nI 1) hx hb dX3_inShops_11 rfl ?_
      refine b_ild CX hM.o1 (x := nI (ns S)) (vp_in_nI (by omega) (by omega)) (b_at_nI (by omega) (((enc_0 _ (by decide))).trans hW.nsE)) dX3_inShops_12 ?_
      refine b_icmp_geN (tgt := 34) CX (by omega) (by omega) dX3_inShops_13 (by decide) (fun c_13 => ?_) (fun c_13 => ?_)
      · obtain rfl : i = ns S := by omega
        refine lv_iload_n hx hb dX3_inShops_34 rfl (lv_at hl 0 rfl) ?_
        rw [← hQ]
        exact b_iret CX hr hlk hS (Nat.le_of_ble_eq_true rfl) (Nat.le_of_ble_eq_true rfl) dX3_inShops_35 (⟨rfl, rfl⟩)
      · refine lv_iload_n hx hb dX3_inShops_16 rfl (lv_at hl 0 rfl) ?_
        refine lv_aload_n hx hb dX3_inShops_17 rfl (lv_at hl 2 rfl) ?_
        refine lv_iload hx hb dX3_inShops_18 (lv_at hl 1 rfl) ?_
        refine lv_iload_n hx hb dX3_inShops_20 rfl (lv_at hl 4 rfl) ?_
        refine lv_iload_n hx hb dX3_inShops_21 rfl (lv_at hl 3 rfl) ?_
        refine b_iaddN CX dX3_inShops_22 ?_
        refine b_ci0 (cs_X3_57 (rest := [.int (p_sum (fun s => S 5 s b) i)]) CX hl.1 (m_X3_ofShop_b l (s_ := i) (b := b) hM (by omega) (by omega)) rfl rfl rfl hM.o0 hS rfl ⟨rfl, rfl, Nat.le_of_ble_eq_true rfl, Nat.le_of_ble_eq_true rfl⟩ (Nat.le_of_ble_eq_true rfl) dX3_inShops_23 ⟨Nat.le_of_ble_eq_true rfl, Nat.le_of_ble_eq_true rfl⟩) hS (fun locs hS => ?_)
        refine lv_iadd hx hb dX3_inShops_26 ?_
        refine lv_istore_n (lv' := [(3, .int ((p_sum (fun s => S 5 s b) i) + (S 5 i b))), (4, .int (nI i)), (0, .ref (o 0)), (1, .int (nI b)), (2, .int (nI 13))]) hx hb dX3_inShops_27 rfl hl (Nat.le_of_ble_eq_true rfl) rfl (fun ls hl => ?_)
        refine lv_iinc (v := nI (i + 1)) (lv' := [(4, .int (nI (i + 1))), (3, .int ((p_sum (fun s => S 5 s b) i) + (S 5 i b))), (0, .ref (o 0)), (1, .int (nI b)), (2, .int (nI 13))]) hx hb dX3_inShops_28 hl (k := 1) rfl (nI_1 _) (Nat.le_of_ble_eq_true rfl) rfl (fun ls hl => ?_)
        refine lv_goto (tgt := 5) hx hb dX3_inShops_31 (by decide) ?_
        exact ih5 (i + 1) (by omega) (by omega) _ hS ls (lv_sub hl [1, 0, 2, 3, 4] rfl)
  exact lp5_1 _ 0 (Nat.zero_le _) (Nat.lt_succ_self _) _ hS ls (lv_sub hl [1, 0, 2, 3, 4] rfl)
set_option maxHeartbeats 2000000 in
set_option maxRecDepth 100000 in
theorem m_X3_sumOf_a (l : Launch) {G : b_G} {B0 : Nat} {o : Nat → Nat} {Hr H : Heap} {S : b_St} {sp sv tx : Nat → Int32} {sa le th pl iw lt on ot nu di : Int32} {s_ : Nat} (hM : MW G B0 o Hr H (enc S) sp sv tx sa le th pl iw lt on ot nu di) (hs : s_ < 6) : Met l yX3_sumOf (ws_ yX3_sumOf cX3_sumOf 5 (Option.some Jvm.ClassFile.FieldType.int)) ({ frames := 2, cells := 0, slots := 0, locals := 43 } : Room) (b_Pc G B0 H [.ref (o 0), .int (nI s_), .int (nI 5)]) (b_Qi B0 (fun r H1 => r = p_sumF S s_ ∧ H1 = H)) 0 0 (b_A B0) := by
  refine b_of (by decide) (Nat.le_of_ble_eq_true rfl) ?_
  intro p e s m below meth c CX hr hlk hnm hS ls hl
  have CX : b_Cx p s m _ c cX3_sumOf 5 RX3 G B0 := CX
  have hx := CX.hx
  have hb := CX.hb
  have hl : lv_has ls 5 [(0, .ref (o 0)), (1, .int (nI s_)), (2, .int (nI 5))] := hl
  generalize hQ : MQ below (b_Qi B0 (fun r H1 => r = p_sumF S s_ ∧ H1 = H)) ([.ref (o 0), .int (nI s_), .int (nI 5)] : List Value).toArray s 0 0 (b_A B0) = Q
  refine lv_iconst (v := nI 0) hx hb dX3_sumOf_0 rfl ?_
  refine lv_istore_n (lv' := [(3, .int (nI 0)), (0, .ref (o 0)), (1, .int (nI s_)), (2, .int (nI 5))]) hx hb dX3_sumOf_1 rfl hl (Nat.le_of_ble_eq_true rfl) rfl (fun ls hl => ?_)
  refine lv_iconst (v := nI 0) hx hb dX3_sumOf_2 rfl ?_
  refine lv_istore (lv' := [(4, .int (nI 0)), (3, .int (nI 0)), (0, .ref (o 0)), (1, .int (nI s_)), (2, .int (nI 5))]) hx hb dX3_sumOf_3 hl (Nat.le_of_ble_eq_true rfl) rfl (fun ls hl => ?_)
  have lp5_1 : ∀ (n_ : Nat) (i : Nat), i ≤ 8 → 8 - i < n_ → ∀ (locs : List Loc), va_S (b_A B0) s.heap H locs → ∀ ls : Array Slot, lv_has ls 5 [(3, .int (p_sum (fun b => S 4 s_ b) i)), (4, .int (nI i)), (0, .ref (o 0)), (1, .int (nI s_)), (2, .int (nI 5))] → W p l e ({ frames := 2, cells := 0, slots := 0, locals := 43 } : Room) s m ([.ref (o 0), .int (nI s_), .int (nI 5)] : List Value).toArray below meth c H locs 0 0 Q (F0 m 5 ls []) := by
    intro n_
    induction n_ with
    | zero => intro i hi hlt locs hS ls hl; exact absurd hlt (Nat.not_lt_zero _)
    | succ n_ ih5 =>
      intro i hi hlt locs hS ls hl
      refine lv_iload hx hb dX3_sumOf_5 (lv_at hl 1 rfl) ?_
      refine lv_bipush (v := nI 8) hx hb dX3_sumOf_7 rfl ?_
      refine b_icmp_geN (tgt := 30) CX (by omega) (by omega) dX3_sumOf_9 (by decide) (fun c_9 => ?_) (fun c_9 => ?_)
      · obtain rfl : i = 8 := by omega
        refine lv_iload_n hx hb dX3_sumOf_30 rfl (lv_at hl 0 rfl) ?_
        rw [← hQ]
        exact b_iret CX hr hlk hS (Nat.le_of_ble_eq_true rfl) (Nat.le_of_ble_eq_true rfl) dX3_sumOf_31 (⟨rfl, rfl⟩)
      · refine lv_iload_n hx hb dX3_sumOf_12 rfl (lv_at hl 0 rfl) ?_
        refine lv_aload_n hx hb dX3_sumOf_13 rfl (lv_at hl 2 rfl) ?_
        refine lv_iload_n hx hb dX3_sumOf_14 rfl (lv_at hl 3 rfl) ?_
        refine lv_iload_n hx hb dX3_sumOf_15 rfl (lv_at hl 4 rfl) ?_
        refine lv_iload hx hb dX3_sumOf_16 (lv_at hl 1 rfl) ?_
        refine b_iaddN CX dX3_sumOf_18 ?_
        refine b_ci0 (cs_X3_57 (rest := [.int (p_sum (fun b => S 4 s_ b) i)]) CX hl.1 (m_X3_ofShop_a l (s_ := s_) (b := i) hM (by omega) (by omega)) rfl rfl rfl hM.o0 hS rfl ⟨rfl, rfl, Nat.le_of_ble_eq_true rfl, Nat.le_of_ble_eq_true rfl⟩ (Nat.le_of_ble_eq_true rfl) dX3_sumOf_19 ⟨Nat.le_of_ble_eq_true rfl, Nat.le_of_ble_eq_true rfl⟩) hS (fun locs hS => ?_)
        refine lv_iadd hx hb dX3_sumOf_22 ?_
        refine lv_istore_n (lv' := [(3, .int ((p_sum (fun b => S 4 s_ b) i) + (S 4 s_ i))), (4, .int (nI i)), (0, .ref (o 0)), (1, .int (nI s_)), (2, .int (nI 5))]) hx hb dX3_sumOf_23 rfl hl (Nat.le_of_ble_eq_true rfl) rfl (fun ls hl => ?_)
        refine lv_iinc (v := nI (i + 1)) (lv' := [(4, .int (nI (i + 1))), (3, .int ((p_sum (fun b => S 4 s_ b) i) + (S 4 s_ i))), (0, .ref (o 0)), (1, .int (nI s_)), (2, .int (nI 5))]) hx hb dX3_sumOf_24 hl (k := 1) rfl (nI_1 _) (Nat.le_of_ble_eq_true rfl) rfl (fun ls hl => ?_)
        refine lv_goto (tgt := 5) hx hb dX3_sumOf_27 (by decide) ?_
        exact ih5 (i + 1) (by omega) (by omega) _ hS ls (lv_sub hl [1, 0, 2, 3, 4] rfl)
  exact lp5_1 _ 0 (Nat.zero_le _) (Nat.lt_succ_self _) _ hS ls (lv_sub hl [1, 0, 2, 3, 4] rfl)
set_option maxHeartbeats 2000000 in
set_option maxRecDepth 100000 in
theorem m_X3_sumOf_b (l : Launch) {G : b_G} {B0 : Nat} {o : Nat → Nat} {Hr H : Heap} {S : b_St} {sp sv tx : Nat → Int32} {sa le th pl iw lt on ot nu di : Int32} {s_ : Nat} (hM : MW G B0 o Hr H (enc S) sp sv tx sa le th pl iw lt on ot nu di) (hs : s_ < 6) : Met l yX3_sumOf (ws_ yX3_sumOf cX3_sumOf 5 (Option.some Jvm.ClassFile.FieldType.int)) ({ frames := 2, cells := 0, slots := 0, locals := 43 } : Room) (b_Pc G B0 H [.ref (o 0), .int (nI s_), .int (nI 13)]) (b_Qi B0 (fun r H1 => r = p_sumE S s_ ∧ H1 = H)) 0 0 (b_A B0) := by
  refine b_of (by decide) (Nat.le_of_ble_eq_true rfl) ?_
  intro p e s m below meth c CX hr hlk hnm hS ls hl
  have CX : b_Cx p s m _ c cX3_sumOf 5 RX3 G B0 := CX
  have hx := CX.hx
  have hb := CX.hb
  have hl : lv_has ls 5 [(0, .ref (o 0)), (1, .int (nI s_)), (2, .int (nI 13))] := hl
  generalize hQ : MQ below (b_Qi B0 (fun r H1 => r = p_sumE S s_ ∧ H1 = H)) ([.ref (o 0), .int (nI s_), .int (nI 13)] : List Value).toArray s 0 0 (b_A B0) = Q
  refine lv_iconst (v := nI 0) hx hb dX3_sumOf_0 rfl ?_
  refine lv_istore_n (lv' := [(3, .int (nI 0)), (0, .ref (o 0)), (1, .int (nI s_)), (2, .int (nI 13))]) hx hb dX3_sumOf_1 rfl hl (Nat.le_of_ble_eq_true rfl) rfl (fun ls hl => ?_)
  refine lv_iconst (v := nI 0) hx hb dX3_sumOf_2 rfl ?_
  refine lv_istore (lv' := [(4, .int (nI 0)), (3, .int (nI 0)), (0, .ref (o 0)), (1, .int (nI s_)), (2, .int (nI 13))]) hx hb dX3_sumOf_3 hl (Nat.le_of_ble_eq_true rfl) rfl (fun ls hl => ?_)
  have lp5_1 : ∀ (n_ : Nat) (i : Nat), i ≤ 8 → 8 - i < n_ → ∀ (locs : List Loc), va_S (b_A B0) s.heap H locs → ∀ ls : Array Slot, lv_has ls 5 [(3, .int (p_sum (fun b => S 5 s_ b) i)), (4, .int (nI i)), (0, .ref (o 0)), (1, .int (nI s_)), (2, .int (nI 13))] → W p l e ({ frames := 2, cells := 0, slots := 0, locals := 43 } : Room) s m ([.ref (o 0), .int (nI s_), .int (nI 13)] : List Value).toArray below meth c H locs 0 0 Q (F0 m 5 ls []) := by
    intro n_
    induction n_ with
    | zero => intro i hi hlt locs hS ls hl; exact absurd hlt (Nat.not_lt_zero _)
    | succ n_ ih5 =>
      intro i hi hlt locs hS ls hl
      refine lv_iload hx hb dX3_sumOf_5 (lv_at hl 1 rfl) ?_
      refine lv_bipush (v := nI 8) hx hb dX3_sumOf_7 rfl ?_
      refine b_icmp_geN (tgt := 30) CX (by omega) (by omega) dX3_sumOf_9 (by decide) (fun c_9 => ?_) (fun c_9 => ?_)
      · obtain rfl : i = 8 := by omega
        refine lv_iload_n hx hb dX3_sumOf_30 rfl (lv_at hl 0 rfl) ?_
        rw [← hQ]
        exact b_iret CX hr hlk hS (Nat.le_of_ble_eq_true rfl) (Nat.le_of_ble_eq_true rfl) dX3_sumOf_31 (⟨rfl, rfl⟩)
      · refine lv_iload_n hx hb dX3_sumOf_12 rfl (lv_at hl 0 rfl) ?_
        refine lv_aload_n hx hb dX3_sumOf_13 rfl (lv_at hl 2 rfl) ?_
        refine lv_iload_n hx hb dX3_sumOf_14 rfl (lv_at hl 3 rfl) ?_
        refine lv_iload_n hx hb dX3_sumOf_15 rfl (lv_at hl 4 rfl) ?_
        refine lv_iload hx hb dX3_sumOf_16 (lv_at hl 1 rfl) ?_
        refine b_iaddN CX dX3_sumOf_18 ?_
        refine b_ci0 (cs_X3_57 (rest := [.int (p_sum (fun b => S 5 s_ b) i)]) CX hl.1 (m_X3_ofShop_b l (s_ := s_) (b := i) hM (by omega) (by omega)) rfl rfl rfl hM.o0 hS rfl ⟨rfl, rfl, Nat.le_of_ble_eq_true rfl, Nat.le_of_ble_eq_true rfl⟩ (Nat.le_of_ble_eq_true rfl) dX3_sumOf_19 ⟨Nat.le_of_ble_eq_true rfl, Nat.le_of_ble_eq_true rfl⟩) hS (fun locs hS => ?_)
        refine lv_iadd hx hb dX3_sumOf_22 ?_
        refine lv_istore_n (lv' := [(3, .int ((p_sum (fun b => S 5 s_ b) i) + (S 5 s_ i))), (4, .int (nI i)), (0, .ref (o 0)), (1, .int (nI s_)), (2, .int (nI 13))]) hx hb dX3_sumOf_23 rfl hl (Nat.le_of_ble_eq_true rfl) rfl (fun ls hl => ?_)
        refine lv_iinc (v := nI (i + 1)) (lv' := [(4, .int (nI (i + 1))), (3, .int ((p_sum (fun b => S 5 s_ b) i) + (S 5 s_ i))), (0, .ref (o 0)), (1, .int (nI s_)), (2, .int (nI 13))]) hx hb dX3_sumOf_24 hl (k := 1) rfl (nI_1 _) (Nat.le_of_ble_eq_true rfl) rfl (fun ls hl => ?_)
        refine lv_goto (tgt := 5) hx hb dX3_sumOf_27 (by decide) ?_
        exact ih5 (i + 1) (by omega) (by omega) _ hS ls (lv_sub hl [1, 0, 2, 3, 4] rfl)
  exact lp5_1 _ 0 (Nat.zero_le _) (Nat.lt_succ_self _) _ hS ls (lv_sub hl [1, 0, 2, 3, 4] rfl)
theorem cs_X3_70 {p : Program} {l : Launch} {e : Env} {R : Room} {s : State} {m : MethodId} {args : Array Value} {below : List Frame} {meth : Method} {c : Code} {H : Heap} {locs : List Loc} {cells slots : Nat} {cc : ByteArray} {pc nL a : Nat} {ls : Array Slot} {rest : List Value} {G : b_G} {B0 : Nat} (CX : b_Cx p s m args c cc nL RX3 G B0) (hls : ls.size = nL) {rm : Room} {mc ms : Nat} {As st0 : List Value} {Qc : Array Value → State → Outcome → State → Prop} (hM : Met l yX3_priceFor (ws_ yX3_priceFor cX3_priceFor 3 (Option.some Jvm.ClassFile.FieldType.int)) rm (b_Pc G B0 H (.ref a :: As)) Qc mc ms (b_A B0)) (hn : As.length = 2) {fs : List Value} {ci : Nat} {qc : vw_C} (hc : b_cl[ci]? = some qc) (hq : qc.1 = RX3) (hP : b_at G a (.inr (ci, fs)) H) (hS : va_S (b_A B0) s.heap H locs) (hst : st0 = As.reverse ++ .ref a :: rest) (hr : rm.cells = mc ∧ rm.slots = ms ∧ rm.frames + 1 ≤ R.frames ∧ 8 + (3 + 11) + rm.locals ≤ R.locals) (hw : (rest.map fun v => v.category).sum ≤ 8) (hdg : decode cc pc = .ok (.invokevirtual 70, 3)) (hf : cells + mc ≤ R.cells ∧ slots + ms ≤ R.slots) : va_Run p l e R s m args below meth c H locs cells slots mc ms (F0 m pc ls st0) rest (Qc (Value.ref a :: As).toArray) (b_A B0) := va_runV CX.fix hM (cwV 2 CX.ts (lw_V q1973 q1975 qs47 q88 q1976) rfl hr.1 hr.2.1 (by decide +kernel) ⟨hr.2.2.1, hr.2.2.2⟩) ⟨b_blind G B0 H _, by have h9 := b_recv CX.K hc hP; rw [hq] at h9; exact h9, b_pre _ CX.K hS⟩ rfl hn hls hst (lv_room hw) hdg hf
set_option maxHeartbeats 2000000 in
set_option maxRecDepth 100000 in
theorem m_X3_againstDeliver (l : Launch) {G : b_G} {B0 : Nat} {o : Nat → Nat} {Hr H : Heap} {S : b_St} {sp sv tx : Nat → Int32} {sa le th pl iw lt on ot nu di : Int32} {b : Nat} {s_ : Nat} {c_ : Int32} (hM : MW G B0 o Hr H (enc S) sp sv tx sa le th pl iw lt on ot nu di) (hW : b_WF S) (hb : b < 8) (hs : s_ < 6) : Met l yX3_againstDeliver (ws_ yX3_againstDeliver cX3_againstDeliver 4 (Option.some Jvm.ClassFile.FieldType.int)) ({ frames := 3, cells := 0, slots := 0, locals := 65 } : Room) (b_Pc G B0 H [.ref (o 0), .int (nI b), .int (nI s_), .int c_]) (b_Qi B0 (fun r H1 => r = a_deliver S b s_ c_ ∧ H1 = H)) 0 0 (b_A B0) := by
  refine b_of (by decide) (Nat.le_of_ble_eq_true rfl) ?_
  intro p e s m below meth c CX hr hlk hnm hS ls hl
  have CX : b_Cx p s m _ c cX3_againstDeliver 4 RX3 G B0 := CX
  have hx := CX.hx
  have hb := CX.hb
  have hl : lv_has ls 4 [(0, .ref (o 0)), (1, .int (nI b)), (2, .int (nI s_)), (3, .int c_)] := hl
  generalize hQ : MQ below (b_Qi B0 (fun r H1 => r = a_deliver S b s_ c_ ∧ H1 = H)) ([.ref (o 0), .int (nI b), .int (nI s_), .int c_] : List Value).toArray s 0 0 (b_A B0) = Q
  refine lv_aload_n hx hb dX3_againstDeliver_0 rfl (lv_at hl 0 rfl) ?_
  refine lv_iload_n hx hb dX3_againstDeliver_1 rfl (lv_at hl 1 rfl) ?_
  refine lv_iconst (v := nI 2) hx hb dX3_againstDeliver_2 rfl ?_
  refine b_ci0 (cs_X3_46 (rest := []) CX hl.1 (m_X3_of l (b := b) (w := 2) hM (by omega) (by omega)) rfl rfl rfl hM.o0 hS rfl ⟨rfl, rfl, Nat.le_of_ble_eq_true rfl, Nat.le_of_ble_eq_true rfl⟩ (Nat.le_of_ble_eq_true rfl) dX3_againstDeliver_3 ⟨Nat.le_of_ble_eq_true rfl, Nat.le_of_ble_eq_true rfl⟩) hS (fun locs hS => ?_)
  refine lv_bipush (v := nI 12) hx hb dX3_againstDeliver_6 rfl ?_
  refine lv_iload_n hx hb dX3_againstDeliver_8 rfl (lv_at hl 3 rfl) ?_
  refine lv_imul hx hb dX3_againstDeliver_9 ?_
  refine lv_icmp_ge (tgt := 17) hx hb dX3_againstDeliver_10 (by decide) (fun c_10 => ?_) (fun c_10 => ?_)
  · refine lv_aload_n hx hb dX3_againstDeliver_17 rfl (lv_at hl 0 rfl) ?_
    refine gf_X3_7_8 CX hM.o0 rfl dX3_againstDeliver_18 ?_
    refine lv_iconst (v := nI 2) hx hb dX3_againstDeliver_21 rfl ?_
    refine b_ild CX hM.o1 (x := S 0 0 2) (vp_in_nI (by omega) (by omega)) (b_at_nI (by omega) ((enc_0 _ (by decide)))) dX3_againstDeliver_22 ?_
    refine lv_iload_n hx hb dX3_againstDeliver_23 rfl (lv_at hl 3 rfl) ?_
    refine lv_icmp_ge (tgt := 31) hx hb dX3_againstDeliver_24 (by decide) (fun c_24 => ?_) (fun c_24 => ?_)
    · refine lv_aload_n hx hb dX3_againstDeliver_31 rfl (lv_at hl 0 rfl) ?_
      refine lv_iload_n hx hb dX3_againstDeliver_32 rfl (lv_at hl 2 rfl) ?_
      refine lv_iconst (v := nI 0) hx hb dX3_againstDeliver_33 rfl ?_
      refine b_ci0 (cs_X3_57 (rest := []) CX hl.1 (m_X3_ofShop_0 l (s_ := s_) hM (by omega)) rfl rfl rfl hM.o0 hS rfl ⟨rfl, rfl, Nat.le_of_ble_eq_true rfl, Nat.le_of_ble_eq_true rfl⟩ (Nat.le_of_ble_eq_true rfl) dX3_againstDeliver_34 ⟨Nat.le_of_ble_eq_true rfl, Nat.le_of_ble_eq_true rfl⟩) hS (fun locs hS => ?_)
      refine lv_aload_n hx hb dX3_againstDeliver_37 rfl (lv_at hl 0 rfl) ?_
      refine lv_iload_n hx hb dX3_againstDeliver_38 rfl (lv_at hl 1 rfl) ?_
      refine lv_iload_n hx hb dX3_againstDeliver_39 rfl (lv_at hl 3 rfl) ?_
      refine b_ci0 (cs_X3_70 (rest := [.int (S 2 s_ 0)]) CX hl.1 (m_X3_priceFor l (b := b) (c_ := c_) hM hW (by omega)) rfl rfl rfl hM.o0 hS rfl ⟨rfl, rfl, Nat.le_of_ble_eq_true rfl, Nat.le_of_ble_eq_true rfl⟩ (Nat.le_of_ble_eq_true rfl) dX3_againstDeliver_40 ⟨Nat.le_of_ble_eq_true rfl, Nat.le_of_ble_eq_true rfl⟩) hS (fun locs hS => ?_)
      refine lv_icmp_ge (tgt := 50) hx hb dX3_againstDeliver_43 (by decide) (fun c_43 => ?_) (fun c_43 => ?_)
      · refine lv_iconst (v := nI 0) hx hb dX3_againstDeliver_50 rfl ?_
        rw [← hQ]
        exact b_iret CX hr hlk hS (Nat.le_of_ble_eq_true rfl) (Nat.le_of_ble_eq_true rfl) dX3_againstDeliver_51 (⟨by unfold a_deliver; repeat (first | rw [if_pos (Int32.not_le.mp (by assumption))] | rw [if_neg (Int32.not_lt.mpr (by assumption))]), rfl⟩)
      · refine lv_iconst (v := nI 3) hx hb dX3_againstDeliver_46 rfl ?_
        refine lv_goto (tgt := 51) hx hb dX3_againstDeliver_47 (by decide) ?_
        rw [← hQ]
        exact b_iret CX hr hlk hS (Nat.le_of_ble_eq_true rfl) (Nat.le_of_ble_eq_true rfl) dX3_againstDeliver_51 (⟨by unfold a_deliver; repeat (first | rw [if_pos (Int32.not_le.mp (by assumption))] | rw [if_neg (Int32.not_lt.mpr (by assumption))]), rfl⟩)
    · refine lv_iconst (v := nI 2) hx hb dX3_againstDeliver_27 rfl ?_
      refine lv_goto (tgt := 51) hx hb dX3_againstDeliver_28 (by decide) ?_
      rw [← hQ]
      exact b_iret CX hr hlk hS (Nat.le_of_ble_eq_true rfl) (Nat.le_of_ble_eq_true rfl) dX3_againstDeliver_51 (⟨by unfold a_deliver; repeat (first | rw [if_pos (Int32.not_le.mp (by assumption))] | rw [if_neg (Int32.not_lt.mpr (by assumption))]), rfl⟩)
  · refine lv_iconst (v := nI 1) hx hb dX3_againstDeliver_13 rfl ?_
    refine lv_goto (tgt := 51) hx hb dX3_againstDeliver_14 (by decide) ?_
    rw [← hQ]
    exact b_iret CX hr hlk hS (Nat.le_of_ble_eq_true rfl) (Nat.le_of_ble_eq_true rfl) dX3_againstDeliver_51 (⟨by unfold a_deliver; repeat (first | rw [if_pos (Int32.not_le.mp (by assumption))] | rw [if_neg (Int32.not_lt.mpr (by assumption))]), rfl⟩)
set_option maxHeartbeats 2000000 in
set_option maxRecDepth 100000 in
theorem m_X3_againstSell (l : Launch) {G : b_G} {B0 : Nat} {o : Nat → Nat} {Hr H : Heap} {S : b_St} {sp sv tx : Nat → Int32} {sa le th pl iw lt on ot nu di : Int32} {s_ : Nat} {b : Nat} {n_ : Int32} (hM : MW G B0 o Hr H (enc S) sp sv tx sa le th pl iw lt on ot nu di) (hs : s_ < 6) (hb : b < 8) : Met l yX3_againstSell (ws_ yX3_againstSell cX3_againstSell 4 (Option.some Jvm.ClassFile.FieldType.int)) ({ frames := 2, cells := 0, slots := 0, locals := 43 } : Room) (b_Pc G B0 H [.ref (o 0), .int (nI s_), .int (nI b), .int n_]) (b_Qi B0 (fun r H1 => r = a_sell S s_ b n_ ∧ H1 = H)) 0 0 (b_A B0) := by
  refine b_of (by decide) (Nat.le_of_ble_eq_true rfl) ?_
  intro p e s m below meth c CX hr hlk hnm hS ls hl
  have CX : b_Cx p s m _ c cX3_againstSell 4 RX3 G B0 := CX
  have hx := CX.hx
  have hb := CX.hb
  have hl : lv_has ls 4 [(0, .ref (o 0)), (1, .int (nI s_)), (2, .int (nI b)), (3, .int n_)] := hl
  generalize hQ : MQ below (b_Qi B0 (fun r H1 => r = a_sell S s_ b n_ ∧ H1 = H)) ([.ref (o 0), .int (nI s_), .int (nI b), .int n_] : List Value).toArray s 0 0 (b_A B0) = Q
  refine lv_aload_n hx hb dX3_againstSell_0 rfl (lv_at hl 0 rfl) ?_
  refine lv_iload_n hx hb dX3_againstSell_1 rfl (lv_at hl 1 rfl) ?_
  refine lv_iconst (v := nI 5) hx hb dX3_againstSell_2 rfl ?_
  refine lv_iload_n hx hb dX3_againstSell_3 rfl (lv_at hl 2 rfl) ?_
  refine b_iaddN CX dX3_againstSell_4 ?_
  refine b_ci0 (cs_X3_57 (rest := []) CX hl.1 (m_X3_ofShop_a l (s_ := s_) (b := b) hM (by omega) (by omega)) rfl rfl rfl hM.o0 hS rfl ⟨rfl, rfl, Nat.le_of_ble_eq_true rfl, Nat.le_of_ble_eq_true rfl⟩ (Nat.le_of_ble_eq_true rfl) dX3_againstSell_5 ⟨Nat.le_of_ble_eq_true rfl, Nat.le_of_ble_eq_true rfl⟩) hS (fun locs hS => ?_)
  refine lv_iload_n hx hb dX3_againstSell_8 rfl (lv_at hl 3 rfl) ?_
  refine lv_icmp_ge (tgt := 16) hx hb dX3_againstSell_9 (by decide) (fun c_9 => ?_) (fun c_9 => ?_)
  · refine lv_iconst (v := nI 0) hx hb dX3_againstSell_16 rfl ?_
    rw [← hQ]
    exact b_iret CX hr hlk hS (Nat.le_of_ble_eq_true rfl) (Nat.le_of_ble_eq_true rfl) dX3_againstSell_17 (⟨by unfold a_sell; repeat (first | rw [if_pos (Int32.not_le.mp (by assumption))] | rw [if_neg (Int32.not_lt.mpr (by assumption))]), rfl⟩)
  · refine lv_iconst (v := nI 1) hx hb dX3_againstSell_12 rfl ?_
    refine lv_goto (tgt := 17) hx hb dX3_againstSell_13 (by decide) ?_
    rw [← hQ]
    exact b_iret CX hr hlk hS (Nat.le_of_ble_eq_true rfl) (Nat.le_of_ble_eq_true rfl) dX3_againstSell_17 (⟨by unfold a_sell; repeat (first | rw [if_pos (Int32.not_le.mp (by assumption))] | rw [if_neg (Int32.not_lt.mpr (by assumption))]), rfl⟩)
theorem cs_X3_73 {p : Program} {l : Launch} {e : Env} {R : Room} {s : State} {m : MethodId} {args : Array Value} {below : List Frame} {meth : Method} {c : Code} {H : Heap} {locs : List Loc} {cells slots : Nat} {cc : ByteArray} {pc nL a : Nat} {ls : Array Slot} {rest : List Value} {G : b_G} {B0 : Nat} (CX : b_Cx p s m args c cc nL RX3 G B0) (hls : ls.size = nL) {rm : Room} {mc ms : Nat} {As st0 : List Value} {Qc : Array Value → State → Outcome → State → Prop} (hM : Met l yX3_deposit (ws_ yX3_deposit cX3_deposit 2 (Option.some Jvm.ClassFile.FieldType.int)) rm (b_Pc G B0 H (.ref a :: As)) Qc mc ms (b_A B0)) (hn : As.length = 1) {fs : List Value} {ci : Nat} {qc : vw_C} (hc : b_cl[ci]? = some qc) (hq : qc.1 = RX3) (hP : b_at G a (.inr (ci, fs)) H) (hS : va_S (b_A B0) s.heap H locs) (hst : st0 = As.reverse ++ .ref a :: rest) (hr : rm.cells = mc ∧ rm.slots = ms ∧ rm.frames + 1 ≤ R.frames ∧ 8 + (2 + 11) + rm.locals ≤ R.locals) (hw : (rest.map fun v => v.category).sum ≤ 8) (hdg : decode cc pc = .ok (.invokevirtual 73, 3)) (hf : cells + mc ≤ R.cells ∧ slots + ms ≤ R.slots) : va_Run p l e R s m args below meth c H locs cells slots mc ms (F0 m pc ls st0) rest (Qc (Value.ref a :: As).toArray) (b_A B0) := va_runV CX.fix hM (cwV 1 CX.ts (lw_V q1997 q1999 qs52 q88 q2000) rfl hr.1 hr.2.1 (by decide +kernel) ⟨hr.2.2.1, hr.2.2.2⟩) ⟨b_blind G B0 H _, by have h9 := b_recv CX.K hc hP; rw [hq] at h9; exact h9, b_pre _ CX.K hS⟩ rfl hn hls hst (lv_room hw) hdg hf
set_option maxHeartbeats 2000000 in
set_option maxRecDepth 100000 in
theorem m_X3_againstTakeBack (l : Launch) {G : b_G} {B0 : Nat} {o : Nat → Nat} {Hr H : Heap} {S : b_St} {sp sv tx : Nat → Int32} {sa le th pl iw lt on ot nu di : Int32} {s_ : Nat} {b : Nat} {n_ : Int32} (hM : MW G B0 o Hr H (enc S) sp sv tx sa le th pl iw lt on ot nu di) (hW : b_WF S) (hs : s_ < 6) (hb : b < 8) : Met l yX3_againstTakeBack (ws_ yX3_againstTakeBack cX3_againstTakeBack 4 (Option.some Jvm.ClassFile.FieldType.int)) ({ frames := 3, cells := 0, slots := 0, locals := 64 } : Room) (b_Pc G B0 H [.ref (o 0), .int (nI s_), .int (nI b), .int n_]) (b_Qi B0 (fun r H1 => r = a_take S s_ b n_ ∧ H1 = H)) 0 0 (b_A B0) := by
  refine b_of (by decide) (Nat.le_of_ble_eq_true rfl) ?_
  intro p e s m below meth c CX hr hlk hnm hS ls hl
  have CX : b_Cx p s m _ c cX3_againstTakeBack 4 RX3 G B0 := CX
  have hx := CX.hx
  have hb := CX.hb
  have hl : lv_has ls 4 [(0, .ref (o 0)), (1, .int (nI s_)), (2, .int (nI b)), (3, .int n_)] := hl
  generalize hQ : MQ below (b_Qi B0 (fun r H1 => r = a_take S s_ b n_ ∧ H1 = H)) ([.ref (o 0), .int (nI s_), .int (nI b), .int n_] : List Value).toArray s 0 0 (b_A B0) = Q
  refine lv_aload_n hx hb dX3_againstTakeBack_0 rfl (lv_at hl 0 rfl) ?_
  refine lv_iload_n hx hb dX3_againstTakeBack_1 rfl (lv_at hl 2 rfl) ?_
  refine lv_iconst (v := nI 3) hx hb dX3_againstTakeBack_2 rfl ?_
  refine b_ci0 (cs_X3_46 (rest := []) CX hl.1 (m_X3_of l (b := b) (w := 3) hM (by omega) (by omega)) rfl rfl rfl hM.o0 hS rfl ⟨rfl, rfl, Nat.le_of_ble_eq_true rfl, Nat.le_of_ble_eq_true rfl⟩ (Nat.le_of_ble_eq_true rfl) dX3_againstTakeBack_3 ⟨Nat.le_of_ble_eq_true rfl, Nat.le_of_ble_eq_true rfl⟩) hS (fun locs hS => ?_)
  refine lv_iload_n hx hb dX3_againstTakeBack_6 rfl (lv_at hl 3 rfl) ?_
  refine lv_icmp_ge (tgt := 14) hx hb dX3_againstTakeBack_7 (by decide) (fun c_7 => ?_) (fun c_7 => ?_)
  · refine lv_aload_n hx hb dX3_againstTakeBack_14 rfl (lv_at hl 0 rfl) ?_
    refine lv_iload_n hx hb dX3_againstTakeBack_15 rfl (lv_at hl 1 rfl) ?_
    refine lv_iconst (v := nI 0) hx hb dX3_againstTakeBack_16 rfl ?_
    refine b_ci0 (cs_X3_57 (rest := []) CX hl.1 (m_X3_ofShop_0 l (s_ := s_) hM (by omega)) rfl rfl rfl hM.o0 hS rfl ⟨rfl, rfl, Nat.le_of_ble_eq_true rfl, Nat.le_of_ble_eq_true rfl⟩ (Nat.le_of_ble_eq_true rfl) dX3_againstTakeBack_17 ⟨Nat.le_of_ble_eq_true rfl, Nat.le_of_ble_eq_true rfl⟩) hS (fun locs hS => ?_)
    refine lv_iload_n hx hb dX3_againstTakeBack_20 rfl (lv_at hl 3 rfl) ?_
    refine lv_aload_n hx hb dX3_againstTakeBack_21 rfl (lv_at hl 0 rfl) ?_
    refine lv_iload_n hx hb dX3_againstTakeBack_22 rfl (lv_at hl 2 rfl) ?_
    refine b_ci0 (cs_X3_73 (rest := [.int n_, .int (S 2 s_ 0)]) CX hl.1 (m_X3_deposit l (b := b) hM hW (by omega)) rfl rfl rfl hM.o0 hS rfl ⟨rfl, rfl, Nat.le_of_ble_eq_true rfl, Nat.le_of_ble_eq_true rfl⟩ (Nat.le_of_ble_eq_true rfl) dX3_againstTakeBack_23 ⟨Nat.le_of_ble_eq_true rfl, Nat.le_of_ble_eq_true rfl⟩) hS (fun locs hS => ?_)
    refine lv_imul hx hb dX3_againstTakeBack_26 ?_
    refine lv_icmp_ge (tgt := 34) hx hb dX3_againstTakeBack_27 (by decide) (fun c_27 => ?_) (fun c_27 => ?_)
    · refine lv_iconst (v := nI 0) hx hb dX3_againstTakeBack_34 rfl ?_
      rw [← hQ]
      exact b_iret CX hr hlk hS (Nat.le_of_ble_eq_true rfl) (Nat.le_of_ble_eq_true rfl) dX3_againstTakeBack_35 (⟨by unfold a_take p_dep; repeat (first | rw [if_pos (Int32.not_le.mp (by assumption))] | rw [if_neg (Int32.not_lt.mpr (by assumption))]), rfl⟩)
    · refine lv_iconst (v := nI 3) hx hb dX3_againstTakeBack_30 rfl ?_
      refine lv_goto (tgt := 35) hx hb dX3_againstTakeBack_31 (by decide) ?_
      rw [← hQ]
      exact b_iret CX hr hlk hS (Nat.le_of_ble_eq_true rfl) (Nat.le_of_ble_eq_true rfl) dX3_againstTakeBack_35 (⟨by unfold a_take p_dep; repeat (first | rw [if_pos (Int32.not_le.mp (by assumption))] | rw [if_neg (Int32.not_lt.mpr (by assumption))]), rfl⟩)
  · refine lv_iconst (v := nI 1) hx hb dX3_againstTakeBack_10 rfl ?_
    refine lv_goto (tgt := 35) hx hb dX3_againstTakeBack_11 (by decide) ?_
    rw [← hQ]
    exact b_iret CX hr hlk hS (Nat.le_of_ble_eq_true rfl) (Nat.le_of_ble_eq_true rfl) dX3_againstTakeBack_35 (⟨by unfold a_take p_dep; repeat (first | rw [if_pos (Int32.not_le.mp (by assumption))] | rw [if_neg (Int32.not_lt.mpr (by assumption))]), rfl⟩)
set_option maxHeartbeats 2000000 in
set_option maxRecDepth 100000 in
theorem m_X3_againstBreak (l : Launch) {G : b_G} {B0 : Nat} {o : Nat → Nat} {Hr H : Heap} {S : b_St} {sp sv tx : Nat → Int32} {sa le th pl iw lt on ot nu di : Int32} {s_ : Nat} {b : Nat} {n_ : Int32} (hM : MW G B0 o Hr H (enc S) sp sv tx sa le th pl iw lt on ot nu di) (hs : s_ < 6) (hb : b < 8) : Met l yX3_againstBreak (ws_ yX3_againstBreak cX3_againstBreak 4 (Option.some Jvm.ClassFile.FieldType.int)) ({ frames := 2, cells := 0, slots := 0, locals := 43 } : Room) (b_Pc G B0 H [.ref (o 0), .int (nI s_), .int (nI b), .int n_]) (b_Qi B0 (fun r H1 => r = a_break S s_ b n_ ∧ H1 = H)) 0 0 (b_A B0) := by
  refine b_of (by decide) (Nat.le_of_ble_eq_true rfl) ?_
  intro p e s m below meth c CX hr hlk hnm hS ls hl
  have CX : b_Cx p s m _ c cX3_againstBreak 4 RX3 G B0 := CX
  have hx := CX.hx
  have hb := CX.hb
  have hl : lv_has ls 4 [(0, .ref (o 0)), (1, .int (nI s_)), (2, .int (nI b)), (3, .int n_)] := hl
  generalize hQ : MQ below (b_Qi B0 (fun r H1 => r = a_break S s_ b n_ ∧ H1 = H)) ([.ref (o 0), .int (nI s_), .int (nI b), .int n_] : List Value).toArray s 0 0 (b_A B0) = Q
  refine lv_aload_n hx hb dX3_againstBreak_0 rfl (lv_at hl 0 rfl) ?_
  refine lv_iload_n hx hb dX3_againstBreak_1 rfl (lv_at hl 1 rfl) ?_
  refine lv_bipush (v := nI 13) hx hb dX3_againstBreak_2 rfl ?_
  refine lv_iload_n hx hb dX3_againstBreak_4 rfl (lv_at hl 2 rfl) ?_
  refine b_iaddN CX dX3_againstBreak_5 ?_
  refine b_ci0 (cs_X3_57 (rest := []) CX hl.1 (m_X3_ofShop_b l (s_ := s_) (b := b) hM (by omega) (by omega)) rfl rfl rfl hM.o0 hS rfl ⟨rfl, rfl, Nat.le_of_ble_eq_true rfl, Nat.le_of_ble_eq_true rfl⟩ (Nat.le_of_ble_eq_true rfl) dX3_againstBreak_6 ⟨Nat.le_of_ble_eq_true rfl, Nat.le_of_ble_eq_true rfl⟩) hS (fun locs hS => ?_)
  refine lv_iload_n hx hb dX3_againstBreak_9 rfl (lv_at hl 3 rfl) ?_
  refine lv_icmp_ge (tgt := 17) hx hb dX3_againstBreak_10 (by decide) (fun c_10 => ?_) (fun c_10 => ?_)
  · refine lv_iconst (v := nI 0) hx hb dX3_againstBreak_17 rfl ?_
    rw [← hQ]
    exact b_iret CX hr hlk hS (Nat.le_of_ble_eq_true rfl) (Nat.le_of_ble_eq_true rfl) dX3_againstBreak_18 (⟨by unfold a_break; repeat (first | rw [if_pos (Int32.not_le.mp (by assumption))] | rw [if_neg (Int32.not_lt.mpr (by assumption))]), rfl⟩)
  · refine lv_iconst (v := nI 1) hx hb dX3_againstBreak_13 rfl ?_
    refine lv_goto (tgt := 18) hx hb dX3_againstBreak_14 (by decide) ?_
    rw [← hQ]
    exact b_iret CX hr hlk hS (Nat.le_of_ble_eq_true rfl) (Nat.le_of_ble_eq_true rfl) dX3_againstBreak_18 (⟨by unfold a_break; repeat (first | rw [if_pos (Int32.not_le.mp (by assumption))] | rw [if_neg (Int32.not_lt.mpr (by assumption))]), rfl⟩)
theorem cs_X3_79 {p : Program} {l : Launch} {e : Env} {R : Room} {s : State} {m : MethodId} {args : Array Value} {below : List Frame} {meth : Method} {c : Code} {H : Heap} {locs : List Loc} {cells slots : Nat} {cc : ByteArray} {pc nL a : Nat} {ls : Array Slot} {rest : List Value} {G : b_G} {B0 : Nat} (CX : b_Cx p s m args c cc nL RX3 G B0) (hls : ls.size = nL) {rm : Room} {mc ms : Nat} {As st0 : List Value} {Qc : Array Value → State → Outcome → State → Prop} (hM : Met l yX3_emptiesOf (ws_ yX3_emptiesOf cX3_emptiesOf 5 (Option.some Jvm.ClassFile.FieldType.int)) rm (b_Pc G B0 H (.ref a :: As)) Qc mc ms (b_A B0)) (hn : As.length = 2) {fs : List Value} {ci : Nat} {qc : vw_C} (hc : b_cl[ci]? = some qc) (hq : qc.1 = RX3) (hP : b_at G a (.inr (ci, fs)) H) (hS : va_S (b_A B0) s.heap H locs) (hst : st0 = As.reverse ++ .ref a :: rest) (hr : rm.cells = mc ∧ rm.slots = ms ∧ rm.frames + 1 ≤ R.frames ∧ 8 + (5 + 11) + rm.locals ≤ R.locals) (hw : (rest.map fun v => v.category).sum ≤ 8) (hdg : decode cc pc = .ok (.invokevirtual 79, 3)) (hf : cells + mc ≤ R.cells ∧ slots + ms ≤ R.slots) : va_Run p l e R s m args below meth c H locs cells slots mc ms (F0 m pc ls st0) rest (Qc (Value.ref a :: As).toArray) (b_A B0) := va_runV CX.fix hM (cwV 2 CX.ts (lw_V q2040 q2042 qs58 q88 q2043) rfl hr.1 hr.2.1 (by decide +kernel) ⟨hr.2.2.1, hr.2.2.2⟩) ⟨b_blind G B0 H _, by have h9 := b_recv CX.K hc hP; rw [hq] at h9; exact h9, b_pre _ CX.K hS⟩ rfl hn hls hst (lv_room hw) hdg hf
set_option maxHeartbeats 2000000 in
set_option maxRecDepth 100000 in
theorem m_X3_againstCollect (l : Launch) {G : b_G} {B0 : Nat} {o : Nat → Nat} {Hr H : Heap} {S : b_St} {sp sv tx : Nat → Int32} {sa le th pl iw lt on ot nu di : Int32} {s_ : Nat} {k : Nat} {c_ : Int32} (hM : MW G B0 o Hr H (enc S) sp sv tx sa le th pl iw lt on ot nu di) (hW : b_WF S) (hs : s_ < 6) (hk : k < 3) : Met l yX3_againstCollect (ws_ yX3_againstCollect cX3_againstCollect 4 (Option.some Jvm.ClassFile.FieldType.int)) ({ frames := 3, cells := 0, slots := 0, locals := 67 } : Room) (b_Pc G B0 H [.ref (o 0), .int (nI s_), .int (nI k), .int c_]) (b_Qi B0 (fun r H1 => r = a_collect S s_ k c_ ∧ H1 = H)) 0 0 (b_A B0) := by
  refine b_of (by decide) (Nat.le_of_ble_eq_true rfl) ?_
  intro p e s m below meth c CX hr hlk hnm hS ls hl
  have CX : b_Cx p s m _ c cX3_againstCollect 4 RX3 G B0 := CX
  have hx := CX.hx
  have hb := CX.hb
  have hl : lv_has ls 4 [(0, .ref (o 0)), (1, .int (nI s_)), (2, .int (nI k)), (3, .int c_)] := hl
  generalize hQ : MQ below (b_Qi B0 (fun r H1 => r = a_collect S s_ k c_ ∧ H1 = H)) ([.ref (o 0), .int (nI s_), .int (nI k), .int c_] : List Value).toArray s 0 0 (b_A B0) = Q
  refine lv_aload_n hx hb dX3_againstCollect_0 rfl (lv_at hl 0 rfl) ?_
  refine lv_iload_n hx hb dX3_againstCollect_1 rfl (lv_at hl 1 rfl) ?_
  refine lv_iload_n hx hb dX3_againstCollect_2 rfl (lv_at hl 2 rfl) ?_
  refine b_ci0 (cs_X3_79 (rest := []) CX hl.1 (m_X3_emptiesOf l (s_ := s_) (k := k) hM hW (by omega) (by omega)) rfl rfl rfl hM.o0 hS rfl ⟨rfl, rfl, Nat.le_of_ble_eq_true rfl, Nat.le_of_ble_eq_true rfl⟩ (Nat.le_of_ble_eq_true rfl) dX3_againstCollect_3 ⟨Nat.le_of_ble_eq_true rfl, Nat.le_of_ble_eq_true rfl⟩) hS (fun locs hS => ?_)
  refine lv_bipush (v := nI 12) hx hb dX3_againstCollect_6 rfl ?_
  refine lv_iload_n hx hb dX3_againstCollect_8 rfl (lv_at hl 3 rfl) ?_
  refine lv_imul hx hb dX3_againstCollect_9 ?_
  refine lv_icmp_ge (tgt := 17) hx hb dX3_againstCollect_10 (by decide) (fun c_10 => ?_) (fun c_10 => ?_)
  · refine lv_aload_n hx hb dX3_againstCollect_17 rfl (lv_at hl 0 rfl) ?_
    refine lv_iload_n hx hb dX3_againstCollect_18 rfl (lv_at hl 1 rfl) ?_
    refine lv_iconst (v := nI 1) hx hb dX3_againstCollect_19 rfl ?_
    refine b_ci0 (cs_X3_57 (rest := []) CX hl.1 (m_X3_ofShop_1 l (s_ := s_) hM (by omega)) rfl rfl rfl hM.o0 hS rfl ⟨rfl, rfl, Nat.le_of_ble_eq_true rfl, Nat.le_of_ble_eq_true rfl⟩ (Nat.le_of_ble_eq_true rfl) dX3_againstCollect_20 ⟨Nat.le_of_ble_eq_true rfl, Nat.le_of_ble_eq_true rfl⟩) hS (fun locs hS => ?_)
    refine lv_iload_n hx hb dX3_againstCollect_23 rfl (lv_at hl 3 rfl) ?_
    refine lv_icmp_ge (tgt := 31) hx hb dX3_againstCollect_24 (by decide) (fun c_24 => ?_) (fun c_24 => ?_)
    · refine lv_iconst (v := nI 0) hx hb dX3_againstCollect_31 rfl ?_
      rw [← hQ]
      exact b_iret CX hr hlk hS (Nat.le_of_ble_eq_true rfl) (Nat.le_of_ble_eq_true rfl) dX3_againstCollect_32 (⟨by unfold a_collect; repeat (first | rw [if_pos (Int32.not_le.mp (by assumption))] | rw [if_neg (Int32.not_lt.mpr (by assumption))]), rfl⟩)
    · refine lv_iconst (v := nI 2) hx hb dX3_againstCollect_27 rfl ?_
      refine lv_goto (tgt := 32) hx hb dX3_againstCollect_28 (by decide) ?_
      rw [← hQ]
      exact b_iret CX hr hlk hS (Nat.le_of_ble_eq_true rfl) (Nat.le_of_ble_eq_true rfl) dX3_againstCollect_32 (⟨by unfold a_collect; repeat (first | rw [if_pos (Int32.not_le.mp (by assumption))] | rw [if_neg (Int32.not_lt.mpr (by assumption))]), rfl⟩)
  · refine lv_iconst (v := nI 1) hx hb dX3_againstCollect_13 rfl ?_
    refine lv_goto (tgt := 32) hx hb dX3_againstCollect_14 (by decide) ?_
    rw [← hQ]
    exact b_iret CX hr hlk hS (Nat.le_of_ble_eq_true rfl) (Nat.le_of_ble_eq_true rfl) dX3_againstCollect_32 (⟨by unfold a_collect; repeat (first | rw [if_pos (Int32.not_le.mp (by assumption))] | rw [if_neg (Int32.not_lt.mpr (by assumption))]), rfl⟩)
theorem cs_X3_64 {p : Program} {l : Launch} {e : Env} {R : Room} {s : State} {m : MethodId} {args : Array Value} {below : List Frame} {meth : Method} {c : Code} {H : Heap} {locs : List Loc} {cells slots : Nat} {cc : ByteArray} {pc nL a : Nat} {ls : Array Slot} {rest : List Value} {G : b_G} {B0 : Nat} (CX : b_Cx p s m args c cc nL RX3 G B0) (hls : ls.size = nL) {rm : Room} {mc ms : Nat} {As st0 : List Value} {Qc : Array Value → State → Outcome → State → Prop} (hM : Met l yX3_full (ws_ yX3_full cX3_full 4 (Option.some Jvm.ClassFile.FieldType.int)) rm (b_Pc G B0 H (.ref a :: As)) Qc mc ms (b_A B0)) (hn : As.length = 2) {fs : List Value} {ci : Nat} {qc : vw_C} (hc : b_cl[ci]? = some qc) (hq : qc.1 = RX3) (hP : b_at G a (.inr (ci, fs)) H) (hS : va_S (b_A B0) s.heap H locs) (hst : st0 = As.reverse ++ .ref a :: rest) (hr : rm.cells = mc ∧ rm.slots = ms ∧ rm.frames + 1 ≤ R.frames ∧ 8 + (4 + 11) + rm.locals ≤ R.locals) (hw : (rest.map fun v => v.category).sum ≤ 8) (hdg : decode cc pc = .ok (.invokevirtual 64, 3)) (hf : cells + mc ≤ R.cells ∧ slots + ms ≤ R.slots) : va_Run p l e R s m args below meth c H locs cells slots mc ms (F0 m pc ls st0) rest (Qc (Value.ref a :: As).toArray) (b_A B0) := va_runV CX.fix hM (cwV 2 CX.ts (lw_V q1957 q1959 qs44 q88 q1960) rfl hr.1 hr.2.1 (by decide +kernel) ⟨hr.2.2.1, hr.2.2.2⟩) ⟨b_blind G B0 H _, by have h9 := b_recv CX.K hc hP; rw [hq] at h9; exact h9, b_pre _ CX.K hS⟩ rfl hn hls hst (lv_room hw) hdg hf
set_option maxHeartbeats 2000000 in
set_option maxRecDepth 100000 in
theorem m_X3_fills (l : Launch) {G : b_G} {B0 : Nat} {o : Nat → Nat} {Hr H : Heap} {S : b_St} {sp sv tx : Nat → Int32} {sa le th pl iw lt on ot nu di : Int32} {b : Nat} {n_ : Int32} (hM : MW G B0 o Hr H (enc S) sp sv tx sa le th pl iw lt on ot nu di) (hW : b_WF S) (hb : b < 8) : Met l yX3_fills (ws_ yX3_fills cX3_fills 4 (Option.some Jvm.ClassFile.FieldType.int)) ({ frames := 3, cells := 0, slots := 0, locals := 66 } : Room) (b_Pc G B0 H [.ref (o 0), .int (nI b), .int n_]) (b_Qi B0 (fun r H1 => r = p_full S b n_ ∧ MW G B0 o H H1 (enc ((s_fill S b n_))) sp sv tx sa le th pl iw lt on ot nu di)) 0 0 (b_A B0) := by
  refine b_of (by decide) (Nat.le_of_ble_eq_true rfl) ?_
  intro p e s m below meth c CX hr hlk hnm hS ls hl
  have CX : b_Cx p s m _ c cX3_fills 4 RX3 G B0 := CX
  have hx := CX.hx
  have hb := CX.hb
  have hl : lv_has ls 4 [(0, .ref (o 0)), (1, .int (nI b)), (2, .int n_)] := hl
  generalize hQ : MQ below (b_Qi B0 (fun r H1 => r = p_full S b n_ ∧ MW G B0 o H H1 (enc ((s_fill S b n_))) sp sv tx sa le th pl iw lt on ot nu di)) ([.ref (o 0), .int (nI b), .int n_] : List Value).toArray s 0 0 (b_A B0) = Q
  have hM := hM.re
  refine lv_aload_n hx hb dX3_fills_0 rfl (lv_at hl 0 rfl) ?_
  refine lv_iload_n hx hb dX3_fills_1 rfl (lv_at hl 1 rfl) ?_
  refine lv_iload_n hx hb dX3_fills_2 rfl (lv_at hl 2 rfl) ?_
  refine b_ci0 (cs_X3_64 (rest := []) CX hl.1 (m_X3_full l (b := b) (n_ := n_) hM hW (by omega)) rfl rfl rfl hM.o0 hS rfl ⟨rfl, rfl, Nat.le_of_ble_eq_true rfl, Nat.le_of_ble_eq_true rfl⟩ (Nat.le_of_ble_eq_true rfl) dX3_fills_3 ⟨Nat.le_of_ble_eq_true rfl, Nat.le_of_ble_eq_true rfl⟩) hS (fun locs hS => ?_)
  refine lv_istore_n (lv' := [(3, .int (p_full S b n_)), (0, .ref (o 0)), (1, .int (nI b)), (2, .int n_)]) hx hb dX3_fills_6 rfl hl (Nat.le_of_ble_eq_true rfl) rfl (fun ls hl => ?_)
  refine lv_aload_n hx hb dX3_fills_7 rfl (lv_at hl 1 rfl) ?_
  refine gf_X3_7_8 CX hM.o0 rfl dX3_fills_8 ?_
  refine lv_iload_n hx hb dX3_fills_11 rfl (lv_at hl 2 rfl) ?_
  refine lv_iconst (v := nI 1) hx hb dX3_fills_12 rfl ?_
  refine b_ci0 (cs_X3_39 (rest := [.ref (o 1)]) CX hl.1 (m_X3_brandAt l (b := b) (w := 1)  ) rfl hS rfl ⟨rfl, rfl, Nat.le_of_ble_eq_true rfl, Nat.le_of_ble_eq_true rfl⟩ (Nat.le_of_ble_eq_true rfl) dX3_fills_13 ⟨Nat.le_of_ble_eq_true rfl, Nat.le_of_ble_eq_true rfl⟩) hS (fun locs hS => ?_)
  refine lv_dup2_11 hx hb dX3_fills_16 rfl rfl ?_
  refine b_ild CX hM.o1 (x := S 1 b 1) (vp_in_nI (by omega) (by omega)) (b_at_nI (by omega) ((enc_1 _ (by omega) (by omega)))) dX3_fills_17 ?_
  refine lv_iload_n hx hb dX3_fills_18 rfl (lv_at hl 3 rfl) ?_
  refine lv_isub hx hb dX3_fills_19 ?_
  refine b_ist CX hM.o1 hS (hM.B (by decide)) (vp_in_nI (by omega) (by omega)) dX3_fills_20 (fun H1 locs hat hu hS => ?_)
  have hM : MW G B0 o H H1 (enc ((u3 S 1 b 1 ((S 1 b 1) - n_)))) sp sv tx sa le th pl iw lt on ot nu di := hM.set1 (b_up_nI (by omega) (enc_u1 _ (by omega) (by omega) _)) hat hu
  refine lv_aload_n hx hb dX3_fills_21 rfl (lv_at hl 1 rfl) ?_
  refine gf_X3_7_8 CX hM.o0 rfl dX3_fills_22 ?_
  refine lv_iload_n hx hb dX3_fills_25 rfl (lv_at hl 2 rfl) ?_
  refine lv_iconst (v := nI 2) hx hb dX3_fills_26 rfl ?_
  refine b_ci0 (cs_X3_39 (rest := [.ref (o 1)]) CX hl.1 (m_X3_brandAt l (b := b) (w := 2)  ) rfl hS rfl ⟨rfl, rfl, Nat.le_of_ble_eq_true rfl, Nat.le_of_ble_eq_true rfl⟩ (Nat.le_of_ble_eq_true rfl) dX3_fills_27 ⟨Nat.le_of_ble_eq_true rfl, Nat.le_of_ble_eq_true rfl⟩) hS (fun locs hS => ?_)
  refine lv_dup2_11 hx hb dX3_fills_30 rfl rfl ?_
  refine b_ild CX hM.o1 (x := S 1 b 2) (vp_in_nI (by omega) (by omega)) (b_at_nI (by omega) ((enc_1 _ (by omega) (by omega)).trans (by simp [u3]))) dX3_fills_31 ?_
  refine lv_iload_n hx hb dX3_fills_32 rfl (lv_at hl 0 rfl) ?_
  refine lv_iadd hx hb dX3_fills_33 ?_
  refine b_ist CX hM.o1 hS (hM.B (by decide)) (vp_in_nI (by omega) (by omega)) dX3_fills_34 (fun H2 locs hat hu hS => ?_)
  have hM : MW G B0 o H H2 (enc ((u3 (u3 S 1 b 1 ((S 1 b 1) - n_)) 1 b 2 ((S 1 b 2) + (p_full S b n_))))) sp sv tx sa le th pl iw lt on ot nu di := hM.set1 (b_up_nI (by omega) (enc_u1 _ (by omega) (by omega) _)) hat hu
  refine lv_aload_n hx hb dX3_fills_35 rfl (lv_at hl 1 rfl) ?_
  refine gf_X3_7_8 CX hM.o0 rfl dX3_fills_36 ?_
  refine lv_iload_n hx hb dX3_fills_39 rfl (lv_at hl 2 rfl) ?_
  refine lv_bipush (v := nI 7) hx hb dX3_fills_40 rfl ?_
  refine b_ci0 (cs_X3_39 (rest := [.ref (o 1)]) CX hl.1 (m_X3_brandAt l (b := b) (w := 7)  ) rfl hS rfl ⟨rfl, rfl, Nat.le_of_ble_eq_true rfl, Nat.le_of_ble_eq_true rfl⟩ (Nat.le_of_ble_eq_true rfl) dX3_fills_42 ⟨Nat.le_of_ble_eq_true rfl, Nat.le_of_ble_eq_true rfl⟩) hS (fun locs hS => ?_)
  refine lv_dup2_11 hx hb dX3_fills_45 rfl rfl ?_
  refine b_ild CX hM.o1 (x := S 1 b 7) (vp_in_nI (by omega) (by omega)) (b_at_nI (by omega) ((enc_1 _ (by omega) (by omega)).trans (by simp [u3]))) dX3_fills_46 ?_
  refine lv_iload_n hx hb dX3_fills_47 rfl (lv_at hl 3 rfl) ?_
  refine lv_iload_n hx hb dX3_fills_48 rfl (lv_at hl 0 rfl) ?_
  refine lv_isub hx hb dX3_fills_49 ?_
  refine lv_iadd hx hb dX3_fills_50 ?_
  refine b_ist CX hM.o1 hS (hM.B (by decide)) (vp_in_nI (by omega) (by omega)) dX3_fills_51 (fun H3 locs hat hu hS => ?_)
  have hM : MW G B0 o H H3 (enc ((u3 (u3 (u3 S 1 b 1 ((S 1 b 1) - n_)) 1 b 2 ((S 1 b 2) + (p_full S b n_))) 1 b 7 ((S 1 b 7) + (n_ - (p_full S b n_)))))) sp sv tx sa le th pl iw lt on ot nu di := hM.set1 (b_up_nI (by omega) (enc_u1 _ (by omega) (by omega) _)) hat hu
  refine lv_aload_n hx hb dX3_fills_52 rfl (lv_at hl 1 rfl) ?_
  refine gf_X3_7_8 CX hM.o0 rfl dX3_fills_53 ?_
  refine lv_iload_n hx hb dX3_fills_56 rfl (lv_at hl 2 rfl) ?_
  refine lv_bipush (v := nI 8) hx hb dX3_fills_57 rfl ?_
  refine b_ci0 (cs_X3_39 (rest := [.ref (o 1)]) CX hl.1 (m_X3_brandAt l (b := b) (w := 8)  ) rfl hS rfl ⟨rfl, rfl, Nat.le_of_ble_eq_true rfl, Nat.le_of_ble_eq_true rfl⟩ (Nat.le_of_ble_eq_true rfl) dX3_fills_59 ⟨Nat.le_of_ble_eq_true rfl, Nat.le_of_ble_eq_true rfl⟩) hS (fun locs hS => ?_)
  refine lv_dup2_11 hx hb dX3_fills_62 rfl rfl ?_
  refine b_ild CX hM.o1 (x := S 1 b 8) (vp_in_nI (by omega) (by omega)) (b_at_nI (by omega) ((enc_1 _ (by omega) (by omega)).trans (by simp [u3]))) dX3_fills_63 ?_
  refine lv_iload_n hx hb dX3_fills_64 rfl (lv_at hl 3 rfl) ?_
  refine lv_iadd hx hb dX3_fills_65 ?_
  refine b_ist CX hM.o1 hS (hM.B (by decide)) (vp_in_nI (by omega) (by omega)) dX3_fills_66 (fun H4 locs hat hu hS => ?_)
  have hM : MW G B0 o H H4 (enc ((u3 (u3 (u3 (u3 S 1 b 1 ((S 1 b 1) - n_)) 1 b 2 ((S 1 b 2) + (p_full S b n_))) 1 b 7 ((S 1 b 7) + (n_ - (p_full S b n_)))) 1 b 8 ((S 1 b 8) + n_)))) sp sv tx sa le th pl iw lt on ot nu di := hM.set1 (b_up_nI (by omega) (enc_u1 _ (by omega) (by omega) _)) hat hu
  refine lv_iload_n hx hb dX3_fills_67 rfl (lv_at hl 0 rfl) ?_
  rw [← hQ]
  exact b_iret CX hr hlk hS (Nat.le_of_ble_eq_true rfl) (Nat.le_of_ble_eq_true rfl) dX3_fills_68 (⟨rfl, hM⟩)
set_option maxHeartbeats 2000000 in
set_option maxRecDepth 100000 in
theorem m_X3_delivers (l : Launch) {G : b_G} {B0 : Nat} {o : Nat → Nat} {Hr H : Heap} {S : b_St} {sp sv tx : Nat → Int32} {sa le th pl iw lt on ot nu di : Int32} {b : Nat} {s_ : Nat} {c_ : Int32} (hM : MW G B0 o Hr H (enc S) sp sv tx sa le th pl iw lt on ot nu di) (hW : b_WF S) (hb : b < 8) (hs : s_ < 6) : Met l yX3_delivers (ws_ yX3_delivers cX3_delivers 6 (Option.some Jvm.ClassFile.FieldType.int)) ({ frames := 2, cells := 0, slots := 0, locals := 43 } : Room) (b_Pc G B0 H [.ref (o 0), .int (nI b), .int (nI s_), .int c_]) (b_Qi B0 (fun r H1 => r = p_price S b c_ ∧ MW G B0 o H H1 (enc ((s_deliver S b s_ c_))) sp sv tx sa le th pl iw lt on ot nu di)) 0 0 (b_A B0) := by
  refine b_of (by decide) (Nat.le_of_ble_eq_true rfl) ?_
  intro p e s m below meth c CX hr hlk hnm hS ls hl
  have CX : b_Cx p s m _ c cX3_delivers 6 RX3 G B0 := CX
  have hx := CX.hx
  have hb := CX.hb
  have hl : lv_has ls 6 [(0, .ref (o 0)), (1, .int (nI b)), (2, .int (nI s_)), (3, .int c_)] := hl
  generalize hQ : MQ below (b_Qi B0 (fun r H1 => r = p_price S b c_ ∧ MW G B0 o H H1 (enc ((s_deliver S b s_ c_))) sp sv tx sa le th pl iw lt on ot nu di)) ([.ref (o 0), .int (nI b), .int (nI s_), .int c_] : List Value).toArray s 0 0 (b_A B0) = Q
  have hM := hM.re
  have hkd := hW.kd3 (b := b) (by omega)
  refine lv_aload_n hx hb dX3_delivers_0 rfl (lv_at hl 0 rfl) ?_
  refine lv_aload_n hx hb dX3_delivers_1 rfl (lv_at hl 0 rfl) ?_
  refine lv_iload_n hx hb dX3_delivers_2 rfl (lv_at hl 1 rfl) ?_
  refine lv_iconst (v := nI 0) hx hb dX3_delivers_3 rfl ?_
  refine b_ci0 (cs_X3_46 (rest := [.ref (o 0)]) CX hl.1 (m_X3_of l (b := b) (w := 0) hM (by omega) (by omega)) rfl rfl rfl hM.o0 hS rfl ⟨rfl, rfl, Nat.le_of_ble_eq_true rfl, Nat.le_of_ble_eq_true rfl⟩ (Nat.le_of_ble_eq_true rfl) dX3_delivers_4 ⟨Nat.le_of_ble_eq_true rfl, Nat.le_of_ble_eq_true rfl⟩) hS (fun locs hS => ?_)
  refine b_top (x := S 1 b 0) (y := nI (kd S b)) ((hW.kdE (by omega))) ?_
  refine lv_iload_n hx hb dX3_delivers_7 rfl (lv_at hl 3 rfl) ?_
  refine b_ci0 (cs_X3_67 (rest := []) CX hl.1 (m_X3_depositsFor l (k := kd S b) (c_ := c_) hM (by omega)) rfl rfl rfl hM.o0 hS rfl ⟨rfl, rfl, Nat.le_of_ble_eq_true rfl, Nat.le_of_ble_eq_true rfl⟩ (Nat.le_of_ble_eq_true rfl) dX3_delivers_8 ⟨Nat.le_of_ble_eq_true rfl, Nat.le_of_ble_eq_true rfl⟩) hS (fun locs hS => ?_)
  refine lv_istore (lv' := [(4, .int (c_ * (nI 12 * S 0 0 (7 + (kd S b)) + S 0 0 10))), (0, .ref (o 0)), (1, .int (nI b)), (2, .int (nI s_)), (3, .int c_)]) hx hb dX3_delivers_11 hl (Nat.le_of_ble_eq_true rfl) rfl (fun ls hl => ?_)
  refine lv_iload_n hx hb dX3_delivers_13 rfl (lv_at hl 4 rfl) ?_
  refine lv_aload_n hx hb dX3_delivers_14 rfl (lv_at hl 1 rfl) ?_
  refine gf_X3_7_8 CX hM.o0 rfl dX3_delivers_15 ?_
  refine lv_bipush (v := nI 11) hx hb dX3_delivers_18 rfl ?_
  refine b_ild CX hM.o1 (x := S 0 0 11) (vp_in_nI (by omega) (by omega)) (b_at_nI (by omega) ((enc_0 _ (by decide)))) dX3_delivers_20 ?_
  refine lv_imul hx hb dX3_delivers_21 ?_
  refine lv_istore (lv' := [(5, .int (c_ * (S 0 0 11))), (4, .int (c_ * (nI 12 * S 0 0 (7 + (kd S b)) + S 0 0 10))), (0, .ref (o 0)), (1, .int (nI b)), (2, .int (nI s_)), (3, .int c_)]) hx hb dX3_delivers_22 hl (Nat.le_of_ble_eq_true rfl) rfl (fun ls hl => ?_)
  refine lv_aload_n hx hb dX3_delivers_24 rfl (lv_at hl 2 rfl) ?_
  refine gf_X3_7_8 CX hM.o0 rfl dX3_delivers_25 ?_
  refine lv_iload_n hx hb dX3_delivers_28 rfl (lv_at hl 3 rfl) ?_
  refine lv_iconst (v := nI 2) hx hb dX3_delivers_29 rfl ?_
  refine b_ci0 (cs_X3_39 (rest := [.ref (o 1)]) CX hl.1 (m_X3_brandAt l (b := b) (w := 2)  ) rfl hS rfl ⟨rfl, rfl, Nat.le_of_ble_eq_true rfl, Nat.le_of_ble_eq_true rfl⟩ (Nat.le_of_ble_eq_true rfl) dX3_delivers_30 ⟨Nat.le_of_ble_eq_true rfl, Nat.le_of_ble_eq_true rfl⟩) hS (fun locs hS => ?_)
  refine lv_dup2_11 hx hb dX3_delivers_33 rfl rfl ?_
  refine b_ild CX hM.o1 (x := S 1 b 2) (vp_in_nI (by omega) (by omega)) (b_at_nI (by omega) ((enc_1 _ (by omega) (by omega)))) dX3_delivers_34 ?_
  refine lv_bipush (v := nI 12) hx hb dX3_delivers_35 rfl ?_
  refine lv_iload_n hx hb dX3_delivers_37 rfl (lv_at hl 5 rfl) ?_
  refine lv_imul hx hb dX3_delivers_38 ?_
  refine lv_isub hx hb dX3_delivers_39 ?_
  refine b_ist CX hM.o1 hS (hM.B (by decide)) (vp_in_nI (by omega) (by omega)) dX3_delivers_40 (fun H1 locs hat hu hS => ?_)
  have hM : MW G B0 o H H1 (enc ((u3 S 1 b 2 ((S 1 b 2) - ((nI 12) * c_))))) sp sv tx sa le th pl iw lt on ot nu di := hM.set1 (b_up_nI (by omega) (enc_u1 _ (by omega) (by omega) _)) hat hu
  refine lv_aload_n hx hb dX3_delivers_41 rfl (lv_at hl 2 rfl) ?_
  refine gf_X3_7_8 CX hM.o0 rfl dX3_delivers_42 ?_
  refine lv_iload_n hx hb dX3_delivers_45 rfl (lv_at hl 4 rfl) ?_
  refine lv_iconst (v := nI 5) hx hb dX3_delivers_46 rfl ?_
  refine lv_iload_n hx hb dX3_delivers_47 rfl (lv_at hl 3 rfl) ?_
  refine b_iaddN CX dX3_delivers_48 ?_
  refine b_ci0 (cs_X3_43 (rest := [.ref (o 1)]) CX hl.1 (m_X3_shopAt_a l (b := s_) (w := b)  ) rfl hS rfl ⟨rfl, rfl, Nat.le_of_ble_eq_true rfl, Nat.le_of_ble_eq_true rfl⟩ (Nat.le_of_ble_eq_true rfl) dX3_delivers_49 ⟨Nat.le_of_ble_eq_true rfl, Nat.le_of_ble_eq_true rfl⟩) hS (fun locs hS => ?_)
  refine lv_dup2_11 hx hb dX3_delivers_52 rfl rfl ?_
  refine b_ild CX hM.o1 (x := S 4 s_ b) (vp_in_nI (by omega) (by omega)) (b_at_nI (by omega) ((enc_4 _ (by omega) (by omega)).trans (by simp [u3]))) dX3_delivers_53 ?_
  refine lv_bipush (v := nI 12) hx hb dX3_delivers_54 rfl ?_
  refine lv_iload_n hx hb dX3_delivers_56 rfl (lv_at hl 5 rfl) ?_
  refine lv_imul hx hb dX3_delivers_57 ?_
  refine lv_iadd hx hb dX3_delivers_58 ?_
  refine b_ist CX hM.o1 hS (hM.B (by decide)) (vp_in_nI (by omega) (by omega)) dX3_delivers_59 (fun H2 locs hat hu hS => ?_)
  have hM : MW G B0 o H H2 (enc ((u3 (u3 S 1 b 2 ((S 1 b 2) - ((nI 12) * c_))) 4 s_ b ((S 4 s_ b) + ((nI 12) * c_))))) sp sv tx sa le th pl iw lt on ot nu di := hM.set1 (b_up_nI (by omega) (enc_u4 _ (by omega) (by omega) _)) hat hu
  refine lv_aload_n hx hb dX3_delivers_60 rfl (lv_at hl 2 rfl) ?_
  refine gf_X3_7_8 CX hM.o0 rfl dX3_delivers_61 ?_
  refine lv_iconst (v := nI 2) hx hb dX3_delivers_64 rfl ?_
  refine lv_dup2_11 hx hb dX3_delivers_65 rfl rfl ?_
  refine b_ild CX hM.o1 (x := S 0 0 2) (vp_in_nI (by omega) (by omega)) (b_at_nI (by omega) ((enc_0 _ (by decide)).trans (by simp [u3]))) dX3_delivers_66 ?_
  refine lv_iload_n hx hb dX3_delivers_67 rfl (lv_at hl 5 rfl) ?_
  refine lv_isub hx hb dX3_delivers_68 ?_
  refine b_ist CX hM.o1 hS (hM.B (by decide)) (vp_in_nI (by omega) (by omega)) dX3_delivers_69 (fun H3 locs hat hu hS => ?_)
  have hM : MW G B0 o H H3 (enc ((u3 (u3 (u3 S 1 b 2 ((S 1 b 2) - ((nI 12) * c_))) 4 s_ b ((S 4 s_ b) + ((nI 12) * c_))) 0 0 2 ((S 0 0 2) - c_)))) sp sv tx sa le th pl iw lt on ot nu di := hM.set1 (b_up_nI (by omega) (enc_u0 _ (by decide) _)) hat hu
  refine lv_aload_n hx hb dX3_delivers_70 rfl (lv_at hl 2 rfl) ?_
  refine gf_X3_7_8 CX hM.o0 rfl dX3_delivers_71 ?_
  refine lv_iload_n hx hb dX3_delivers_74 rfl (lv_at hl 4 rfl) ?_
  refine lv_iconst (v := nI 1) hx hb dX3_delivers_75 rfl ?_
  refine b_ci0 (cs_X3_43 (rest := [.ref (o 1)]) CX hl.1 (m_X3_shopAt_c l (b := s_) (w := 1)  ) rfl hS rfl ⟨rfl, rfl, Nat.le_of_ble_eq_true rfl, Nat.le_of_ble_eq_true rfl⟩ (Nat.le_of_ble_eq_true rfl) dX3_delivers_76 ⟨Nat.le_of_ble_eq_true rfl, Nat.le_of_ble_eq_true rfl⟩) hS (fun locs hS => ?_)
  refine lv_dup2_11 hx hb dX3_delivers_79 rfl rfl ?_
  refine b_ild CX hM.o1 (x := S 2 s_ 1) (vp_in_nI (by omega) (by omega)) (b_at_nI (by omega) ((enc_2 _ (by omega) (by omega)).trans (by simp [u3]))) dX3_delivers_80 ?_
  refine lv_iload_n hx hb dX3_delivers_81 rfl (lv_at hl 5 rfl) ?_
  refine lv_iadd hx hb dX3_delivers_82 ?_
  refine b_ist CX hM.o1 hS (hM.B (by decide)) (vp_in_nI (by omega) (by omega)) dX3_delivers_83 (fun H4 locs hat hu hS => ?_)
  have hM : MW G B0 o H H4 (enc ((u3 (u3 (u3 (u3 S 1 b 2 ((S 1 b 2) - ((nI 12) * c_))) 4 s_ b ((S 4 s_ b) + ((nI 12) * c_))) 0 0 2 ((S 0 0 2) - c_)) 2 s_ 1 ((S 2 s_ 1) + c_)))) sp sv tx sa le th pl iw lt on ot nu di := hM.set1 (b_up_nI (by omega) (enc_u2 _ (by omega) (by omega) _)) hat hu
  refine lv_aload_n hx hb dX3_delivers_84 rfl (lv_at hl 2 rfl) ?_
  refine gf_X3_7_8 CX hM.o0 rfl dX3_delivers_85 ?_
  refine lv_iload_n hx hb dX3_delivers_88 rfl (lv_at hl 4 rfl) ?_
  refine lv_iconst (v := nI 0) hx hb dX3_delivers_89 rfl ?_
  refine b_ci0 (cs_X3_43 (rest := [.ref (o 1)]) CX hl.1 (m_X3_shopAt_c l (b := s_) (w := 0)  ) rfl hS rfl ⟨rfl, rfl, Nat.le_of_ble_eq_true rfl, Nat.le_of_ble_eq_true rfl⟩ (Nat.le_of_ble_eq_true rfl) dX3_delivers_90 ⟨Nat.le_of_ble_eq_true rfl, Nat.le_of_ble_eq_true rfl⟩) hS (fun locs hS => ?_)
  refine lv_dup2_11 hx hb dX3_delivers_93 rfl rfl ?_
  refine b_ild CX hM.o1 (x := S 2 s_ 0) (vp_in_nI (by omega) (by omega)) (b_at_nI (by omega) ((enc_2 _ (by omega) (by omega)).trans (by simp [u3]))) dX3_delivers_94 ?_
  refine lv_iload hx hb dX3_delivers_95 (lv_at hl 1 rfl) ?_
  refine lv_iload hx hb dX3_delivers_97 (lv_at hl 0 rfl) ?_
  refine lv_iadd hx hb dX3_delivers_99 ?_
  refine lv_isub hx hb dX3_delivers_100 ?_
  refine b_ist CX hM.o1 hS (hM.B (by decide)) (vp_in_nI (by omega) (by omega)) dX3_delivers_101 (fun H5 locs hat hu hS => ?_)
  have hM : MW G B0 o H H5 (enc ((u3 (u3 (u3 (u3 (u3 S 1 b 2 ((S 1 b 2) - ((nI 12) * c_))) 4 s_ b ((S 4 s_ b) + ((nI 12) * c_))) 0 0 2 ((S 0 0 2) - c_)) 2 s_ 1 ((S 2 s_ 1) + c_)) 2 s_ 0 ((S 2 s_ 0) - ((c_ * (nI 12 * S 0 0 (7 + (kd S b)) + S 0 0 10)) + (c_ * (S 0 0 11))))))) sp sv tx sa le th pl iw lt on ot nu di := hM.set1 (b_up_nI (by omega) (enc_u2 _ (by omega) (by omega) _)) hat hu
  refine lv_aload_n hx hb dX3_delivers_102 rfl (lv_at hl 2 rfl) ?_
  refine gf_X3_7_8 CX hM.o0 rfl dX3_delivers_103 ?_
  refine lv_iload_n hx hb dX3_delivers_106 rfl (lv_at hl 4 rfl) ?_
  refine lv_iconst (v := nI 2) hx hb dX3_delivers_107 rfl ?_
  refine b_ci0 (cs_X3_43 (rest := [.ref (o 1)]) CX hl.1 (m_X3_shopAt_c l (b := s_) (w := 2)  ) rfl hS rfl ⟨rfl, rfl, Nat.le_of_ble_eq_true rfl, Nat.le_of_ble_eq_true rfl⟩ (Nat.le_of_ble_eq_true rfl) dX3_delivers_108 ⟨Nat.le_of_ble_eq_true rfl, Nat.le_of_ble_eq_true rfl⟩) hS (fun locs hS => ?_)
  refine lv_dup2_11 hx hb dX3_delivers_111 rfl rfl ?_
  refine b_ild CX hM.o1 (x := S 2 s_ 2) (vp_in_nI (by omega) (by omega)) (b_at_nI (by omega) ((enc_2 _ (by omega) (by omega)).trans (by simp [u3]))) dX3_delivers_112 ?_
  refine lv_iload hx hb dX3_delivers_113 (lv_at hl 1 rfl) ?_
  refine lv_iadd hx hb dX3_delivers_115 ?_
  refine b_ist CX hM.o1 hS (hM.B (by decide)) (vp_in_nI (by omega) (by omega)) dX3_delivers_116 (fun H6 locs hat hu hS => ?_)
  have hM : MW G B0 o H H6 (enc ((u3 (u3 (u3 (u3 (u3 (u3 S 1 b 2 ((S 1 b 2) - ((nI 12) * c_))) 4 s_ b ((S 4 s_ b) + ((nI 12) * c_))) 0 0 2 ((S 0 0 2) - c_)) 2 s_ 1 ((S 2 s_ 1) + c_)) 2 s_ 0 ((S 2 s_ 0) - ((c_ * (nI 12 * S 0 0 (7 + (kd S b)) + S 0 0 10)) + (c_ * (S 0 0 11))))) 2 s_ 2 ((S 2 s_ 2) + (c_ * (nI 12 * S 0 0 (7 + (kd S b)) + S 0 0 10)))))) sp sv tx sa le th pl iw lt on ot nu di := hM.set1 (b_up_nI (by omega) (enc_u2 _ (by omega) (by omega) _)) hat hu
  refine lv_aload_n hx hb dX3_delivers_117 rfl (lv_at hl 2 rfl) ?_
  refine gf_X3_7_8 CX hM.o0 rfl dX3_delivers_118 ?_
  refine lv_iload_n hx hb dX3_delivers_121 rfl (lv_at hl 4 rfl) ?_
  refine lv_iconst (v := nI 3) hx hb dX3_delivers_122 rfl ?_
  refine b_ci0 (cs_X3_43 (rest := [.ref (o 1)]) CX hl.1 (m_X3_shopAt_c l (b := s_) (w := 3)  ) rfl hS rfl ⟨rfl, rfl, Nat.le_of_ble_eq_true rfl, Nat.le_of_ble_eq_true rfl⟩ (Nat.le_of_ble_eq_true rfl) dX3_delivers_123 ⟨Nat.le_of_ble_eq_true rfl, Nat.le_of_ble_eq_true rfl⟩) hS (fun locs hS => ?_)
  refine lv_dup2_11 hx hb dX3_delivers_126 rfl rfl ?_
  refine b_ild CX hM.o1 (x := S 2 s_ 3) (vp_in_nI (by omega) (by omega)) (b_at_nI (by omega) ((enc_2 _ (by omega) (by omega)).trans (by simp [u3]))) dX3_delivers_127 ?_
  refine lv_iload hx hb dX3_delivers_128 (lv_at hl 0 rfl) ?_
  refine lv_iadd hx hb dX3_delivers_130 ?_
  refine b_ist CX hM.o1 hS (hM.B (by decide)) (vp_in_nI (by omega) (by omega)) dX3_delivers_131 (fun H7 locs hat hu hS => ?_)
  have hM : MW G B0 o H H7 (enc ((u3 (u3 (u3 (u3 (u3 (u3 (u3 S 1 b 2 ((S 1 b 2) - ((nI 12) * c_))) 4 s_ b ((S 4 s_ b) + ((nI 12) * c_))) 0 0 2 ((S 0 0 2) - c_)) 2 s_ 1 ((S 2 s_ 1) + c_)) 2 s_ 0 ((S 2 s_ 0) - ((c_ * (nI 12 * S 0 0 (7 + (kd S b)) + S 0 0 10)) + (c_ * (S 0 0 11))))) 2 s_ 2 ((S 2 s_ 2) + (c_ * (nI 12 * S 0 0 (7 + (kd S b)) + S 0 0 10)))) 2 s_ 3 ((S 2 s_ 3) + (c_ * (S 0 0 11)))))) sp sv tx sa le th pl iw lt on ot nu di := hM.set1 (b_up_nI (by omega) (enc_u2 _ (by omega) (by omega) _)) hat hu
  refine lv_aload_n hx hb dX3_delivers_132 rfl (lv_at hl 2 rfl) ?_
  refine gf_X3_7_8 CX hM.o0 rfl dX3_delivers_133 ?_
  refine lv_iconst (v := nI 3) hx hb dX3_delivers_136 rfl ?_
  refine lv_dup2_11 hx hb dX3_delivers_137 rfl rfl ?_
  refine b_ild CX hM.o1 (x := S 0 0 3) (vp_in_nI (by omega) (by omega)) (b_at_nI (by omega) ((enc_0 _ (by decide)).trans (by simp [u3]))) dX3_delivers_138 ?_
  refine lv_iload hx hb dX3_delivers_139 (lv_at hl 1 rfl) ?_
  refine lv_iadd hx hb dX3_delivers_141 ?_
  refine b_ist CX hM.o1 hS (hM.B (by decide)) (vp_in_nI (by omega) (by omega)) dX3_delivers_142 (fun H8 locs hat hu hS => ?_)
  have hM : MW G B0 o H H8 (enc ((u3 (u3 (u3 (u3 (u3 (u3 (u3 (u3 S 1 b 2 ((S 1 b 2) - ((nI 12) * c_))) 4 s_ b ((S 4 s_ b) + ((nI 12) * c_))) 0 0 2 ((S 0 0 2) - c_)) 2 s_ 1 ((S 2 s_ 1) + c_)) 2 s_ 0 ((S 2 s_ 0) - ((c_ * (nI 12 * S 0 0 (7 + (kd S b)) + S 0 0 10)) + (c_ * (S 0 0 11))))) 2 s_ 2 ((S 2 s_ 2) + (c_ * (nI 12 * S 0 0 (7 + (kd S b)) + S 0 0 10)))) 2 s_ 3 ((S 2 s_ 3) + (c_ * (S 0 0 11)))) 0 0 3 ((S 0 0 3) + (c_ * (nI 12 * S 0 0 (7 + (kd S b)) + S 0 0 10)))))) sp sv tx sa le th pl iw lt on ot nu di := hM.set1 (b_up_nI (by omega) (enc_u0 _ (by decide) _)) hat hu
  refine lv_aload_n hx hb dX3_delivers_143 rfl (lv_at hl 2 rfl) ?_
  refine gf_X3_7_8 CX hM.o0 rfl dX3_delivers_144 ?_
  refine lv_iconst (v := nI 5) hx hb dX3_delivers_147 rfl ?_
  refine lv_dup2_11 hx hb dX3_delivers_148 rfl rfl ?_
  refine b_ild CX hM.o1 (x := S 0 0 5) (vp_in_nI (by omega) (by omega)) (b_at_nI (by omega) ((enc_0 _ (by decide)).trans (by simp [u3]))) dX3_delivers_149 ?_
  refine lv_iload hx hb dX3_delivers_150 (lv_at hl 0 rfl) ?_
  refine lv_iadd hx hb dX3_delivers_152 ?_
  refine b_ist CX hM.o1 hS (hM.B (by decide)) (vp_in_nI (by omega) (by omega)) dX3_delivers_153 (fun H9 locs hat hu hS => ?_)
  have hM : MW G B0 o H H9 (enc ((u3 (u3 (u3 (u3 (u3 (u3 (u3 (u3 (u3 S 1 b 2 ((S 1 b 2) - ((nI 12) * c_))) 4 s_ b ((S 4 s_ b) + ((nI 12) * c_))) 0 0 2 ((S 0 0 2) - c_)) 2 s_ 1 ((S 2 s_ 1) + c_)) 2 s_ 0 ((S 2 s_ 0) - ((c_ * (nI 12 * S 0 0 (7 + (kd S b)) + S 0 0 10)) + (c_ * (S 0 0 11))))) 2 s_ 2 ((S 2 s_ 2) + (c_ * (nI 12 * S 0 0 (7 + (kd S b)) + S 0 0 10)))) 2 s_ 3 ((S 2 s_ 3) + (c_ * (S 0 0 11)))) 0 0 3 ((S 0 0 3) + (c_ * (nI 12 * S 0 0 (7 + (kd S b)) + S 0 0 10)))) 0 0 5 ((S 0 0 5) + (c_ * (S 0 0 11)))))) sp sv tx sa le th pl iw lt on ot nu di := hM.set1 (b_up_nI (by omega) (enc_u0 _ (by decide) _)) hat hu
  refine lv_iload hx hb dX3_delivers_154 (lv_at hl 1 rfl) ?_
  refine lv_iload hx hb dX3_delivers_156 (lv_at hl 0 rfl) ?_
  refine lv_iadd hx hb dX3_delivers_158 ?_
  rw [← hQ]
  exact b_iret CX hr hlk hS (Nat.le_of_ble_eq_true rfl) (Nat.le_of_ble_eq_true rfl) dX3_delivers_159 (⟨rfl, hM⟩)
set_option maxHeartbeats 2000000 in
set_option maxRecDepth 100000 in
theorem m_X3_sells (l : Launch) {G : b_G} {B0 : Nat} {o : Nat → Nat} {Hr H : Heap} {S : b_St} {sp sv tx : Nat → Int32} {sa le th pl iw lt on ot nu di : Int32} {s_ : Nat} {b : Nat} {n_ : Int32} (hM : MW G B0 o Hr H (enc S) sp sv tx sa le th pl iw lt on ot nu di) (hW : b_WF S) (hs : s_ < 6) (hb : b < 8) : Met l yX3_sells (ws_ yX3_sells cX3_sells 4 (Option.some Jvm.ClassFile.FieldType.int)) ({ frames := 3, cells := 0, slots := 0, locals := 64 } : Room) (b_Pc G B0 H [.ref (o 0), .int (nI s_), .int (nI b), .int n_]) (b_Qi B0 (fun r H1 => r = S 2 s_ 0 + n_ * p_dep S b ∧ MW G B0 o H H1 (enc ((s_sell S s_ b n_))) sp sv tx sa le th pl iw lt on ot nu di)) 0 0 (b_A B0) := by
  refine b_of (by decide) (Nat.le_of_ble_eq_true rfl) ?_
  intro p e s m below meth c CX hr hlk hnm hS ls hl
  have CX : b_Cx p s m _ c cX3_sells 4 RX3 G B0 := CX
  have hx := CX.hx
  have hb := CX.hb
  have hl : lv_has ls 4 [(0, .ref (o 0)), (1, .int (nI s_)), (2, .int (nI b)), (3, .int n_)] := hl
  generalize hQ : MQ below (b_Qi B0 (fun r H1 => r = S 2 s_ 0 + n_ * p_dep S b ∧ MW G B0 o H H1 (enc ((s_sell S s_ b n_))) sp sv tx sa le th pl iw lt on ot nu di)) ([.ref (o 0), .int (nI s_), .int (nI b), .int n_] : List Value).toArray s 0 0 (b_A B0) = Q
  have hM := hM.re
  have hkd := hW.kd3 (b := b) (by omega)
  refine lv_aload_n hx hb dX3_sells_0 rfl (lv_at hl 0 rfl) ?_
  refine gf_X3_7_8 CX hM.o0 rfl dX3_sells_1 ?_
  refine lv_iload_n hx hb dX3_sells_4 rfl (lv_at hl 1 rfl) ?_
  refine lv_iconst (v := nI 5) hx hb dX3_sells_5 rfl ?_
  refine lv_iload_n hx hb dX3_sells_6 rfl (lv_at hl 2 rfl) ?_
  refine b_iaddN CX dX3_sells_7 ?_
  refine b_ci0 (cs_X3_43 (rest := [.ref (o 1)]) CX hl.1 (m_X3_shopAt_a l (b := s_) (w := b)  ) rfl hS rfl ⟨rfl, rfl, Nat.le_of_ble_eq_true rfl, Nat.le_of_ble_eq_true rfl⟩ (Nat.le_of_ble_eq_true rfl) dX3_sells_8 ⟨Nat.le_of_ble_eq_true rfl, Nat.le_of_ble_eq_true rfl⟩) hS (fun locs hS => ?_)
  refine lv_dup2_11 hx hb dX3_sells_11 rfl rfl ?_
  refine b_ild CX hM.o1 (x := S 4 s_ b) (vp_in_nI (by omega) (by omega)) (b_at_nI (by omega) ((enc_4 _ (by omega) (by omega)))) dX3_sells_12 ?_
  refine lv_iload_n hx hb dX3_sells_13 rfl (lv_at hl 3 rfl) ?_
  refine lv_isub hx hb dX3_sells_14 ?_
  refine b_ist CX hM.o1 hS (hM.B (by decide)) (vp_in_nI (by omega) (by omega)) dX3_sells_15 (fun H1 locs hat hu hS => ?_)
  have hM : MW G B0 o H H1 (enc ((u3 S 4 s_ b ((S 4 s_ b) - n_)))) sp sv tx sa le th pl iw lt on ot nu di := hM.set1 (b_up_nI (by omega) (enc_u4 _ (by omega) (by omega) _)) hat hu
  refine lv_aload_n hx hb dX3_sells_16 rfl (lv_at hl 0 rfl) ?_
  refine gf_X3_7_8 CX hM.o0 rfl dX3_sells_17 ?_
  refine lv_iload_n hx hb dX3_sells_20 rfl (lv_at hl 2 rfl) ?_
  refine lv_iconst (v := nI 3) hx hb dX3_sells_21 rfl ?_
  refine b_ci0 (cs_X3_39 (rest := [.ref (o 1)]) CX hl.1 (m_X3_brandAt l (b := b) (w := 3)  ) rfl hS rfl ⟨rfl, rfl, Nat.le_of_ble_eq_true rfl, Nat.le_of_ble_eq_true rfl⟩ (Nat.le_of_ble_eq_true rfl) dX3_sells_22 ⟨Nat.le_of_ble_eq_true rfl, Nat.le_of_ble_eq_true rfl⟩) hS (fun locs hS => ?_)
  refine lv_dup2_11 hx hb dX3_sells_25 rfl rfl ?_
  refine b_ild CX hM.o1 (x := S 1 b 3) (vp_in_nI (by omega) (by omega)) (b_at_nI (by omega) ((enc_1 _ (by omega) (by omega)).trans (by simp [u3]))) dX3_sells_26 ?_
  refine lv_iload_n hx hb dX3_sells_27 rfl (lv_at hl 3 rfl) ?_
  refine lv_iadd hx hb dX3_sells_28 ?_
  refine b_ist CX hM.o1 hS (hM.B (by decide)) (vp_in_nI (by omega) (by omega)) dX3_sells_29 (fun H2 locs hat hu hS => ?_)
  have hM : MW G B0 o H H2 (enc ((u3 (u3 S 4 s_ b ((S 4 s_ b) - n_)) 1 b 3 ((S 1 b 3) + n_)))) sp sv tx sa le th pl iw lt on ot nu di := hM.set1 (b_up_nI (by omega) (enc_u1 _ (by omega) (by omega) _)) hat hu
  refine lv_aload_n hx hb dX3_sells_30 rfl (lv_at hl 0 rfl) ?_
  refine gf_X3_7_8 CX hM.o0 rfl dX3_sells_31 ?_
  refine lv_iload_n hx hb dX3_sells_34 rfl (lv_at hl 1 rfl) ?_
  refine lv_iconst (v := nI 4) hx hb dX3_sells_35 rfl ?_
  refine b_ci0 (cs_X3_43 (rest := [.ref (o 1)]) CX hl.1 (m_X3_shopAt_c l (b := s_) (w := 4)  ) rfl hS rfl ⟨rfl, rfl, Nat.le_of_ble_eq_true rfl, Nat.le_of_ble_eq_true rfl⟩ (Nat.le_of_ble_eq_true rfl) dX3_sells_36 ⟨Nat.le_of_ble_eq_true rfl, Nat.le_of_ble_eq_true rfl⟩) hS (fun locs hS => ?_)
  refine lv_dup2_11 hx hb dX3_sells_39 rfl rfl ?_
  refine b_ild CX hM.o1 (x := S 2 s_ 4) (vp_in_nI (by omega) (by omega)) (b_at_nI (by omega) ((enc_2 _ (by omega) (by omega)).trans (by simp [u3]))) dX3_sells_40 ?_
  refine lv_iload_n hx hb dX3_sells_41 rfl (lv_at hl 3 rfl) ?_
  refine lv_iadd hx hb dX3_sells_42 ?_
  refine b_ist CX hM.o1 hS (hM.B (by decide)) (vp_in_nI (by omega) (by omega)) dX3_sells_43 (fun H3 locs hat hu hS => ?_)
  have hM : MW G B0 o H H3 (enc ((u3 (u3 (u3 S 4 s_ b ((S 4 s_ b) - n_)) 1 b 3 ((S 1 b 3) + n_)) 2 s_ 4 ((S 2 s_ 4) + n_)))) sp sv tx sa le th pl iw lt on ot nu di := hM.set1 (b_up_nI (by omega) (enc_u2 _ (by omega) (by omega) _)) hat hu
  refine lv_aload_n hx hb dX3_sells_44 rfl (lv_at hl 0 rfl) ?_
  refine gf_X3_7_8 CX hM.o0 rfl dX3_sells_45 ?_
  refine lv_iload_n hx hb dX3_sells_48 rfl (lv_at hl 1 rfl) ?_
  refine lv_iconst (v := nI 0) hx hb dX3_sells_49 rfl ?_
  refine b_ci0 (cs_X3_43 (rest := [.ref (o 1)]) CX hl.1 (m_X3_shopAt_c l (b := s_) (w := 0)  ) rfl hS rfl ⟨rfl, rfl, Nat.le_of_ble_eq_true rfl, Nat.le_of_ble_eq_true rfl⟩ (Nat.le_of_ble_eq_true rfl) dX3_sells_50 ⟨Nat.le_of_ble_eq_true rfl, Nat.le_of_ble_eq_true rfl⟩) hS (fun locs hS => ?_)
  refine lv_dup2_11 hx hb dX3_sells_53 rfl rfl ?_
  refine b_ild CX hM.o1 (x := S 2 s_ 0) (vp_in_nI (by omega) (by omega)) (b_at_nI (by omega) ((enc_2 _ (by omega) (by omega)).trans (by simp [u3]))) dX3_sells_54 ?_
  refine lv_iload_n hx hb dX3_sells_55 rfl (lv_at hl 3 rfl) ?_
  refine lv_aload_n hx hb dX3_sells_56 rfl (lv_at hl 0 rfl) ?_
  refine lv_iload_n hx hb dX3_sells_57 rfl (lv_at hl 2 rfl) ?_
  refine b_ci0 (cs_X3_73 (rest := [.int n_, .int (S 2 s_ 0), .int (nI (93 + 21 * s_ + 0)), .ref (o 1)]) CX hl.1 (m_X3_deposit l (b := b) hM (((hW.up (by omega) (by omega)).up (by omega) (by omega)).up (by omega) (by omega)) (by omega)) rfl rfl rfl hM.o0 hS rfl ⟨rfl, rfl, Nat.le_of_ble_eq_true rfl, Nat.le_of_ble_eq_true rfl⟩ (Nat.le_of_ble_eq_true rfl) dX3_sells_58 ⟨Nat.le_of_ble_eq_true rfl, Nat.le_of_ble_eq_true rfl⟩) hS (fun locs hS => ?_)
  refine lv_imul hx hb dX3_sells_61 ?_
  refine lv_iadd hx hb dX3_sells_62 ?_
  refine b_ist CX hM.o1 hS (hM.B (by decide)) (vp_in_nI (by omega) (by omega)) dX3_sells_63 (fun H4 locs hat hu hS => ?_)
  have hM : MW G B0 o H H4 (enc ((u3 (u3 (u3 (u3 S 4 s_ b ((S 4 s_ b) - n_)) 1 b 3 ((S 1 b 3) + n_)) 2 s_ 4 ((S 2 s_ 4) + n_)) 2 s_ 0 ((S 2 s_ 0) + (n_ * (((u3 (u3 (u3 S 4 s_ b ((S 4 s_ b) - n_)) 1 b 3 ((S 1 b 3) + n_)) 2 s_ 4 ((S 2 s_ 4) + n_))) 0 0 (7 + kd ((u3 (u3 (u3 S 4 s_ b ((S 4 s_ b) - n_)) 1 b 3 ((S 1 b 3) + n_)) 2 s_ 4 ((S 2 s_ 4) + n_))) b))))))) sp sv tx sa le th pl iw lt on ot nu di := hM.set1 (b_up_nI (by omega) (enc_u2 _ (by omega) (by omega) _)) hat hu
  refine lv_aload_n hx hb dX3_sells_64 rfl (lv_at hl 0 rfl) ?_
  refine lv_iload_n hx hb dX3_sells_65 rfl (lv_at hl 1 rfl) ?_
  refine lv_iconst (v := nI 0) hx hb dX3_sells_66 rfl ?_
  refine b_ci0 (cs_X3_57 (rest := []) CX hl.1 (m_X3_ofShop_0 l (s_ := s_) hM (by omega)) rfl rfl rfl hM.o0 hS rfl ⟨rfl, rfl, Nat.le_of_ble_eq_true rfl, Nat.le_of_ble_eq_true rfl⟩ (Nat.le_of_ble_eq_true rfl) dX3_sells_67 ⟨Nat.le_of_ble_eq_true rfl, Nat.le_of_ble_eq_true rfl⟩) hS (fun locs hS => ?_)
  rw [← hQ]
  exact b_iret CX hr hlk hS (Nat.le_of_ble_eq_true rfl) (Nat.le_of_ble_eq_true rfl) dX3_sells_70 (⟨by simp [u3, p_dep, kd], hM⟩)
set_option maxHeartbeats 2000000 in
set_option maxRecDepth 100000 in
theorem m_X3_takesBack (l : Launch) {G : b_G} {B0 : Nat} {o : Nat → Nat} {Hr H : Heap} {S : b_St} {sp sv tx : Nat → Int32} {sa le th pl iw lt on ot nu di : Int32} {s_ : Nat} {b : Nat} {n_ : Int32} (hM : MW G B0 o Hr H (enc S) sp sv tx sa le th pl iw lt on ot nu di) (hW : b_WF S) (hs : s_ < 6) (hb : b < 8) : Met l yX3_takesBack (ws_ yX3_takesBack cX3_takesBack 4 (Option.some Jvm.ClassFile.FieldType.int)) ({ frames := 3, cells := 0, slots := 0, locals := 64 } : Room) (b_Pc G B0 H [.ref (o 0), .int (nI s_), .int (nI b), .int n_]) (b_Qi B0 (fun r H1 => r = S 2 s_ 0 - n_ * p_dep S b ∧ MW G B0 o H H1 (enc ((s_take S s_ b n_))) sp sv tx sa le th pl iw lt on ot nu di)) 0 0 (b_A B0) := by
  refine b_of (by decide) (Nat.le_of_ble_eq_true rfl) ?_
  intro p e s m below meth c CX hr hlk hnm hS ls hl
  have CX : b_Cx p s m _ c cX3_takesBack 4 RX3 G B0 := CX
  have hx := CX.hx
  have hb := CX.hb
  have hl : lv_has ls 4 [(0, .ref (o 0)), (1, .int (nI s_)), (2, .int (nI b)), (3, .int n_)] := hl
  generalize hQ : MQ below (b_Qi B0 (fun r H1 => r = S 2 s_ 0 - n_ * p_dep S b ∧ MW G B0 o H H1 (enc ((s_take S s_ b n_))) sp sv tx sa le th pl iw lt on ot nu di)) ([.ref (o 0), .int (nI s_), .int (nI b), .int n_] : List Value).toArray s 0 0 (b_A B0) = Q
  have hM := hM.re
  have hkd := hW.kd3 (b := b) (by omega)
  refine lv_aload_n hx hb dX3_takesBack_0 rfl (lv_at hl 0 rfl) ?_
  refine gf_X3_7_8 CX hM.o0 rfl dX3_takesBack_1 ?_
  refine lv_iload_n hx hb dX3_takesBack_4 rfl (lv_at hl 2 rfl) ?_
  refine lv_iconst (v := nI 3) hx hb dX3_takesBack_5 rfl ?_
  refine b_ci0 (cs_X3_39 (rest := [.ref (o 1)]) CX hl.1 (m_X3_brandAt l (b := b) (w := 3)  ) rfl hS rfl ⟨rfl, rfl, Nat.le_of_ble_eq_true rfl, Nat.le_of_ble_eq_true rfl⟩ (Nat.le_of_ble_eq_true rfl) dX3_takesBack_6 ⟨Nat.le_of_ble_eq_true rfl, Nat.le_of_ble_eq_true rfl⟩) hS (fun locs hS => ?_)
  refine lv_dup2_11 hx hb dX3_takesBack_9 rfl rfl ?_
  refine b_ild CX hM.o1 (x := S 1 b 3) (vp_in_nI (by omega) (by omega)) (b_at_nI (by omega) ((enc_1 _ (by omega) (by omega)))) dX3_takesBack_10 ?_
  refine lv_iload_n hx hb dX3_takesBack_11 rfl (lv_at hl 3 rfl) ?_
  refine lv_isub hx hb dX3_takesBack_12 ?_
  refine b_ist CX hM.o1 hS (hM.B (by decide)) (vp_in_nI (by omega) (by omega)) dX3_takesBack_13 (fun H1 locs hat hu hS => ?_)
  have hM : MW G B0 o H H1 (enc ((u3 S 1 b 3 ((S 1 b 3) - n_)))) sp sv tx sa le th pl iw lt on ot nu di := hM.set1 (b_up_nI (by omega) (enc_u1 _ (by omega) (by omega) _)) hat hu
  refine lv_aload_n hx hb dX3_takesBack_14 rfl (lv_at hl 0 rfl) ?_
  refine gf_X3_7_8 CX hM.o0 rfl dX3_takesBack_15 ?_
  refine lv_iload_n hx hb dX3_takesBack_18 rfl (lv_at hl 1 rfl) ?_
  refine lv_bipush (v := nI 13) hx hb dX3_takesBack_19 rfl ?_
  refine lv_iload_n hx hb dX3_takesBack_21 rfl (lv_at hl 2 rfl) ?_
  refine b_iaddN CX dX3_takesBack_22 ?_
  refine b_ci0 (cs_X3_43 (rest := [.ref (o 1)]) CX hl.1 (m_X3_shopAt_b l (b := s_) (w := b)  ) rfl hS rfl ⟨rfl, rfl, Nat.le_of_ble_eq_true rfl, Nat.le_of_ble_eq_true rfl⟩ (Nat.le_of_ble_eq_true rfl) dX3_takesBack_23 ⟨Nat.le_of_ble_eq_true rfl, Nat.le_of_ble_eq_true rfl⟩) hS (fun locs hS => ?_)
  refine lv_dup2_11 hx hb dX3_takesBack_26 rfl rfl ?_
  refine b_ild CX hM.o1 (x := S 5 s_ b) (vp_in_nI (by omega) (by omega)) (b_at_nI (by omega) ((enc_5 _ (by omega) (by omega)).trans (by simp [u3]))) dX3_takesBack_27 ?_
  refine lv_iload_n hx hb dX3_takesBack_28 rfl (lv_at hl 3 rfl) ?_
  refine lv_iadd hx hb dX3_takesBack_29 ?_
  refine b_ist CX hM.o1 hS (hM.B (by decide)) (vp_in_nI (by omega) (by omega)) dX3_takesBack_30 (fun H2 locs hat hu hS => ?_)
  have hM : MW G B0 o H H2 (enc ((u3 (u3 S 1 b 3 ((S 1 b 3) - n_)) 5 s_ b ((S 5 s_ b) + n_)))) sp sv tx sa le th pl iw lt on ot nu di := hM.set1 (b_up_nI (by omega) (enc_u5 _ (by omega) (by omega) _)) hat hu
  refine lv_aload_n hx hb dX3_takesBack_31 rfl (lv_at hl 0 rfl) ?_
  refine gf_X3_7_8 CX hM.o0 rfl dX3_takesBack_32 ?_
  refine lv_iload_n hx hb dX3_takesBack_35 rfl (lv_at hl 1 rfl) ?_
  refine lv_iconst (v := nI 4) hx hb dX3_takesBack_36 rfl ?_
  refine b_ci0 (cs_X3_43 (rest := [.ref (o 1)]) CX hl.1 (m_X3_shopAt_c l (b := s_) (w := 4)  ) rfl hS rfl ⟨rfl, rfl, Nat.le_of_ble_eq_true rfl, Nat.le_of_ble_eq_true rfl⟩ (Nat.le_of_ble_eq_true rfl) dX3_takesBack_37 ⟨Nat.le_of_ble_eq_true rfl, Nat.le_of_ble_eq_true rfl⟩) hS (fun locs hS => ?_)
  refine lv_dup2_11 hx hb dX3_takesBack_40 rfl rfl ?_
  refine b_ild CX hM.o1 (x := S 2 s_ 4) (vp_in_nI (by omega) (by omega)) (b_at_nI (by omega) ((enc_2 _ (by omega) (by omega)).trans (by simp [u3]))) dX3_takesBack_41 ?_
  refine lv_iload_n hx hb dX3_takesBack_42 rfl (lv_at hl 3 rfl) ?_
  refine lv_isub hx hb dX3_takesBack_43 ?_
  refine b_ist CX hM.o1 hS (hM.B (by decide)) (vp_in_nI (by omega) (by omega)) dX3_takesBack_44 (fun H3 locs hat hu hS => ?_)
  have hM : MW G B0 o H H3 (enc ((u3 (u3 (u3 S 1 b 3 ((S 1 b 3) - n_)) 5 s_ b ((S 5 s_ b) + n_)) 2 s_ 4 ((S 2 s_ 4) - n_)))) sp sv tx sa le th pl iw lt on ot nu di := hM.set1 (b_up_nI (by omega) (enc_u2 _ (by omega) (by omega) _)) hat hu
  refine lv_aload_n hx hb dX3_takesBack_45 rfl (lv_at hl 0 rfl) ?_
  refine gf_X3_7_8 CX hM.o0 rfl dX3_takesBack_46 ?_
  refine lv_iload_n hx hb dX3_takesBack_49 rfl (lv_at hl 1 rfl) ?_
  refine lv_iconst (v := nI 0) hx hb dX3_takesBack_50 rfl ?_
  refine b_ci0 (cs_X3_43 (rest := [.ref (o 1)]) CX hl.1 (m_X3_shopAt_c l (b := s_) (w := 0)  ) rfl hS rfl ⟨rfl, rfl, Nat.le_of_ble_eq_true rfl, Nat.le_of_ble_eq_true rfl⟩ (Nat.le_of_ble_eq_true rfl) dX3_takesBack_51 ⟨Nat.le_of_ble_eq_true rfl, Nat.le_of_ble_eq_true rfl⟩) hS (fun locs hS => ?_)
  refine lv_dup2_11 hx hb dX3_takesBack_54 rfl rfl ?_
  refine b_ild CX hM.o1 (x := S 2 s_ 0) (vp_in_nI (by omega) (by omega)) (b_at_nI (by omega) ((enc_2 _ (by omega) (by omega)).trans (by simp [u3]))) dX3_takesBack_55 ?_
  refine lv_iload_n hx hb dX3_takesBack_56 rfl (lv_at hl 3 rfl) ?_
  refine lv_aload_n hx hb dX3_takesBack_57 rfl (lv_at hl 0 rfl) ?_
  refine lv_iload_n hx hb dX3_takesBack_58 rfl (lv_at hl 2 rfl) ?_
  refine b_ci0 (cs_X3_73 (rest := [.int n_, .int (S 2 s_ 0), .int (nI (93 + 21 * s_ + 0)), .ref (o 1)]) CX hl.1 (m_X3_deposit l (b := b) hM (((hW.up (by omega) (by omega)).up (by omega) (by omega)).up (by omega) (by omega)) (by omega)) rfl rfl rfl hM.o0 hS rfl ⟨rfl, rfl, Nat.le_of_ble_eq_true rfl, Nat.le_of_ble_eq_true rfl⟩ (Nat.le_of_ble_eq_true rfl) dX3_takesBack_59 ⟨Nat.le_of_ble_eq_true rfl, Nat.le_of_ble_eq_true rfl⟩) hS (fun locs hS => ?_)
  refine lv_imul hx hb dX3_takesBack_62 ?_
  refine lv_isub hx hb dX3_takesBack_63 ?_
  refine b_ist CX hM.o1 hS (hM.B (by decide)) (vp_in_nI (by omega) (by omega)) dX3_takesBack_64 (fun H4 locs hat hu hS => ?_)
  have hM : MW G B0 o H H4 (enc ((u3 (u3 (u3 (u3 S 1 b 3 ((S 1 b 3) - n_)) 5 s_ b ((S 5 s_ b) + n_)) 2 s_ 4 ((S 2 s_ 4) - n_)) 2 s_ 0 ((S 2 s_ 0) - (n_ * (((u3 (u3 (u3 S 1 b 3 ((S 1 b 3) - n_)) 5 s_ b ((S 5 s_ b) + n_)) 2 s_ 4 ((S 2 s_ 4) - n_))) 0 0 (7 + kd ((u3 (u3 (u3 S 1 b 3 ((S 1 b 3) - n_)) 5 s_ b ((S 5 s_ b) + n_)) 2 s_ 4 ((S 2 s_ 4) - n_))) b))))))) sp sv tx sa le th pl iw lt on ot nu di := hM.set1 (b_up_nI (by omega) (enc_u2 _ (by omega) (by omega) _)) hat hu
  refine lv_aload_n hx hb dX3_takesBack_65 rfl (lv_at hl 0 rfl) ?_
  refine lv_iload_n hx hb dX3_takesBack_66 rfl (lv_at hl 1 rfl) ?_
  refine lv_iconst (v := nI 0) hx hb dX3_takesBack_67 rfl ?_
  refine b_ci0 (cs_X3_57 (rest := []) CX hl.1 (m_X3_ofShop_0 l (s_ := s_) hM (by omega)) rfl rfl rfl hM.o0 hS rfl ⟨rfl, rfl, Nat.le_of_ble_eq_true rfl, Nat.le_of_ble_eq_true rfl⟩ (Nat.le_of_ble_eq_true rfl) dX3_takesBack_68 ⟨Nat.le_of_ble_eq_true rfl, Nat.le_of_ble_eq_true rfl⟩) hS (fun locs hS => ?_)
  rw [← hQ]
  exact b_iret CX hr hlk hS (Nat.le_of_ble_eq_true rfl) (Nat.le_of_ble_eq_true rfl) dX3_takesBack_71 (⟨by simp [u3, p_dep, kd], hM⟩)
theorem cs_X3_76 {p : Program} {l : Launch} {e : Env} {R : Room} {s : State} {m : MethodId} {args : Array Value} {below : List Frame} {meth : Method} {c : Code} {H : Heap} {locs : List Loc} {cells slots : Nat} {cc : ByteArray} {pc nL : Nat} {ls : Array Slot} {rest : List Value} {G : b_G} {B0 : Nat} (CX : b_Cx p s m args c cc nL RX3 G B0) (hls : ls.size = nL) {rm : Room} {mc ms : Nat} {As st0 : List Value} {Qc : Array Value → State → Outcome → State → Prop} (hM : Met l yX3_least (ws_ yX3_least cX3_least 2 (Option.some Jvm.ClassFile.FieldType.int)) rm (b_Pc G B0 H As) Qc mc ms (b_A B0)) (hn : As.length = 2) (hS : va_S (b_A B0) s.heap H locs) (hst : st0 = As.reverse ++ rest) (hr : rm.cells = mc ∧ rm.slots = ms ∧ rm.frames + 1 ≤ R.frames ∧ 8 + (2 + 11) + rm.locals ≤ R.locals) (hw : (rest.map fun v => v.category).sum ≤ 8) (hdg : decode cc pc = .ok (.invokestatic 76, 3)) (hf : cells + mc ≤ R.cells ∧ slots + ms ≤ R.slots) : va_Run p l e R s m args below meth c H locs cells slots mc ms (F0 m pc ls st0) rest (Qc As.toArray) (b_A B0) := va_runS CX.fix hM (va_cwS 2 CX.ts (lw_S q2025 q2026 q88 q2027) rfl hr.1 hr.2.1 (by decide +kernel) ⟨hr.2.2.1, hr.2.2.2⟩) ⟨b_blind G B0 H _, b_pre _ CX.K hS⟩ rfl hn hls hst (lv_room hw) hdg hf
set_option maxHeartbeats 2000000 in
set_option maxRecDepth 100000 in
theorem m_X3_breaksThem (l : Launch) {G : b_G} {B0 : Nat} {o : Nat → Nat} {Hr H : Heap} {S : b_St} {sp sv tx : Nat → Int32} {sa le th pl iw lt on ot nu di : Int32} {s_ : Nat} {b : Nat} {n_ : Int32} (hM : MW G B0 o Hr H (enc S) sp sv tx sa le th pl iw lt on ot nu di) (hW : b_WF S) (hs : s_ < 6) (hb : b < 8) : Met l yX3_breaksThem (ws_ yX3_breaksThem cX3_breaksThem 6 (Option.some Jvm.ClassFile.FieldType.int)) ({ frames := 3, cells := 0, slots := 0, locals := 64 } : Room) (b_Pc G B0 H [.ref (o 0), .int (nI s_), .int (nI b), .int n_]) (b_Qi B0 (fun r H1 => r = p_paid S b n_ ∧ MW G B0 o H H1 (enc ((s_break S s_ b n_))) sp sv tx sa le th pl iw lt on ot nu di)) 0 0 (b_A B0) := by
  refine b_of (by decide) (Nat.le_of_ble_eq_true rfl) ?_
  intro p e s m below meth c CX hr hlk hnm hS ls hl
  have CX : b_Cx p s m _ c cX3_breaksThem 6 RX3 G B0 := CX
  have hx := CX.hx
  have hb := CX.hb
  have hl : lv_has ls 6 [(0, .ref (o 0)), (1, .int (nI s_)), (2, .int (nI b)), (3, .int n_)] := hl
  generalize hQ : MQ below (b_Qi B0 (fun r H1 => r = p_paid S b n_ ∧ MW G B0 o H H1 (enc ((s_break S s_ b n_))) sp sv tx sa le th pl iw lt on ot nu di)) ([.ref (o 0), .int (nI s_), .int (nI b), .int n_] : List Value).toArray s 0 0 (b_A B0) = Q
  have hM := hM.re
  have hkd := hW.kd3 (b := b) (by omega)
  refine lv_iload_n hx hb dX3_breaksThem_0 rfl (lv_at hl 3 rfl) ?_
  refine lv_aload_n hx hb dX3_breaksThem_1 rfl (lv_at hl 0 rfl) ?_
  refine lv_iload_n hx hb dX3_breaksThem_2 rfl (lv_at hl 2 rfl) ?_
  refine b_ci0 (cs_X3_73 (rest := [.int n_]) CX hl.1 (m_X3_deposit l (b := b) hM hW (by omega)) rfl rfl rfl hM.o0 hS rfl ⟨rfl, rfl, Nat.le_of_ble_eq_true rfl, Nat.le_of_ble_eq_true rfl⟩ (Nat.le_of_ble_eq_true rfl) dX3_breaksThem_3 ⟨Nat.le_of_ble_eq_true rfl, Nat.le_of_ble_eq_true rfl⟩) hS (fun locs hS => ?_)
  refine lv_imul hx hb dX3_breaksThem_6 ?_
  refine lv_istore (lv' := [(4, .int (n_ * (S 0 0 (7 + kd S b)))), (0, .ref (o 0)), (1, .int (nI s_)), (2, .int (nI b)), (3, .int n_)]) hx hb dX3_breaksThem_7 hl (Nat.le_of_ble_eq_true rfl) rfl (fun ls hl => ?_)
  refine lv_iload hx hb dX3_breaksThem_9 (lv_at hl 0 rfl) ?_
  refine lv_aload_n hx hb dX3_breaksThem_11 rfl (lv_at hl 1 rfl) ?_
  refine gf_X3_7_8 CX hM.o0 rfl dX3_breaksThem_12 ?_
  refine lv_iconst (v := nI 5) hx hb dX3_breaksThem_15 rfl ?_
  refine b_ild CX hM.o1 (x := S 0 0 5) (vp_in_nI (by omega) (by omega)) (b_at_nI (by omega) ((enc_0 _ (by decide)))) dX3_breaksThem_16 ?_
  refine b_ci0 (cs_X3_76 (rest := []) CX hl.1 (m_X3_least l (x := n_ * (S 0 0 (7 + kd S b))) (y := S 0 0 5)  ) rfl hS rfl ⟨rfl, rfl, Nat.le_of_ble_eq_true rfl, Nat.le_of_ble_eq_true rfl⟩ (Nat.le_of_ble_eq_true rfl) dX3_breaksThem_17 ⟨Nat.le_of_ble_eq_true rfl, Nat.le_of_ble_eq_true rfl⟩) hS (fun locs hS => ?_)
  refine lv_istore (lv' := [(5, .int (p_least (n_ * (S 0 0 (7 + kd S b))) (S 0 0 5))), (4, .int (n_ * (S 0 0 (7 + kd S b)))), (0, .ref (o 0)), (1, .int (nI s_)), (2, .int (nI b)), (3, .int n_)]) hx hb dX3_breaksThem_20 hl (Nat.le_of_ble_eq_true rfl) rfl (fun ls hl => ?_)
  refine lv_aload_n hx hb dX3_breaksThem_22 rfl (lv_at hl 2 rfl) ?_
  refine gf_X3_7_8 CX hM.o0 rfl dX3_breaksThem_23 ?_
  refine lv_iload_n hx hb dX3_breaksThem_26 rfl (lv_at hl 3 rfl) ?_
  refine lv_bipush (v := nI 13) hx hb dX3_breaksThem_27 rfl ?_
  refine lv_iload_n hx hb dX3_breaksThem_29 rfl (lv_at hl 4 rfl) ?_
  refine b_iaddN CX dX3_breaksThem_30 ?_
  refine b_ci0 (cs_X3_43 (rest := [.ref (o 1)]) CX hl.1 (m_X3_shopAt_b l (b := s_) (w := b)  ) rfl hS rfl ⟨rfl, rfl, Nat.le_of_ble_eq_true rfl, Nat.le_of_ble_eq_true rfl⟩ (Nat.le_of_ble_eq_true rfl) dX3_breaksThem_31 ⟨Nat.le_of_ble_eq_true rfl, Nat.le_of_ble_eq_true rfl⟩) hS (fun locs hS => ?_)
  refine lv_dup2_11 hx hb dX3_breaksThem_34 rfl rfl ?_
  refine b_ild CX hM.o1 (x := S 5 s_ b) (vp_in_nI (by omega) (by omega)) (b_at_nI (by omega) ((enc_5 _ (by omega) (by omega)))) dX3_breaksThem_35 ?_
  refine lv_iload_n hx hb dX3_breaksThem_36 rfl (lv_at hl 5 rfl) ?_
  refine lv_isub hx hb dX3_breaksThem_37 ?_
  refine b_ist CX hM.o1 hS (hM.B (by decide)) (vp_in_nI (by omega) (by omega)) dX3_breaksThem_38 (fun H1 locs hat hu hS => ?_)
  have hM : MW G B0 o H H1 (enc ((u3 S 5 s_ b ((S 5 s_ b) - n_)))) sp sv tx sa le th pl iw lt on ot nu di := hM.set1 (b_up_nI (by omega) (enc_u5 _ (by omega) (by omega) _)) hat hu
  refine lv_aload_n hx hb dX3_breaksThem_39 rfl (lv_at hl 2 rfl) ?_
  refine gf_X3_7_8 CX hM.o0 rfl dX3_breaksThem_40 ?_
  refine lv_iload_n hx hb dX3_breaksThem_43 rfl (lv_at hl 4 rfl) ?_
  refine lv_iconst (v := nI 5) hx hb dX3_breaksThem_44 rfl ?_
  refine b_ci0 (cs_X3_39 (rest := [.ref (o 1)]) CX hl.1 (m_X3_brandAt l (b := b) (w := 5)  ) rfl hS rfl ⟨rfl, rfl, Nat.le_of_ble_eq_true rfl, Nat.le_of_ble_eq_true rfl⟩ (Nat.le_of_ble_eq_true rfl) dX3_breaksThem_45 ⟨Nat.le_of_ble_eq_true rfl, Nat.le_of_ble_eq_true rfl⟩) hS (fun locs hS => ?_)
  refine lv_dup2_11 hx hb dX3_breaksThem_48 rfl rfl ?_
  refine b_ild CX hM.o1 (x := S 1 b 5) (vp_in_nI (by omega) (by omega)) (b_at_nI (by omega) ((enc_1 _ (by omega) (by omega)).trans (by simp [u3]))) dX3_breaksThem_49 ?_
  refine lv_iload_n hx hb dX3_breaksThem_50 rfl (lv_at hl 5 rfl) ?_
  refine lv_iadd hx hb dX3_breaksThem_51 ?_
  refine b_ist CX hM.o1 hS (hM.B (by decide)) (vp_in_nI (by omega) (by omega)) dX3_breaksThem_52 (fun H2 locs hat hu hS => ?_)
  have hM : MW G B0 o H H2 (enc ((u3 (u3 S 5 s_ b ((S 5 s_ b) - n_)) 1 b 5 ((S 1 b 5) + n_)))) sp sv tx sa le th pl iw lt on ot nu di := hM.set1 (b_up_nI (by omega) (enc_u1 _ (by omega) (by omega) _)) hat hu
  refine lv_aload_n hx hb dX3_breaksThem_53 rfl (lv_at hl 2 rfl) ?_
  refine gf_X3_7_8 CX hM.o0 rfl dX3_breaksThem_54 ?_
  refine lv_iconst (v := nI 4) hx hb dX3_breaksThem_57 rfl ?_
  refine lv_dup2_11 hx hb dX3_breaksThem_58 rfl rfl ?_
  refine b_ild CX hM.o1 (x := S 0 0 4) (vp_in_nI (by omega) (by omega)) (b_at_nI (by omega) ((enc_0 _ (by decide)).trans (by simp [u3]))) dX3_breaksThem_59 ?_
  refine lv_iload hx hb dX3_breaksThem_60 (lv_at hl 1 rfl) ?_
  refine lv_iadd hx hb dX3_breaksThem_62 ?_
  refine b_ist CX hM.o1 hS (hM.B (by decide)) (vp_in_nI (by omega) (by omega)) dX3_breaksThem_63 (fun H3 locs hat hu hS => ?_)
  have hM : MW G B0 o H H3 (enc ((u3 (u3 (u3 S 5 s_ b ((S 5 s_ b) - n_)) 1 b 5 ((S 1 b 5) + n_)) 0 0 4 ((S 0 0 4) + (n_ * (S 0 0 (7 + kd S b))))))) sp sv tx sa le th pl iw lt on ot nu di := hM.set1 (b_up_nI (by omega) (enc_u0 _ (by decide) _)) hat hu
  refine lv_aload_n hx hb dX3_breaksThem_64 rfl (lv_at hl 2 rfl) ?_
  refine gf_X3_7_8 CX hM.o0 rfl dX3_breaksThem_65 ?_
  refine lv_iconst (v := nI 5) hx hb dX3_breaksThem_68 rfl ?_
  refine lv_dup2_11 hx hb dX3_breaksThem_69 rfl rfl ?_
  refine b_ild CX hM.o1 (x := S 0 0 5) (vp_in_nI (by omega) (by omega)) (b_at_nI (by omega) ((enc_0 _ (by decide)).trans (by simp [u3]))) dX3_breaksThem_70 ?_
  refine lv_iload hx hb dX3_breaksThem_71 (lv_at hl 0 rfl) ?_
  refine lv_isub hx hb dX3_breaksThem_73 ?_
  refine b_ist CX hM.o1 hS (hM.B (by decide)) (vp_in_nI (by omega) (by omega)) dX3_breaksThem_74 (fun H4 locs hat hu hS => ?_)
  have hM : MW G B0 o H H4 (enc ((u3 (u3 (u3 (u3 S 5 s_ b ((S 5 s_ b) - n_)) 1 b 5 ((S 1 b 5) + n_)) 0 0 4 ((S 0 0 4) + (n_ * (S 0 0 (7 + kd S b))))) 0 0 5 ((S 0 0 5) - (p_least (n_ * (S 0 0 (7 + kd S b))) (S 0 0 5)))))) sp sv tx sa le th pl iw lt on ot nu di := hM.set1 (b_up_nI (by omega) (enc_u0 _ (by decide) _)) hat hu
  refine lv_aload_n hx hb dX3_breaksThem_75 rfl (lv_at hl 2 rfl) ?_
  refine gf_X3_7_8 CX hM.o0 rfl dX3_breaksThem_76 ?_
  refine lv_iload_n hx hb dX3_breaksThem_79 rfl (lv_at hl 3 rfl) ?_
  refine lv_iconst (v := nI 0) hx hb dX3_breaksThem_80 rfl ?_
  refine b_ci0 (cs_X3_43 (rest := [.ref (o 1)]) CX hl.1 (m_X3_shopAt_c l (b := s_) (w := 0)  ) rfl hS rfl ⟨rfl, rfl, Nat.le_of_ble_eq_true rfl, Nat.le_of_ble_eq_true rfl⟩ (Nat.le_of_ble_eq_true rfl) dX3_breaksThem_81 ⟨Nat.le_of_ble_eq_true rfl, Nat.le_of_ble_eq_true rfl⟩) hS (fun locs hS => ?_)
  refine lv_dup2_11 hx hb dX3_breaksThem_84 rfl rfl ?_
  refine b_ild CX hM.o1 (x := S 2 s_ 0) (vp_in_nI (by omega) (by omega)) (b_at_nI (by omega) ((enc_2 _ (by omega) (by omega)).trans (by simp [u3]))) dX3_breaksThem_85 ?_
  refine lv_iload hx hb dX3_breaksThem_86 (lv_at hl 0 rfl) ?_
  refine lv_iadd hx hb dX3_breaksThem_88 ?_
  refine b_ist CX hM.o1 hS (hM.B (by decide)) (vp_in_nI (by omega) (by omega)) dX3_breaksThem_89 (fun H5 locs hat hu hS => ?_)
  have hM : MW G B0 o H H5 (enc ((u3 (u3 (u3 (u3 (u3 S 5 s_ b ((S 5 s_ b) - n_)) 1 b 5 ((S 1 b 5) + n_)) 0 0 4 ((S 0 0 4) + (n_ * (S 0 0 (7 + kd S b))))) 0 0 5 ((S 0 0 5) - (p_least (n_ * (S 0 0 (7 + kd S b))) (S 0 0 5)))) 2 s_ 0 ((S 2 s_ 0) + (p_least (n_ * (S 0 0 (7 + kd S b))) (S 0 0 5)))))) sp sv tx sa le th pl iw lt on ot nu di := hM.set1 (b_up_nI (by omega) (enc_u2 _ (by omega) (by omega) _)) hat hu
  refine lv_aload_n hx hb dX3_breaksThem_90 rfl (lv_at hl 2 rfl) ?_
  refine gf_X3_7_8 CX hM.o0 rfl dX3_breaksThem_91 ?_
  refine lv_iload_n hx hb dX3_breaksThem_94 rfl (lv_at hl 3 rfl) ?_
  refine lv_iconst (v := nI 3) hx hb dX3_breaksThem_95 rfl ?_
  refine b_ci0 (cs_X3_43 (rest := [.ref (o 1)]) CX hl.1 (m_X3_shopAt_c l (b := s_) (w := 3)  ) rfl hS rfl ⟨rfl, rfl, Nat.le_of_ble_eq_true rfl, Nat.le_of_ble_eq_true rfl⟩ (Nat.le_of_ble_eq_true rfl) dX3_breaksThem_96 ⟨Nat.le_of_ble_eq_true rfl, Nat.le_of_ble_eq_true rfl⟩) hS (fun locs hS => ?_)
  refine lv_dup2_11 hx hb dX3_breaksThem_99 rfl rfl ?_
  refine b_ild CX hM.o1 (x := S 2 s_ 3) (vp_in_nI (by omega) (by omega)) (b_at_nI (by omega) ((enc_2 _ (by omega) (by omega)).trans (by simp [u3]))) dX3_breaksThem_100 ?_
  refine lv_iload hx hb dX3_breaksThem_101 (lv_at hl 0 rfl) ?_
  refine lv_isub hx hb dX3_breaksThem_103 ?_
  refine b_ist CX hM.o1 hS (hM.B (by decide)) (vp_in_nI (by omega) (by omega)) dX3_breaksThem_104 (fun H6 locs hat hu hS => ?_)
  have hM : MW G B0 o H H6 (enc ((u3 (u3 (u3 (u3 (u3 (u3 S 5 s_ b ((S 5 s_ b) - n_)) 1 b 5 ((S 1 b 5) + n_)) 0 0 4 ((S 0 0 4) + (n_ * (S 0 0 (7 + kd S b))))) 0 0 5 ((S 0 0 5) - (p_least (n_ * (S 0 0 (7 + kd S b))) (S 0 0 5)))) 2 s_ 0 ((S 2 s_ 0) + (p_least (n_ * (S 0 0 (7 + kd S b))) (S 0 0 5)))) 2 s_ 3 ((S 2 s_ 3) - (p_least (n_ * (S 0 0 (7 + kd S b))) (S 0 0 5)))))) sp sv tx sa le th pl iw lt on ot nu di := hM.set1 (b_up_nI (by omega) (enc_u2 _ (by omega) (by omega) _)) hat hu
  refine lv_iload hx hb dX3_breaksThem_105 (lv_at hl 0 rfl) ?_
  rw [← hQ]
  exact b_iret CX hr hlk hS (Nat.le_of_ble_eq_true rfl) (Nat.le_of_ble_eq_true rfl) dX3_breaksThem_107 (⟨rfl, hM⟩)
