/-! the reference: what is told, orders -/
set_option maxRecDepth 100000
/-! what is told -/
def p_about (S : b_St) (b k : Nat) : Int32 := if k < 3 then S 1 b k else if k = 3 then p_inF S b else if k = 4 then p_inE S b else S 1 b (k - 2)
def p_shop (S : b_St) (s k : Nat) : Int32 := if 9 < k then (if k < 20 then S 4 s (k % 10) else S 5 s (k % 10)) else if k = 2 then p_sumF S s else if k = 3 then p_sumE S s else if k < 2 then S 2 s k else S 2 s (k - 2)
def p_number (S : b_St) (n k : Nat) : Int32 := if k ≤ 2 then S 0 0 k else if k = 3 then p_crates S else if k ≤ 6 then S 0 0 (k - 1) else if k = 7 then p_sum (fun b => S 1 b 3) (nb S) else if k = 8 then p_sum (fun b => S 1 b 4) (nb S) else if k = 9 then S 0 0 6 else nI n
def p_dl (S : b_St) (b s : Nat) : Nat → Nat → Nat
  | 0, n => n
  | f + 1, n => if a_deliver S b s (nI (n + 1)) = nI 0 then p_dl S b s f (n + 1) else n
theorem p_dl_s {S : b_St} {b s n : Nat} (h : n < 50) (h2 : a_deliver S b s (nI (n + 1)) = nI 0) : p_dl S b s (50 - (n + 1)) (n + 1) = p_dl S b s (50 - n) n := by
  rw [show 50 - n = (50 - (n + 1)) + 1 by omega]
  exact (if_pos h2).symm
theorem p_dl_e {S : b_St} {b s n : Nat} (h2 : ¬ a_deliver S b s (nI (n + 1)) = nI 0) : p_dl S b s (50 - n) n = n := by
  cases hk : 50 - n with
  | zero => rfl
  | succ k => exact if_neg h2
def p_from (S : b_St) (s k : Nat) : Int32 := p_least (nI 50) (p_least (p_empt S s k / nI 12) (S 2 s 1))
def p_bs (f : Nat → Int32) : Nat → Int32 × Int32
  | 0 => (-1, nI 0)
  | i + 1 => (if (p_bs f i).2 < f i then nI i else (p_bs f i).1, if (p_bs f i).2 < f i then f i else (p_bs f i).2)
def p_shopFor (S : b_St) (k : Nat) : Int32 := (p_bs (fun s => p_from S s k) (ns S)).1
def p_acc (a : Int32) (f : Nat → Int32) : Nat → Int32
  | 0 => a
  | k + 1 => p_acc a f k + f k
def p_acc2 (f : Nat → Nat → Int32) (n : Nat) : Nat → Int32
  | 0 => nI 0
  | b + 1 => p_acc (p_acc2 f n b) (f b) n
def p_all (S : b_St) : Int32 := p_acc2 (fun b k => p_about S b (k + 1)) 9 (nb S)
def f_gone (S : b_St) (b k : Nat) : Int32 := if 6 < k + 1 then p_about S b (k + 1) else nI 0
def p_gone (S : b_St) : Int32 := p_acc2 (f_gone S) 9 (nb S)
def p_share (S : b_St) : UInt64 := if p_all S = 0 then FP.dconst0 else FP.ddiv (FP.i2d (p_gone S)) (FP.i2d (p_all S))
def p_would (S : b_St) (s b c : Nat) : Int32 := if a_collect S s (kd S b) (nI c) ≤ 0 then nI (p_tk S s (kd S b) (12 * c) b) else -1
theorem p_would_v {S : b_St} {s b k c : Nat} : s_collect S s k c 1 b 4 - S 1 b 4 = nI (p_tk S s k (12 * c) b) := by
  have h : s_collect S s k c 1 b 4 = S 1 b 4 + nI (p_tk S s k (12 * c) b) := by simp [s_collect, s_collB, s_coll, u3]
  rw [h]
  grind
def p_ud (f g : Nat → Int32) (i : Nat) : Nat → Int32 := fun j => if j < i then g j else f j
theorem p_ud_0 (f g : Nat → Int32) : p_ud f g 0 = f := by funext j; unfold p_ud; rw [if_neg (Nat.not_lt_zero _)]
theorem p_ud_s (f g : Nat → Int32) (i : Nat) : upd (p_ud f g i) i (g i) = p_ud f g (i + 1) := by
  funext j
  unfold upd p_ud
  by_cases h : j = i
  · subst h
    rw [if_pos rfl, if_pos (by omega)]
  · rw [if_neg h]
    by_cases h2 : j < i
    · rw [if_pos h2, if_pos (by omega)]
    · rw [if_neg h2, if_neg (by omega)]
theorem p_ud_e {f g h : Nat → Int32} (e : ∀ j, j < 283 → g j = h j) : ∀ j, j < 283 → p_ud f g 283 j = h j := fun j hj => (if_pos hj).trans (e j hj)
/-! orders -/
def o_why (S : b_St) (x a b n : Nat) : Int32 :=
  if x = 100 then (if b < ns S ∧ a < nb S then a_deliver S a b (nI n) else nI 4)
  else if a < ns S ∧ (x = 99 ∨ b < nb S) then (if x = 115 then a_sell S a b (nI n) else if x = 114 then a_take S a b (nI n) else if x = 98 then a_break S a b (nI n) else a_collect S a b (nI n)) else nI 4
def o_do (S : b_St) (x a b n : Nat) : b_St :=
  if x = 100 then s_deliver S a b (nI n) else if x = 115 then s_sell S a b (nI n) else if x = 114 then s_take S a b (nI n) else if x = 98 then s_break S a b (nI n) else s_collect S a b n
def o_ok (x a b n : Nat) : Prop := (x = 100 ∨ x = 115 ∨ x = 114 ∨ x = 98 ∨ x = 99) ∧ a < 8 ∧ b < 8 ∧ (x = 99 → b < 3) ∧ (x = 100 ∨ x = 99 → n ≤ 50) ∧ 0 < n ∧ n ≤ 500
theorem q_ord_ok {t : Nat → Nat} {n p p9 x a b c : Nat} (h : q_ord t n p = (p9, some (x, a, b, c))) : p + 5 < p9 + 1 ∧ o_ok x a b c := by
  have hle : ∀ f q v : Nat, q ≤ (q_num t n (if t p = 100 ∨ t p = 99 then 50 else 500) f q v).1 := by
    intro f
    induction f with
    | zero => intro q v; exact Nat.le_refl _
    | succ f ih =>
      intro q v
      rw [q_num]
      by_cases h9 : q < n ∧ (if v = 0 then 49 else 48) ≤ t q ∧ t q ≤ 57 ∧ 10 * v + t q - 48 ≤ (if t p = 100 ∨ t p = 99 then 50 else 500)
      · rw [if_pos h9]
        exact Nat.le_trans (Nat.le_succ q) (ih _ _)
      · rw [if_neg h9]
        exact Nat.le_refl q
  unfold q_ord at h
  by_cases c1 : p < n ∧ (t p = 100 ∨ t p = 115 ∨ t p = 114 ∨ t p = 98 ∨ t p = 99)
  · rw [if_pos c1] at h
    by_cases c2 : p + 1 < n ∧ 48 ≤ t (p + 1) ∧ t (p + 1) ≤ 48 + (if t p = 100 then 7 else 5)
    · rw [if_pos c2] at h
      by_cases c3 : p + 1 + 1 < n ∧ t (p + 1 + 1) = (if t p = 100 then 62 else 58)
      · rw [if_pos c3] at h
        by_cases c4 : p + 1 + 1 + 1 < n ∧ 48 ≤ t (p + 1 + 1 + 1) ∧ t (p + 1 + 1 + 1) ≤ 48 + (if t p = 100 then 5 else if t p = 99 then 2 else 7)
        · rw [if_pos c4] at h
          by_cases c5 : p + 1 + 1 + 1 + 1 < n ∧ t (p + 1 + 1 + 1 + 1) = 42
          · rw [if_pos c5] at h
            by_cases c6 : 0 < (q_num t n (if t p = 100 ∨ t p = 99 then 50 else 500) (n - (p + 1 + 1 + 1 + 1 + 1)) (p + 1 + 1 + 1 + 1 + 1) 0).2
            · rw [if_pos c6] at h
              have hv := q_num_v (t := t) (n := n) (hi := if t p = 100 ∨ t p = 99 then 50 else 500) (n - (p + 1 + 1 + 1 + 1 + 1)) (p + 1 + 1 + 1 + 1 + 1) 0 (Nat.zero_le _)
              have hl := hle (n - (p + 1 + 1 + 1 + 1 + 1)) (p + 1 + 1 + 1 + 1 + 1) 0
              generalize q_num t n (if t p = 100 ∨ t p = 99 then 50 else 500) (n - (p + 1 + 1 + 1 + 1 + 1)) (p + 1 + 1 + 1 + 1 + 1) 0 = z at h c6 hv hl
              simp only [Prod.mk.injEq, Option.some.injEq] at h
              obtain ⟨rfl, rfl, rfl, rfl, rfl⟩ := h
              refine ⟨by omega, c1.2, ?_, ?_, ?_, ?_, c6, ?_⟩
              · have := c2.2.2
                split at this <;> omega
              · have := c4.2.2
                split at this
                · omega
                · split at this <;> omega
              · intro hx
                have := c4.2.2
                rw [if_neg (by omega), if_pos hx] at this
                omega
              · intro hx
                rw [if_pos hx] at hv
                exact hv
              · split at hv <;> omega
            · rw [if_neg c6] at h; simp at h
          · rw [if_neg c5] at h; simp at h
        · rw [if_neg c4] at h; simp at h
      · rw [if_neg c3] at h; simp at h
    · rw [if_neg c2] at h; simp at h
  · rw [if_neg c1] at h; simp at h
/-- the row of orders from the place p on: what was read, the place behind it, 1 if it is a whole row -/
def q_all (t : Nat → Nat) (n : Nat) : Nat → Nat → List (Nat × Nat × Nat × Nat) × Nat × Nat
  | 0, p => ([], p, 0)
  | f + 1, p => match (q_ord t n p).2 with
    | none => ([], (q_ord t n p).1, 0)
    | some x => if (q_ord t n p).1 < n ∧ t (q_ord t n p).1 = 59 then (x :: (q_all t n f ((q_ord t n p).1 + 1)).1, (q_all t n f ((q_ord t n p).1 + 1)).2) else ([x], (q_ord t n p).1, 1)
theorem q_all_n {t : Nat → Nat} {n f p p9 : Nat} (h : q_ord t n p = (p9, none)) : q_all t n (f + 1) p = ([], p9, 0) := by
  rw [q_all]; simp only [h]
theorem q_all_e {t : Nat → Nat} {n f p p9 : Nat} {x : Nat × Nat × Nat × Nat} (h : q_ord t n p = (p9, some x)) (h2 : ¬ (p9 < n ∧ t p9 = 59)) : q_all t n (f + 1) p = ([x], p9, 1) := by
  rw [q_all]; simp only [h]; exact if_neg h2
theorem q_all_s {t : Nat → Nat} {n f p p9 : Nat} {x : Nat × Nat × Nat × Nat} (h : q_ord t n p = (p9, some x)) (h2 : p9 < n ∧ t p9 = 59) : q_all t n (f + 1) p = (x :: (q_all t n f (p9 + 1)).1, (q_all t n f (p9 + 1)).2) := by
  rw [q_all]; simp only [h]; exact if_pos h2
/-- the orders, carried out one by one: how many, the state at the end -/
def r_run (S : b_St) : List (Nat × Nat × Nat × Nat) → Nat → Nat × b_St
  | [], m => (m, S)
  | (x, a, b, n) :: l, m => if o_why S x a b n = 0 then r_run (o_do S x a b n) l (m + 1) else (m, u3 S 0 0 6 (o_why S x a b n))
theorem p_ixN {a n : Nat} (ha : a < 1000) (hn : n < 1000) : (nI 0 ≤ nI a ∧ nI a ≤ nI n - nI 1) ↔ a < n := by
  constructor
  · intro h
    obtain ⟨j, hj, e⟩ := p_ix hn h
    rw [nI_eq (by omega) (by omega)] at e
    omega
  · intro h
    refine ⟨nI_le (Nat.zero_le _) (by omega), ?_⟩
    rw [pk_sub (by omega)]
    exact nI_le (by omega) (by omega)
theorem propext_bI {p q : Prop} [Decidable p] [Decidable q] (h : p ↔ q) : bI p = bI q := by
  by_cases hp : p
  · rw [bI_t hp, bI_t (h.mp hp)]
  · rw [bI_f hp, bI_f (fun x => hp (h.mpr x))]
set_option maxHeartbeats 2000000 in
set_option maxRecDepth 100000 in
theorem m_X3_isBrand_n (l : Launch) {G : b_G} {B0 : Nat} {o : Nat → Nat} {Hr H : Heap} {S : b_St} {sp sv tx : Nat → Int32} {sa le th pl iw lt on ot nu di : Int32} {x : Nat} (hM : MW G B0 o Hr H (enc S) sp sv tx sa le th pl iw lt on ot nu di) (hW : b_WF S) (hx : x < 1000) : Met l yX3_isBrand (ws_ yX3_isBrand cX3_isBrand 2 (Option.some Jvm.ClassFile.FieldType.boolean)) ({ frames := 1, cells := 0, slots := 0, locals := 22 } : Room) (b_Pc G B0 H [.ref (o 0), .int (nI x)]) (b_Qi B0 (fun r H1 => r = bI (x < nb S) ∧ H1 = H)) 0 0 (b_A B0) := by
  refine b_of (by decide) (Nat.le_of_ble_eq_true rfl) ?_
  intro p e s m below meth c CX hr hlk hnm hS ls hl
  have CX : b_Cx p s m _ c cX3_isBrand 2 RX3 G B0 := CX
  have hx := CX.hx
  have hb := CX.hb
  have hl : lv_has ls 2 [(0, .ref (o 0)), (1, .int (nI x))] := hl
  generalize hQ : MQ below (b_Qi B0 (fun r H1 => r = bI (x < nb S) ∧ H1 = H)) ([.ref (o 0), .int (nI x)] : List Value).toArray s 0 0 (b_A B0) = Q
  have hn8 := hW.nb8
  have hn6 := hW.ns6
  refine lv_iload_n hx hb dX3_isBrand_0 rfl (lv_at hl 1 rfl) ?_
  refine lv_iconst (v := nI 0) hx hb dX3_isBrand_1 rfl ?_
  refine lv_aload_n hx hb dX3_isBrand_2 rfl (lv_at hl 0 rfl) ?_
  refine gf_X3_7_8 CX hM.o0 rfl dX3_isBrand_3 ?_
  refine lv_iconst (v := nI 0) hx hb dX3_isBrand_6 rfl ?_
  refine b_ild CX hM.o1 (x := nI (nb S)) (vp_in_nI (by omega) (by omega)) (b_at_nI (by omega) (((enc_0 _ (by decide))).trans hW.nbE)) dX3_isBrand_7 ?_
  refine lv_iconst (v := nI 1) hx hb dX3_isBrand_8 rfl ?_
  refine lv_isub hx hb dX3_isBrand_9 ?_
  refine b_ci0 (cs_X3_35 (rest := []) CX hl.1 (m_X3_in l (x := nI x) (lo := nI 0) (hi := (nI (nb S)) - (nI 1))  ) rfl hS rfl ⟨rfl, rfl, Nat.le_of_ble_eq_true rfl, Nat.le_of_ble_eq_true rfl⟩ (Nat.le_of_ble_eq_true rfl) dX3_isBrand_10 ⟨Nat.le_of_ble_eq_true rfl, Nat.le_of_ble_eq_true rfl⟩) hS (fun locs hS => ?_)
  rw [← hQ]
  exact b_zret CX hr hlk hS (Nat.le_of_ble_eq_true rfl) (Nat.le_of_ble_eq_true rfl) bI_nar dX3_isBrand_13 (⟨by exact propext_bI (p_ixN (by omega) (by omega)), rfl⟩)
set_option maxHeartbeats 2000000 in
set_option maxRecDepth 100000 in
theorem m_X3_isShop_n (l : Launch) {G : b_G} {B0 : Nat} {o : Nat → Nat} {Hr H : Heap} {S : b_St} {sp sv tx : Nat → Int32} {sa le th pl iw lt on ot nu di : Int32} {x : Nat} (hM : MW G B0 o Hr H (enc S) sp sv tx sa le th pl iw lt on ot nu di) (hW : b_WF S) (hx : x < 1000) : Met l yX3_isShop (ws_ yX3_isShop cX3_isShop 2 (Option.some Jvm.ClassFile.FieldType.boolean)) ({ frames := 1, cells := 0, slots := 0, locals := 22 } : Room) (b_Pc G B0 H [.ref (o 0), .int (nI x)]) (b_Qi B0 (fun r H1 => r = bI (x < ns S) ∧ H1 = H)) 0 0 (b_A B0) := by
  refine b_of (by decide) (Nat.le_of_ble_eq_true rfl) ?_
  intro p e s m below meth c CX hr hlk hnm hS ls hl
  have CX : b_Cx p s m _ c cX3_isShop 2 RX3 G B0 := CX
  have hx := CX.hx
  have hb := CX.hb
  have hl : lv_has ls 2 [(0, .ref (o 0)), (1, .int (nI x))] := hl
  generalize hQ : MQ below (b_Qi B0 (fun r H1 => r = bI (x < ns S) ∧ H1 = H)) ([.ref (o 0), .int (nI x)] : List Value).toArray s 0 0 (b_A B0) = Q
  have hn8 := hW.nb8
  have hn6 := hW.ns6
  refine lv_iload_n hx hb dX3_isShop_0 rfl (lv_at hl 1 rfl) ?_
  refine lv_iconst (v := nI 0) hx hb dX3_isShop_1 rfl ?_
  refine lv_aload_n hx hb dX3_isShop_2 rfl (lv_at hl 0 rfl) ?_
  refine gf_X3_7_8 CX hM.o0 rfl dX3_isShop_3 ?_
  refine lv_iconst (v := nI 1) hx hb dX3_isShop_6 rfl ?_
  refine b_ild CX hM.o1 (x := nI (ns S)) (vp_in_nI (by omega) (by omega)) (b_at_nI (by omega) (((enc_0 _ (by decide))).trans hW.nsE)) dX3_isShop_7 ?_
  refine lv_iconst (v := nI 1) hx hb dX3_isShop_8 rfl ?_
  refine lv_isub hx hb dX3_isShop_9 ?_
  refine b_ci0 (cs_X3_35 (rest := []) CX hl.1 (m_X3_in l (x := nI x) (lo := nI 0) (hi := (nI (ns S)) - (nI 1))  ) rfl hS rfl ⟨rfl, rfl, Nat.le_of_ble_eq_true rfl, Nat.le_of_ble_eq_true rfl⟩ (Nat.le_of_ble_eq_true rfl) dX3_isShop_10 ⟨Nat.le_of_ble_eq_true rfl, Nat.le_of_ble_eq_true rfl⟩) hS (fun locs hS => ?_)
  rw [← hQ]
  exact b_zret CX hr hlk hS (Nat.le_of_ble_eq_true rfl) (Nat.le_of_ble_eq_true rfl) bI_nar dX3_isShop_13 (⟨by exact propext_bI (p_ixN (by omega) (by omega)), rfl⟩)
set_option maxHeartbeats 2000000 in
set_option maxRecDepth 100000 in
theorem m_X3_ofShop_c (l : Launch) {G : b_G} {B0 : Nat} {o : Nat → Nat} {Hr H : Heap} {S : b_St} {sp sv tx : Nat → Int32} {sa le th pl iw lt on ot nu di : Int32} {s_ : Nat} {w : Nat} (hM : MW G B0 o Hr H (enc S) sp sv tx sa le th pl iw lt on ot nu di) (hs : s_ < 6) (hw : w < 5) : Met l yX3_ofShop (ws_ yX3_ofShop cX3_ofShop 3 (Option.some Jvm.ClassFile.FieldType.int)) ({ frames := 1, cells := 0, slots := 0, locals := 21 } : Room) (b_Pc G B0 H [.ref (o 0), .int (nI s_), .int (nI w)]) (b_Qi B0 (fun r H1 => r = S 2 s_ w ∧ H1 = H)) 0 0 (b_A B0) := by
  refine b_of (by decide) (Nat.le_of_ble_eq_true rfl) ?_
  intro p e s m below meth c CX hr hlk hnm hS ls hl
  have CX : b_Cx p s m _ c cX3_ofShop 3 RX3 G B0 := CX
  have hx := CX.hx
  have hb := CX.hb
  have hl : lv_has ls 3 [(0, .ref (o 0)), (1, .int (nI s_)), (2, .int (nI w))] := hl
  generalize hQ : MQ below (b_Qi B0 (fun r H1 => r = S 2 s_ w ∧ H1 = H)) ([.ref (o 0), .int (nI s_), .int (nI w)] : List Value).toArray s 0 0 (b_A B0) = Q
  refine lv_aload_n hx hb dX3_ofShop_0 rfl (lv_at hl 0 rfl) ?_
  refine gf_X3_7_8 CX hM.o0 rfl dX3_ofShop_1 ?_
  refine lv_iload_n hx hb dX3_ofShop_4 rfl (lv_at hl 1 rfl) ?_
  refine lv_iload_n hx hb dX3_ofShop_5 rfl (lv_at hl 2 rfl) ?_
  refine b_ci0 (cs_X3_43 (rest := [.ref (o 1)]) CX hl.1 (m_X3_shopAt_c l (b := s_) (w := w)  ) rfl hS rfl ⟨rfl, rfl, Nat.le_of_ble_eq_true rfl, Nat.le_of_ble_eq_true rfl⟩ (Nat.le_of_ble_eq_true rfl) dX3_ofShop_6 ⟨Nat.le_of_ble_eq_true rfl, Nat.le_of_ble_eq_true rfl⟩) hS (fun locs hS => ?_)
  refine b_ild CX hM.o1 (x := S 2 s_ w) (vp_in_nI (by omega) (by omega)) (b_at_nI (by omega) ((enc_2 _ (by omega) (by omega)))) dX3_ofShop_9 ?_
  rw [← hQ]
  exact b_iret CX hr hlk hS (Nat.le_of_ble_eq_true rfl) (Nat.le_of_ble_eq_true rfl) dX3_ofShop_10 (⟨rfl, rfl⟩)
theorem cs_X3_176 {p : Program} {l : Launch} {e : Env} {R : Room} {s : State} {m : MethodId} {args : Array Value} {below : List Frame} {meth : Method} {c : Code} {H : Heap} {locs : List Loc} {cells slots : Nat} {cc : ByteArray} {pc nL a : Nat} {ls : Array Slot} {rest : List Value} {G : b_G} {B0 : Nat} (CX : b_Cx p s m args c cc nL RX3 G B0) (hls : ls.size = nL) {rm : Room} {mc ms : Nat} {As st0 : List Value} {Qc : Array Value → State → Outcome → State → Prop} (hM : Met l yX3_inShops (ws_ yX3_inShops cX3_inShops 5 (Option.some Jvm.ClassFile.FieldType.int)) rm (b_Pc G B0 H (.ref a :: As)) Qc mc ms (b_A B0)) (hn : As.length = 2) {fs : List Value} {ci : Nat} {qc : vw_C} (hc : b_cl[ci]? = some qc) (hq : qc.1 = RX3) (hP : b_at G a (.inr (ci, fs)) H) (hS : va_S (b_A B0) s.heap H locs) (hst : st0 = As.reverse ++ .ref a :: rest) (hr : rm.cells = mc ∧ rm.slots = ms ∧ rm.frames + 1 ≤ R.frames ∧ 8 + (5 + 11) + rm.locals ≤ R.locals) (hw : (rest.map fun v => v.category).sum ≤ 8) (hdg : decode cc pc = .ok (.invokevirtual 176, 3)) (hf : cells + mc ≤ R.cells ∧ slots + ms ≤ R.slots) : va_Run p l e R s m args below meth c H locs cells slots mc ms (F0 m pc ls st0) rest (Qc (Value.ref a :: As).toArray) (b_A B0) := va_runV CX.fix hM (cwV 2 CX.ts (lw_V q2120 q2122 qs70 q88 q2123) rfl hr.1 hr.2.1 (by decide +kernel) ⟨hr.2.2.1, hr.2.2.2⟩) ⟨b_blind G B0 H _, by have h9 := b_recv CX.K hc hP; rw [hq] at h9; exact h9, b_pre _ CX.K hS⟩ rfl hn hls hst (lv_room hw) hdg hf
set_option maxHeartbeats 2000000 in
set_option maxRecDepth 100000 in
theorem m_X3_aboutBrand (l : Launch) {G : b_G} {B0 : Nat} {o : Nat → Nat} {Hr H : Heap} {S : b_St} {sp sv tx : Nat → Int32} {sa le th pl iw lt on ot nu di : Int32} {b : Nat} {k : Nat} (hM : MW G B0 o Hr H (enc S) sp sv tx sa le th pl iw lt on ot nu di) (hW : b_WF S) (hb : b < 8) (hk : k < 12) : Met l yX3_aboutBrand (ws_ yX3_aboutBrand cX3_aboutBrand 3 (Option.some Jvm.ClassFile.FieldType.int)) ({ frames := 3, cells := 0, slots := 0, locals := 67 } : Room) (b_Pc G B0 H [.ref (o 0), .int (nI b), .int (nI k)]) (b_Qi B0 (fun r H1 => r = p_about S b k ∧ H1 = H)) 0 0 (b_A B0) := by
  refine b_of (by decide) (Nat.le_of_ble_eq_true rfl) ?_
  intro p e s m below meth c CX hr hlk hnm hS ls hl
  have CX : b_Cx p s m _ c cX3_aboutBrand 3 RX3 G B0 := CX
  have hx := CX.hx
  have hb := CX.hb
  have hl : lv_has ls 3 [(0, .ref (o 0)), (1, .int (nI b)), (2, .int (nI k))] := hl
  generalize hQ : MQ below (b_Qi B0 (fun r H1 => r = p_about S b k ∧ H1 = H)) ([.ref (o 0), .int (nI b), .int (nI k)] : List Value).toArray s 0 0 (b_A B0) = Q
  refine lv_iload_n hx hb dX3_aboutBrand_0 rfl (lv_at hl 2 rfl) ?_
  refine lv_iconst (v := nI 3) hx hb dX3_aboutBrand_1 rfl ?_
  refine b_icmp_geN (tgt := 14) CX (by omega) (by omega) dX3_aboutBrand_2 (by decide) (fun c_2 => ?_) (fun c_2 => ?_)
  · refine lv_iload_n hx hb dX3_aboutBrand_14 rfl (lv_at hl 2 rfl) ?_
    refine lv_iconst (v := nI 3) hx hb dX3_aboutBrand_15 rfl ?_
    refine b_icmp_neN (tgt := 28) CX (by omega) (by omega) dX3_aboutBrand_16 (by decide) (fun c_16 => ?_) (fun c_16 => ?_)
    · refine lv_iload_n hx hb dX3_aboutBrand_28 rfl (lv_at hl 2 rfl) ?_
      refine lv_iconst (v := nI 4) hx hb dX3_aboutBrand_29 rfl ?_
      refine b_icmp_neN (tgt := 43) CX (by omega) (by omega) dX3_aboutBrand_30 (by decide) (fun c_30 => ?_) (fun c_30 => ?_)
      · refine lv_aload_n hx hb dX3_aboutBrand_43 rfl (lv_at hl 0 rfl) ?_
        refine lv_iload_n hx hb dX3_aboutBrand_44 rfl (lv_at hl 1 rfl) ?_
        refine lv_iload_n hx hb dX3_aboutBrand_45 rfl (lv_at hl 2 rfl) ?_
        refine lv_iconst (v := nI 2) hx hb dX3_aboutBrand_46 rfl ?_
        refine b_isubN CX (by omega) dX3_aboutBrand_47 ?_
        refine b_ci0 (cs_X3_46 (rest := []) CX hl.1 (m_X3_of l (b := b) (w := k - 2) hM (by omega) (by omega)) rfl rfl rfl hM.o0 hS rfl ⟨rfl, rfl, Nat.le_of_ble_eq_true rfl, Nat.le_of_ble_eq_true rfl⟩ (Nat.le_of_ble_eq_true rfl) dX3_aboutBrand_48 ⟨Nat.le_of_ble_eq_true rfl, Nat.le_of_ble_eq_true rfl⟩) hS (fun locs hS => ?_)
        rw [← hQ]
        exact b_iret CX hr hlk hS (Nat.le_of_ble_eq_true rfl) (Nat.le_of_ble_eq_true rfl) dX3_aboutBrand_51 (⟨by unfold p_about; repeat (first | rw [if_pos (by assumption)] | rw [if_neg (by omega)] | rw [if_pos (by omega)]), rfl⟩)
      · refine lv_aload_n hx hb dX3_aboutBrand_33 rfl (lv_at hl 0 rfl) ?_
        refine lv_iload_n hx hb dX3_aboutBrand_34 rfl (lv_at hl 1 rfl) ?_
        refine lv_bipush (v := nI 13) hx hb dX3_aboutBrand_35 rfl ?_
        refine b_ci0 (cs_X3_176 (rest := []) CX hl.1 (m_X3_inShops_b l (b := b) hM hW (by omega)) rfl rfl rfl hM.o0 hS rfl ⟨rfl, rfl, Nat.le_of_ble_eq_true rfl, Nat.le_of_ble_eq_true rfl⟩ (Nat.le_of_ble_eq_true rfl) dX3_aboutBrand_37 ⟨Nat.le_of_ble_eq_true rfl, Nat.le_of_ble_eq_true rfl⟩) hS (fun locs hS => ?_)
        refine lv_goto (tgt := 51) hx hb dX3_aboutBrand_40 (by decide) ?_
        rw [← hQ]
        exact b_iret CX hr hlk hS (Nat.le_of_ble_eq_true rfl) (Nat.le_of_ble_eq_true rfl) dX3_aboutBrand_51 (⟨by unfold p_about; repeat (first | rw [if_pos (by assumption)] | rw [if_neg (by omega)] | rw [if_pos (by omega)]), rfl⟩)
    · refine lv_aload_n hx hb dX3_aboutBrand_19 rfl (lv_at hl 0 rfl) ?_
      refine lv_iload_n hx hb dX3_aboutBrand_20 rfl (lv_at hl 1 rfl) ?_
      refine lv_iconst (v := nI 5) hx hb dX3_aboutBrand_21 rfl ?_
      refine b_ci0 (cs_X3_176 (rest := []) CX hl.1 (m_X3_inShops_a l (b := b) hM hW (by omega)) rfl rfl rfl hM.o0 hS rfl ⟨rfl, rfl, Nat.le_of_ble_eq_true rfl, Nat.le_of_ble_eq_true rfl⟩ (Nat.le_of_ble_eq_true rfl) dX3_aboutBrand_22 ⟨Nat.le_of_ble_eq_true rfl, Nat.le_of_ble_eq_true rfl⟩) hS (fun locs hS => ?_)
      refine lv_goto (tgt := 51) hx hb dX3_aboutBrand_25 (by decide) ?_
      rw [← hQ]
      exact b_iret CX hr hlk hS (Nat.le_of_ble_eq_true rfl) (Nat.le_of_ble_eq_true rfl) dX3_aboutBrand_51 (⟨by unfold p_about; repeat (first | rw [if_pos (by assumption)] | rw [if_neg (by omega)] | rw [if_pos (by omega)]), rfl⟩)
  · refine lv_aload_n hx hb dX3_aboutBrand_5 rfl (lv_at hl 0 rfl) ?_
    refine lv_iload_n hx hb dX3_aboutBrand_6 rfl (lv_at hl 1 rfl) ?_
    refine lv_iload_n hx hb dX3_aboutBrand_7 rfl (lv_at hl 2 rfl) ?_
    refine b_ci0 (cs_X3_46 (rest := []) CX hl.1 (m_X3_of l (b := b) (w := k) hM (by omega) (by omega)) rfl rfl rfl hM.o0 hS rfl ⟨rfl, rfl, Nat.le_of_ble_eq_true rfl, Nat.le_of_ble_eq_true rfl⟩ (Nat.le_of_ble_eq_true rfl) dX3_aboutBrand_8 ⟨Nat.le_of_ble_eq_true rfl, Nat.le_of_ble_eq_true rfl⟩) hS (fun locs hS => ?_)
    refine lv_goto (tgt := 51) hx hb dX3_aboutBrand_11 (by decide) ?_
    rw [← hQ]
    exact b_iret CX hr hlk hS (Nat.le_of_ble_eq_true rfl) (Nat.le_of_ble_eq_true rfl) dX3_aboutBrand_51 (⟨by unfold p_about; repeat (first | rw [if_pos (by assumption)] | rw [if_neg (by omega)] | rw [if_pos (by omega)]), rfl⟩)
theorem cs_X3_182 {p : Program} {l : Launch} {e : Env} {R : Room} {s : State} {m : MethodId} {args : Array Value} {below : List Frame} {meth : Method} {c : Code} {H : Heap} {locs : List Loc} {cells slots : Nat} {cc : ByteArray} {pc nL a : Nat} {ls : Array Slot} {rest : List Value} {G : b_G} {B0 : Nat} (CX : b_Cx p s m args c cc nL RX3 G B0) (hls : ls.size = nL) {rm : Room} {mc ms : Nat} {As st0 : List Value} {Qc : Array Value → State → Outcome → State → Prop} (hM : Met l yX3_sumOf (ws_ yX3_sumOf cX3_sumOf 5 (Option.some Jvm.ClassFile.FieldType.int)) rm (b_Pc G B0 H (.ref a :: As)) Qc mc ms (b_A B0)) (hn : As.length = 2) {fs : List Value} {ci : Nat} {qc : vw_C} (hc : b_cl[ci]? = some qc) (hq : qc.1 = RX3) (hP : b_at G a (.inr (ci, fs)) H) (hS : va_S (b_A B0) s.heap H locs) (hst : st0 = As.reverse ++ .ref a :: rest) (hr : rm.cells = mc ∧ rm.slots = ms ∧ rm.frames + 1 ≤ R.frames ∧ 8 + (5 + 11) + rm.locals ≤ R.locals) (hw : (rest.map fun v => v.category).sum ≤ 8) (hdg : decode cc pc = .ok (.invokevirtual 182, 3)) (hf : cells + mc ≤ R.cells ∧ slots + ms ≤ R.slots) : va_Run p l e R s m args below meth c H locs cells slots mc ms (F0 m pc ls st0) rest (Qc (Value.ref a :: As).toArray) (b_A B0) := va_runV CX.fix hM (cwV 2 CX.ts (lw_V q2132 q2134 qs72 q88 q2135) rfl hr.1 hr.2.1 (by decide +kernel) ⟨hr.2.2.1, hr.2.2.2⟩) ⟨b_blind G B0 H _, by have h9 := b_recv CX.K hc hP; rw [hq] at h9; exact h9, b_pre _ CX.K hS⟩ rfl hn hls hst (lv_room hw) hdg hf
set_option maxHeartbeats 2000000 in
set_option maxRecDepth 100000 in
theorem m_X3_aboutShop (l : Launch) {G : b_G} {B0 : Nat} {o : Nat → Nat} {Hr H : Heap} {S : b_St} {sp sv tx : Nat → Int32} {sa le th pl iw lt on ot nu di : Int32} {s_ : Nat} {k : Nat} (hM : MW G B0 o Hr H (enc S) sp sv tx sa le th pl iw lt on ot nu di) (hs : s_ < 6) (hk : (k ≤ 6 ∨ (10 ≤ k ∧ k < 18) ∨ (20 ≤ k ∧ k < 28))) : Met l yX3_aboutShop (ws_ yX3_aboutShop cX3_aboutShop 3 (Option.some Jvm.ClassFile.FieldType.int)) ({ frames := 3, cells := 0, slots := 0, locals := 67 } : Room) (b_Pc G B0 H [.ref (o 0), .int (nI s_), .int (nI k)]) (b_Qi B0 (fun r H1 => r = p_shop S s_ k ∧ H1 = H)) 0 0 (b_A B0) := by
  refine b_of (by decide) (Nat.le_of_ble_eq_true rfl) ?_
  intro p e s m below meth c CX hr hlk hnm hS ls hl
  have CX : b_Cx p s m _ c cX3_aboutShop 3 RX3 G B0 := CX
  have hx := CX.hx
  have hb := CX.hb
  have hl : lv_has ls 3 [(0, .ref (o 0)), (1, .int (nI s_)), (2, .int (nI k))] := hl
  generalize hQ : MQ below (b_Qi B0 (fun r H1 => r = p_shop S s_ k ∧ H1 = H)) ([.ref (o 0), .int (nI s_), .int (nI k)] : List Value).toArray s 0 0 (b_A B0) = Q
  refine lv_iload_n hx hb dX3_aboutShop_0 rfl (lv_at hl 2 rfl) ?_
  refine lv_bipush (v := nI 9) hx hb dX3_aboutShop_1 rfl ?_
  refine b_icmp_leN (tgt := 29) CX (by omega) (by omega) dX3_aboutShop_3 (by decide) (fun c_3 => ?_) (fun c_3 => ?_)
  · refine lv_iload_n hx hb dX3_aboutShop_29 rfl (lv_at hl 2 rfl) ?_
    refine lv_iconst (v := nI 2) hx hb dX3_aboutShop_30 rfl ?_
    refine b_icmp_neN (tgt := 43) CX (by omega) (by omega) dX3_aboutShop_31 (by decide) (fun c_31 => ?_) (fun c_31 => ?_)
    · refine lv_iload_n hx hb dX3_aboutShop_43 rfl (lv_at hl 2 rfl) ?_
      refine lv_iconst (v := nI 3) hx hb dX3_aboutShop_44 rfl ?_
      refine b_icmp_neN (tgt := 58) CX (by omega) (by omega) dX3_aboutShop_45 (by decide) (fun c_45 => ?_) (fun c_45 => ?_)
      · refine lv_aload_n hx hb dX3_aboutShop_58 rfl (lv_at hl 0 rfl) ?_
        refine lv_iload_n hx hb dX3_aboutShop_59 rfl (lv_at hl 1 rfl) ?_
        refine lv_iload_n hx hb dX3_aboutShop_60 rfl (lv_at hl 2 rfl) ?_
        refine lv_iconst (v := nI 2) hx hb dX3_aboutShop_61 rfl ?_
        refine b_icmp_geN (tgt := 69) CX (by omega) (by omega) dX3_aboutShop_62 (by decide) (fun c_62 => ?_) (fun c_62 => ?_)
        · refine lv_iload_n hx hb dX3_aboutShop_69 rfl (lv_at hl 2 rfl) ?_
          refine lv_iconst (v := nI 2) hx hb dX3_aboutShop_70 rfl ?_
          refine b_isubN CX (by omega) dX3_aboutShop_71 ?_
          refine b_ci0 (cs_X3_57 (rest := []) CX hl.1 (m_X3_ofShop_c l (s_ := s_) (w := k - 2) hM (by omega) (by omega)) rfl rfl rfl hM.o0 hS rfl ⟨rfl, rfl, Nat.le_of_ble_eq_true rfl, Nat.le_of_ble_eq_true rfl⟩ (Nat.le_of_ble_eq_true rfl) dX3_aboutShop_72 ⟨Nat.le_of_ble_eq_true rfl, Nat.le_of_ble_eq_true rfl⟩) hS (fun locs hS => ?_)
          rw [← hQ]
          exact b_iret CX hr hlk hS (Nat.le_of_ble_eq_true rfl) (Nat.le_of_ble_eq_true rfl) dX3_aboutShop_75 (⟨by unfold p_shop; repeat (first | rw [if_pos (by assumption)] | rw [if_neg (by omega)] | rw [if_pos (by omega)]), rfl⟩)
        · refine lv_iload_n hx hb dX3_aboutShop_65 rfl (lv_at hl 2 rfl) ?_
          refine lv_goto (tgt := 72) hx hb dX3_aboutShop_66 (by decide) ?_
          refine b_ci0 (cs_X3_57 (rest := []) CX hl.1 (m_X3_ofShop_c l (s_ := s_) (w := k) hM (by omega) (by omega)) rfl rfl rfl hM.o0 hS rfl ⟨rfl, rfl, Nat.le_of_ble_eq_true rfl, Nat.le_of_ble_eq_true rfl⟩ (Nat.le_of_ble_eq_true rfl) dX3_aboutShop_72 ⟨Nat.le_of_ble_eq_true rfl, Nat.le_of_ble_eq_true rfl⟩) hS (fun locs hS => ?_)
          rw [← hQ]
          exact b_iret CX hr hlk hS (Nat.le_of_ble_eq_true rfl) (Nat.le_of_ble_eq_true rfl) dX3_aboutShop_75 (⟨by unfold p_shop; repeat (first | rw [if_pos (by assumption)] | rw [if_neg (by omega)] | rw [if_pos (by omega)]), rfl⟩)
      · refine lv_aload_n hx hb dX3_aboutShop_48 rfl (lv_at hl 0 rfl) ?_
        refine lv_iload_n hx hb dX3_aboutShop_49 rfl (lv_at hl 1 rfl) ?_
        refine lv_bipush (v := nI 13) hx hb dX3_aboutShop_50 rfl ?_
        refine b_ci0 (cs_X3_182 (rest := []) CX hl.1 (m_X3_sumOf_b l (s_ := s_) hM (by omega)) rfl rfl rfl hM.o0 hS rfl ⟨rfl, rfl, Nat.le_of_ble_eq_true rfl, Nat.le_of_ble_eq_true rfl⟩ (Nat.le_of_ble_eq_true rfl) dX3_aboutShop_52 ⟨Nat.le_of_ble_eq_true rfl, Nat.le_of_ble_eq_true rfl⟩) hS (fun locs hS => ?_)
        refine lv_goto (tgt := 75) hx hb dX3_aboutShop_55 (by decide) ?_
        rw [← hQ]
        exact b_iret CX hr hlk hS (Nat.le_of_ble_eq_true rfl) (Nat.le_of_ble_eq_true rfl) dX3_aboutShop_75 (⟨by unfold p_shop; repeat (first | rw [if_pos (by assumption)] | rw [if_neg (by omega)] | rw [if_pos (by omega)]), rfl⟩)
    · refine lv_aload_n hx hb dX3_aboutShop_34 rfl (lv_at hl 0 rfl) ?_
      refine lv_iload_n hx hb dX3_aboutShop_35 rfl (lv_at hl 1 rfl) ?_
      refine lv_iconst (v := nI 5) hx hb dX3_aboutShop_36 rfl ?_
      refine b_ci0 (cs_X3_182 (rest := []) CX hl.1 (m_X3_sumOf_a l (s_ := s_) hM (by omega)) rfl rfl rfl hM.o0 hS rfl ⟨rfl, rfl, Nat.le_of_ble_eq_true rfl, Nat.le_of_ble_eq_true rfl⟩ (Nat.le_of_ble_eq_true rfl) dX3_aboutShop_37 ⟨Nat.le_of_ble_eq_true rfl, Nat.le_of_ble_eq_true rfl⟩) hS (fun locs hS => ?_)
      refine lv_goto (tgt := 75) hx hb dX3_aboutShop_40 (by decide) ?_
      rw [← hQ]
      exact b_iret CX hr hlk hS (Nat.le_of_ble_eq_true rfl) (Nat.le_of_ble_eq_true rfl) dX3_aboutShop_75 (⟨by unfold p_shop; repeat (first | rw [if_pos (by assumption)] | rw [if_neg (by omega)] | rw [if_pos (by omega)]), rfl⟩)
  · refine lv_aload_n hx hb dX3_aboutShop_6 rfl (lv_at hl 0 rfl) ?_
    refine lv_iload_n hx hb dX3_aboutShop_7 rfl (lv_at hl 1 rfl) ?_
    refine lv_iload_n hx hb dX3_aboutShop_8 rfl (lv_at hl 2 rfl) ?_
    refine lv_bipush (v := nI 20) hx hb dX3_aboutShop_9 rfl ?_
    refine b_icmp_geN (tgt := 18) CX (by omega) (by omega) dX3_aboutShop_11 (by decide) (fun c_11 => ?_) (fun c_11 => ?_)
    · refine lv_bipush (v := nI 13) hx hb dX3_aboutShop_18 rfl ?_
      refine lv_iload_n hx hb dX3_aboutShop_20 rfl (lv_at hl 2 rfl) ?_
      refine lv_bipush (v := nI 10) hx hb dX3_aboutShop_21 rfl ?_
      refine lv_irem hx hb dX3_aboutShop_23 (by decide) ?_
      refine b_top (x := (nI k) - (nI k) / (nI 10) * (nI 10)) (y := nI (k % 10)) ((pk_rem (by omega) (by decide) (by decide))) ?_
      refine b_iaddN CX dX3_aboutShop_24 ?_
      refine b_ci0 (cs_X3_57 (rest := []) CX hl.1 (m_X3_ofShop_b l (s_ := s_) (b := k % 10) hM (by omega) (by omega)) rfl rfl rfl hM.o0 hS rfl ⟨rfl, rfl, Nat.le_of_ble_eq_true rfl, Nat.le_of_ble_eq_true rfl⟩ (Nat.le_of_ble_eq_true rfl) dX3_aboutShop_25 ⟨Nat.le_of_ble_eq_true rfl, Nat.le_of_ble_eq_true rfl⟩) hS (fun locs hS => ?_)
      rw [← hQ]
      exact b_iret CX hr hlk hS (Nat.le_of_ble_eq_true rfl) (Nat.le_of_ble_eq_true rfl) dX3_aboutShop_28 (⟨by unfold p_shop; repeat (first | rw [if_pos (by assumption)] | rw [if_neg (by omega)] | rw [if_pos (by omega)]), rfl⟩)
    · refine lv_iconst (v := nI 5) hx hb dX3_aboutShop_14 rfl ?_
      refine lv_goto (tgt := 20) hx hb dX3_aboutShop_15 (by decide) ?_
      refine lv_iload_n hx hb dX3_aboutShop_20 rfl (lv_at hl 2 rfl) ?_
      refine lv_bipush (v := nI 10) hx hb dX3_aboutShop_21 rfl ?_
      refine lv_irem hx hb dX3_aboutShop_23 (by decide) ?_
      refine b_top (x := (nI k) - (nI k) / (nI 10) * (nI 10)) (y := nI (k % 10)) ((pk_rem (by omega) (by decide) (by decide))) ?_
      refine b_iaddN CX dX3_aboutShop_24 ?_
      refine b_ci0 (cs_X3_57 (rest := []) CX hl.1 (m_X3_ofShop_a l (s_ := s_) (b := k % 10) hM (by omega) (by omega)) rfl rfl rfl hM.o0 hS rfl ⟨rfl, rfl, Nat.le_of_ble_eq_true rfl, Nat.le_of_ble_eq_true rfl⟩ (Nat.le_of_ble_eq_true rfl) dX3_aboutShop_25 ⟨Nat.le_of_ble_eq_true rfl, Nat.le_of_ble_eq_true rfl⟩) hS (fun locs hS => ?_)
      rw [← hQ]
      exact b_iret CX hr hlk hS (Nat.le_of_ble_eq_true rfl) (Nat.le_of_ble_eq_true rfl) dX3_aboutShop_28 (⟨by unfold p_shop; repeat (first | rw [if_pos (by assumption)] | rw [if_neg (by omega)] | rw [if_pos (by omega)]), rfl⟩)
theorem cs_X3_95 {p : Program} {l : Launch} {e : Env} {R : Room} {s : State} {m : MethodId} {args : Array Value} {below : List Frame} {meth : Method} {c : Code} {H : Heap} {locs : List Loc} {cells slots : Nat} {cc : ByteArray} {pc nL a : Nat} {ls : Array Slot} {rest : List Value} {G : b_G} {B0 : Nat} (CX : b_Cx p s m args c cc nL RX3 G B0) (hls : ls.size = nL) {rm : Room} {mc ms : Nat} {As st0 : List Value} {Qc : Array Value → State → Outcome → State → Prop} (hM : Met l yX3_againstDeliver (ws_ yX3_againstDeliver cX3_againstDeliver 4 (Option.some Jvm.ClassFile.FieldType.int)) rm (b_Pc G B0 H (.ref a :: As)) Qc mc ms (b_A B0)) (hn : As.length = 3) {fs : List Value} {ci : Nat} {qc : vw_C} (hc : b_cl[ci]? = some qc) (hq : qc.1 = RX3) (hP : b_at G a (.inr (ci, fs)) H) (hS : va_S (b_A B0) s.heap H locs) (hst : st0 = As.reverse ++ .ref a :: rest) (hr : rm.cells = mc ∧ rm.slots = ms ∧ rm.frames + 1 ≤ R.frames ∧ 8 + (4 + 11) + rm.locals ≤ R.locals) (hw : (rest.map fun v => v.category).sum ≤ 8) (hdg : decode cc pc = .ok (.invokevirtual 95, 3)) (hf : cells + mc ≤ R.cells ∧ slots + ms ≤ R.slots) : va_Run p l e R s m args below meth c H locs cells slots mc ms (F0 m pc ls st0) rest (Qc (Value.ref a :: As).toArray) (b_A B0) := va_runV CX.fix hM (cwV 3 CX.ts (lw_V q1969 q1971 qs46 q88 q1972) rfl hr.1 hr.2.1 (by decide +kernel) ⟨hr.2.2.1, hr.2.2.2⟩) ⟨b_blind G B0 H _, by have h9 := b_recv CX.K hc hP; rw [hq] at h9; exact h9, b_pre _ CX.K hS⟩ rfl hn hls hst (lv_room hw) hdg hf
set_option maxHeartbeats 2000000 in
set_option maxRecDepth 100000 in
theorem m_X3_deliverable (l : Launch) {G : b_G} {B0 : Nat} {o : Nat → Nat} {Hr H : Heap} {S : b_St} {sp sv tx : Nat → Int32} {sa le th pl iw lt on ot nu di : Int32} {b : Nat} {s_ : Nat} (hM : MW G B0 o Hr H (enc S) sp sv tx sa le th pl iw lt on ot nu di) (hW : b_WF S) (hb : b < 8) (hs : s_ < 6) : Met l yX3_deliverable (ws_ yX3_deliverable cX3_deliverable 4 (Option.some Jvm.ClassFile.FieldType.int)) ({ frames := 4, cells := 0, slots := 0, locals := 88 } : Room) (b_Pc G B0 H [.ref (o 0), .int (nI b), .int (nI s_)]) (b_Qi B0 (fun r H1 => r = nI (p_dl S b s_ 50 0) ∧ H1 = H)) 0 0 (b_A B0) := by
  refine b_of (by decide) (Nat.le_of_ble_eq_true rfl) ?_
  intro p e s m below meth c CX hr hlk hnm hS ls hl
  have CX : b_Cx p s m _ c cX3_deliverable 4 RX3 G B0 := CX
  have hx := CX.hx
  have hb := CX.hb
  have hl : lv_has ls 4 [(0, .ref (o 0)), (1, .int (nI b)), (2, .int (nI s_))] := hl
  generalize hQ : MQ below (b_Qi B0 (fun r H1 => r = nI (p_dl S b s_ 50 0) ∧ H1 = H)) ([.ref (o 0), .int (nI b), .int (nI s_)] : List Value).toArray s 0 0 (b_A B0) = Q
  refine lv_iconst (v := nI 0) hx hb dX3_deliverable_0 rfl ?_
  refine lv_istore_n (lv' := [(3, .int (nI 0)), (0, .ref (o 0)), (1, .int (nI b)), (2, .int (nI s_))]) hx hb dX3_deliverable_1 rfl hl (Nat.le_of_ble_eq_true rfl) rfl (fun ls hl => ?_)
  have lp2_1 : ∀ (n_ : Nat) (i : Nat), i ≤ 50 → p_dl S b s_ (50 - i) i = p_dl S b s_ 50 0 → 50 - i < n_ → ∀ (locs : List Loc), va_S (b_A B0) s.heap H locs → ∀ ls : Array Slot, lv_has ls 4 [(3, .int (nI i)), (0, .ref (o 0)), (1, .int (nI b)), (2, .int (nI s_))] → W p l e ({ frames := 4, cells := 0, slots := 0, locals := 88 } : Room) s m ([.ref (o 0), .int (nI b), .int (nI s_)] : List Value).toArray below meth c H locs 0 0 Q (F0 m 2 ls []) := by
    intro n_
    induction n_ with
    | zero => intro i hi hq hlt locs hS ls hl; exact absurd hlt (Nat.not_lt_zero _)
    | succ n_ ih2 =>
      intro i hi hq hlt locs hS ls hl
      refine lv_iload_n hx hb dX3_deliverable_2 rfl (lv_at hl 0 rfl) ?_
      refine lv_bipush (v := nI 50) hx hb dX3_deliverable_3 rfl ?_
      refine b_icmp_geN (tgt := 26) CX (by omega) (by omega) dX3_deliverable_5 (by decide) (fun c_5 => ?_) (fun c_5 => ?_)
      · obtain rfl : i = 50 := by omega
        refine lv_iload_n hx hb dX3_deliverable_26 rfl (lv_at hl 0 rfl) ?_
        rw [← hQ]
        exact b_iret CX hr hlk hS (Nat.le_of_ble_eq_true rfl) (Nat.le_of_ble_eq_true rfl) dX3_deliverable_27 (⟨by first | (rw [← hq, p_dl_e c_17]) | (rw [← hq]; rfl), rfl⟩)
      · refine lv_aload_n hx hb dX3_deliverable_8 rfl (lv_at hl 1 rfl) ?_
        refine lv_iload_n hx hb dX3_deliverable_9 rfl (lv_at hl 2 rfl) ?_
        refine lv_iload_n hx hb dX3_deliverable_10 rfl (lv_at hl 3 rfl) ?_
        refine lv_iload_n hx hb dX3_deliverable_11 rfl (lv_at hl 0 rfl) ?_
        refine lv_iconst (v := nI 1) hx hb dX3_deliverable_12 rfl ?_
        refine b_iaddN CX dX3_deliverable_13 ?_
        refine b_ci0 (cs_X3_95 (rest := []) CX hl.1 (m_X3_againstDeliver l (b := b) (s_ := s_) (c_ := nI (i + 1)) hM hW (by omega) (by omega)) rfl rfl rfl hM.o0 hS rfl ⟨rfl, rfl, Nat.le_of_ble_eq_true rfl, Nat.le_of_ble_eq_true rfl⟩ (Nat.le_of_ble_eq_true rfl) dX3_deliverable_14 ⟨Nat.le_of_ble_eq_true rfl, Nat.le_of_ble_eq_true rfl⟩) hS (fun locs hS => ?_)
        refine lv_if_ne (tgt := 26) hx hb dX3_deliverable_17 (by decide) (fun c_17 => ?_) (fun c_17 => ?_)
        · refine lv_iload_n hx hb dX3_deliverable_26 rfl (lv_at hl 0 rfl) ?_
          rw [← hQ]
          exact b_iret CX hr hlk hS (Nat.le_of_ble_eq_true rfl) (Nat.le_of_ble_eq_true rfl) dX3_deliverable_27 (⟨by first | (rw [← hq, p_dl_e c_17]) | (rw [← hq]; rfl), rfl⟩)
        · refine lv_iinc (v := nI (i + 1)) (lv' := [(3, .int (nI (i + 1))), (0, .ref (o 0)), (1, .int (nI b)), (2, .int (nI s_))]) hx hb dX3_deliverable_20 hl (k := 0) rfl (nI_1 _) (Nat.le_of_ble_eq_true rfl) rfl (fun ls hl => ?_)
          refine lv_goto (tgt := 2) hx hb dX3_deliverable_23 (by decide) ?_
          exact ih2 (i + 1) (by omega) ((p_dl_s (by omega) c_17).trans hq) (by omega) _ hS ls (lv_sub hl [0, 1, 2, 3] rfl)
  exact lp2_1 _ 0 (Nat.zero_le _) rfl (Nat.lt_succ_self _) _ hS ls (lv_sub hl [0, 1, 2, 3] rfl)
set_option maxHeartbeats 2000000 in
set_option maxRecDepth 100000 in
theorem m_X3_shopFor (l : Launch) {G : b_G} {B0 : Nat} {o : Nat → Nat} {Hr H : Heap} {S : b_St} {sp sv tx : Nat → Int32} {sa le th pl iw lt on ot nu di : Int32} {k : Nat} (hM : MW G B0 o Hr H (enc S) sp sv tx sa le th pl iw lt on ot nu di) (hW : b_WF S) (hk : k < 3) : Met l yX3_shopFor (ws_ yX3_shopFor cX3_shopFor 6 (Option.some Jvm.ClassFile.FieldType.int)) ({ frames := 3, cells := 0, slots := 0, locals := 67 } : Room) (b_Pc G B0 H [.ref (o 0), .int (nI k)]) (b_Qi B0 (fun r H1 => r = p_shopFor S k ∧ H1 = H)) 0 0 (b_A B0) := by
  refine b_of (by decide) (Nat.le_of_ble_eq_true rfl) ?_
  intro p e s m below meth c CX hr hlk hnm hS ls hl
  have CX : b_Cx p s m _ c cX3_shopFor 6 RX3 G B0 := CX
  have hx := CX.hx
  have hb := CX.hb
  have hl : lv_has ls 6 [(0, .ref (o 0)), (1, .int (nI k))] := hl
  generalize hQ : MQ below (b_Qi B0 (fun r H1 => r = p_shopFor S k ∧ H1 = H)) ([.ref (o 0), .int (nI k)] : List Value).toArray s 0 0 (b_A B0) = Q
  have hn8 := hW.nb8
  have hn6 := hW.ns6
  refine lv_iconst (v := -1) hx hb dX3_shopFor_0 rfl ?_
  refine lv_istore_n (lv' := [(2, .int (-1)), (0, .ref (o 0)), (1, .int (nI k))]) hx hb dX3_shopFor_1 rfl hl (Nat.le_of_ble_eq_true rfl) rfl (fun ls hl => ?_)
  refine lv_iconst (v := nI 0) hx hb dX3_shopFor_2 rfl ?_
  refine lv_istore_n (lv' := [(3, .int (nI 0)), (2, .int (-1)), (0, .ref (o 0)), (1, .int (nI k))]) hx hb dX3_shopFor_3 rfl hl (Nat.le_of_ble_eq_true rfl) rfl (fun ls hl => ?_)
  refine lv_iconst (v := nI 0) hx hb dX3_shopFor_4 rfl ?_
  refine lv_istore (lv' := [(4, .int (nI 0)), (3, .int (nI 0)), (2, .int (-1)), (0, .ref (o 0)), (1, .int (nI k))]) hx hb dX3_shopFor_5 hl (Nat.le_of_ble_eq_true rfl) rfl (fun ls hl => ?_)
  have lp7_1 : ∀ (n_ : Nat) (i : Nat), i ≤ ns S → ns S - i < n_ → ∀ (locs : List Loc), va_S (b_A B0) s.heap H locs → ∀ ls : Array Slot, lv_has ls 6 [(2, .int ((p_bs (fun s => p_from S s k) i).1)), (3, .int ((p_bs (fun s => p_from S s k) i).2)), (4, .int (nI i)), (0, .ref (o 0)), (1, .int (nI k))] → W p l e ({ frames := 3, cells := 0, slots := 0, locals := 67 } : Room) s m ([.ref (o 0), .int (nI k)] : List Value).toArray below meth c H locs 0 0 Q (F0 m 7 ls []) := by
    intro n_
    induction n_ with
    | zero => intro i hi hlt locs hS ls hl; exact absurd hlt (Nat.not_lt_zero _)
    | succ n_ ih7 =>
      intro i hi hlt locs hS ls hl
      refine lv_iload hx hb dX3_shopFor_7 (lv_at hl 2 rfl) ?_
      refine lv_aload_n hx hb dX3_shopFor_9 rfl (lv_at hl 3 rfl) ?_
      refine gf_X3_7_8 CX hM.o0 rfl dX3_shopFor_10 ?_
      refine lv_iconst (v := nI 1) hx hb dX3_shopFor_13 rfl ?_
      refine b_ild CX hM.o1 (x := nI (ns S)) (vp_in_nI (by omega) (by omega)) (b_at_nI (by omega) (((enc_0 _ (by decide))).trans hW.nsE)) dX3_shopFor_14 ?_
      refine b_icmp_geN (tgt := 77) CX (by omega) (by omega) dX3_shopFor_15 (by decide) (fun c_15 => ?_) (fun c_15 => ?_)
      · obtain rfl : i = ns S := by omega
        refine lv_iload_n hx hb dX3_shopFor_77 rfl (lv_at hl 0 rfl) ?_
        rw [← hQ]
        exact b_iret CX hr hlk hS (Nat.le_of_ble_eq_true rfl) (Nat.le_of_ble_eq_true rfl) dX3_shopFor_78 (⟨rfl, rfl⟩)
      · refine lv_bipush (v := nI 50) hx hb dX3_shopFor_18 rfl ?_
        refine lv_aload_n hx hb dX3_shopFor_20 rfl (lv_at hl 3 rfl) ?_
        refine lv_iload hx hb dX3_shopFor_21 (lv_at hl 2 rfl) ?_
        refine lv_iload_n hx hb dX3_shopFor_23 rfl (lv_at hl 4 rfl) ?_
        refine b_ci0 (cs_X3_79 (rest := [.int (nI 50)]) CX hl.1 (m_X3_emptiesOf l (s_ := i) (k := k) hM hW (by omega) (by omega)) rfl rfl rfl hM.o0 hS rfl ⟨rfl, rfl, Nat.le_of_ble_eq_true rfl, Nat.le_of_ble_eq_true rfl⟩ (Nat.le_of_ble_eq_true rfl) dX3_shopFor_24 ⟨Nat.le_of_ble_eq_true rfl, Nat.le_of_ble_eq_true rfl⟩) hS (fun locs hS => ?_)
        refine lv_bipush (v := nI 12) hx hb dX3_shopFor_27 rfl ?_
        refine lv_idiv hx hb dX3_shopFor_29 (by decide) ?_
        refine lv_aload_n hx hb dX3_shopFor_30 rfl (lv_at hl 3 rfl) ?_
        refine lv_iload hx hb dX3_shopFor_31 (lv_at hl 2 rfl) ?_
        refine lv_iconst (v := nI 1) hx hb dX3_shopFor_33 rfl ?_
        refine b_ci0 (cs_X3_57 (rest := [.int ((p_empt S i k) / (nI 12)), .int (nI 50)]) CX hl.1 (m_X3_ofShop_1 l (s_ := i) hM (by omega)) rfl rfl rfl hM.o0 hS rfl ⟨rfl, rfl, Nat.le_of_ble_eq_true rfl, Nat.le_of_ble_eq_true rfl⟩ (Nat.le_of_ble_eq_true rfl) dX3_shopFor_34 ⟨Nat.le_of_ble_eq_true rfl, Nat.le_of_ble_eq_true rfl⟩) hS (fun locs hS => ?_)
        refine b_ci0 (cs_X3_76 (rest := [.int (nI 50)]) CX hl.1 (m_X3_least l (x := (p_empt S i k) / (nI 12)) (y := S 2 i 1)  ) rfl hS rfl ⟨rfl, rfl, Nat.le_of_ble_eq_true rfl, Nat.le_of_ble_eq_true rfl⟩ (Nat.le_of_ble_eq_true rfl) dX3_shopFor_37 ⟨Nat.le_of_ble_eq_true rfl, Nat.le_of_ble_eq_true rfl⟩) hS (fun locs hS => ?_)
        refine b_ci0 (cs_X3_76 (rest := []) CX hl.1 (m_X3_least l (x := nI 50) (y := p_least ((p_empt S i k) / (nI 12)) (S 2 i 1))  ) rfl hS rfl ⟨rfl, rfl, Nat.le_of_ble_eq_true rfl, Nat.le_of_ble_eq_true rfl⟩ (Nat.le_of_ble_eq_true rfl) dX3_shopFor_40 ⟨Nat.le_of_ble_eq_true rfl, Nat.le_of_ble_eq_true rfl⟩) hS (fun locs hS => ?_)
        refine b_top (x := p_least (nI 50) (p_least ((p_empt S i k) / (nI 12)) (S 2 i 1))) (y := p_from S i k) (rfl) ?_
        refine lv_istore (lv' := [(5, .int (p_from S i k)), (2, .int ((p_bs (fun s => p_from S s k) i).1)), (3, .int ((p_bs (fun s => p_from S s k) i).2)), (4, .int (nI i)), (0, .ref (o 0)), (1, .int (nI k))]) hx hb dX3_shopFor_43 hl (Nat.le_of_ble_eq_true rfl) rfl (fun ls hl => ?_)
        refine lv_iload hx hb dX3_shopFor_45 (lv_at hl 0 rfl) ?_
        refine lv_iload_n hx hb dX3_shopFor_47 rfl (lv_at hl 2 rfl) ?_
        refine lv_icmp_le (tgt := 56) hx hb dX3_shopFor_48 (by decide) (fun c_48 => ?_) (fun c_48 => ?_)
        · refine lv_iload_n hx hb dX3_shopFor_56 rfl (lv_at hl 1 rfl) ?_
          refine b_top (x := (p_bs (fun s => p_from S s k) i).1) (y := (p_bs (fun s => p_from S s k) (i + 1)).1) (by rw [p_bs]; first | exact (if_neg (Int32.not_lt.mpr c_48)).symm | exact (if_pos (Int32.not_le.mp c_48)).symm) ?_
          refine lv_istore_n (lv' := [(2, .int ((p_bs (fun s => p_from S s k) (i + 1)).1)), (5, .int (p_from S i k)), (3, .int ((p_bs (fun s => p_from S s k) i).2)), (4, .int (nI i)), (0, .ref (o 0)), (1, .int (nI k))]) hx hb dX3_shopFor_57 rfl hl (Nat.le_of_ble_eq_true rfl) rfl (fun ls hl => ?_)
          refine lv_iload hx hb dX3_shopFor_58 (lv_at hl 1 rfl) ?_
          refine lv_iload_n hx hb dX3_shopFor_60 rfl (lv_at hl 2 rfl) ?_
          refine lv_icmp_le (tgt := 69) hx hb dX3_shopFor_61 (by decide) (fun c_61 => ?_) (fun c_61 => ?_)
          · refine lv_iload_n hx hb dX3_shopFor_69 rfl (lv_at hl 2 rfl) ?_
            refine b_top (x := (p_bs (fun s => p_from S s k) i).2) (y := (p_bs (fun s => p_from S s k) (i + 1)).2) (by rw [p_bs]; first | exact (if_neg (Int32.not_lt.mpr c_61)).symm | exact (if_pos (Int32.not_le.mp c_61)).symm) ?_
            refine lv_istore_n (lv' := [(3, .int ((p_bs (fun s => p_from S s k) (i + 1)).2)), (2, .int ((p_bs (fun s => p_from S s k) (i + 1)).1)), (5, .int (p_from S i k)), (4, .int (nI i)), (0, .ref (o 0)), (1, .int (nI k))]) hx hb dX3_shopFor_70 rfl hl (Nat.le_of_ble_eq_true rfl) rfl (fun ls hl => ?_)
            refine lv_iinc (v := nI (i + 1)) (lv' := [(4, .int (nI (i + 1))), (3, .int ((p_bs (fun s => p_from S s k) (i + 1)).2)), (2, .int ((p_bs (fun s => p_from S s k) (i + 1)).1)), (5, .int (p_from S i k)), (0, .ref (o 0)), (1, .int (nI k))]) hx hb dX3_shopFor_71 hl (k := 3) rfl (nI_1 _) (Nat.le_of_ble_eq_true rfl) rfl (fun ls hl => ?_)
            refine lv_goto (tgt := 7) hx hb dX3_shopFor_74 (by decide) ?_
            exact ih7 (i + 1) (by omega) (by omega) _ hS ls (lv_sub hl [2, 1, 0, 4, 5] rfl)
          · refine lv_iload hx hb dX3_shopFor_64 (lv_at hl 1 rfl) ?_
            refine lv_goto (tgt := 70) hx hb dX3_shopFor_66 (by decide) ?_
            refine b_top (x := p_from S i k) (y := (p_bs (fun s => p_from S s k) (i + 1)).2) (by rw [p_bs]; first | exact (if_neg (Int32.not_lt.mpr c_61)).symm | exact (if_pos (Int32.not_le.mp c_61)).symm) ?_
            refine lv_istore_n (lv' := [(3, .int ((p_bs (fun s => p_from S s k) (i + 1)).2)), (2, .int ((p_bs (fun s => p_from S s k) (i + 1)).1)), (5, .int (p_from S i k)), (4, .int (nI i)), (0, .ref (o 0)), (1, .int (nI k))]) hx hb dX3_shopFor_70 rfl hl (Nat.le_of_ble_eq_true rfl) rfl (fun ls hl => ?_)
            refine lv_iinc (v := nI (i + 1)) (lv' := [(4, .int (nI (i + 1))), (3, .int ((p_bs (fun s => p_from S s k) (i + 1)).2)), (2, .int ((p_bs (fun s => p_from S s k) (i + 1)).1)), (5, .int (p_from S i k)), (0, .ref (o 0)), (1, .int (nI k))]) hx hb dX3_shopFor_71 hl (k := 3) rfl (nI_1 _) (Nat.le_of_ble_eq_true rfl) rfl (fun ls hl => ?_)
            refine lv_goto (tgt := 7) hx hb dX3_shopFor_74 (by decide) ?_
            exact ih7 (i + 1) (by omega) (by omega) _ hS ls (lv_sub hl [2, 1, 0, 4, 5] rfl)
        · refine lv_iload hx hb dX3_shopFor_51 (lv_at hl 3 rfl) ?_
          refine lv_goto (tgt := 57) hx hb dX3_shopFor_53 (by decide) ?_
          refine b_top (x := nI i) (y := (p_bs (fun s => p_from S s k) (i + 1)).1) (by rw [p_bs]; first | exact (if_neg (Int32.not_lt.mpr c_48)).symm | exact (if_pos (Int32.not_le.mp c_48)).symm) ?_
          refine lv_istore_n (lv' := [(2, .int ((p_bs (fun s => p_from S s k) (i + 1)).1)), (5, .int (p_from S i k)), (3, .int ((p_bs (fun s => p_from S s k) i).2)), (4, .int (nI i)), (0, .ref (o 0)), (1, .int (nI k))]) hx hb dX3_shopFor_57 rfl hl (Nat.le_of_ble_eq_true rfl) rfl (fun ls hl => ?_)
          refine lv_iload hx hb dX3_shopFor_58 (lv_at hl 1 rfl) ?_
          refine lv_iload_n hx hb dX3_shopFor_60 rfl (lv_at hl 2 rfl) ?_
          refine lv_icmp_le (tgt := 69) hx hb dX3_shopFor_61 (by decide) (fun c_61 => ?_) (fun c_61 => ?_)
          · refine lv_iload_n hx hb dX3_shopFor_69 rfl (lv_at hl 2 rfl) ?_
            refine b_top (x := (p_bs (fun s => p_from S s k) i).2) (y := (p_bs (fun s => p_from S s k) (i + 1)).2) (by rw [p_bs]; first | exact (if_neg (Int32.not_lt.mpr c_61)).symm | exact (if_pos (Int32.not_le.mp c_61)).symm) ?_
            refine lv_istore_n (lv' := [(3, .int ((p_bs (fun s => p_from S s k) (i + 1)).2)), (2, .int ((p_bs (fun s => p_from S s k) (i + 1)).1)), (5, .int (p_from S i k)), (4, .int (nI i)), (0, .ref (o 0)), (1, .int (nI k))]) hx hb dX3_shopFor_70 rfl hl (Nat.le_of_ble_eq_true rfl) rfl (fun ls hl => ?_)
            refine lv_iinc (v := nI (i + 1)) (lv' := [(4, .int (nI (i + 1))), (3, .int ((p_bs (fun s => p_from S s k) (i + 1)).2)), (2, .int ((p_bs (fun s => p_from S s k) (i + 1)).1)), (5, .int (p_from S i k)), (0, .ref (o 0)), (1, .int (nI k))]) hx hb dX3_shopFor_71 hl (k := 3) rfl (nI_1 _) (Nat.le_of_ble_eq_true rfl) rfl (fun ls hl => ?_)
            refine lv_goto (tgt := 7) hx hb dX3_shopFor_74 (by decide) ?_
            exact ih7 (i + 1) (by omega) (by omega) _ hS ls (lv_sub hl [2, 1, 0, 4, 5] rfl)
          · refine lv_iload hx hb dX3_shopFor_64 (lv_at hl 1 rfl) ?_
            refine lv_goto (tgt := 70) hx hb dX3_shopFor_66 (by decide) ?_
            refine b_top (x := p_from S i k) (y := (p_bs (fun s => p_from S s k) (i + 1)).2) (by rw [p_bs]; first | exact (if_neg (Int32.not_lt.mpr c_61)).symm | exact (if_pos (Int32.not_le.mp c_61)).symm) ?_
            refine lv_istore_n (lv' := [(3, .int ((p_bs (fun s => p_from S s k) (i + 1)).2)), (2, .int ((p_bs (fun s => p_from S s k) (i + 1)).1)), (5, .int (p_from S i k)), (4, .int (nI i)), (0, .ref (o 0)), (1, .int (nI k))]) hx hb dX3_shopFor_70 rfl hl (Nat.le_of_ble_eq_true rfl) rfl (fun ls hl => ?_)
            refine lv_iinc (v := nI (i + 1)) (lv' := [(4, .int (nI (i + 1))), (3, .int ((p_bs (fun s => p_from S s k) (i + 1)).2)), (2, .int ((p_bs (fun s => p_from S s k) (i + 1)).1)), (5, .int (p_from S i k)), (0, .ref (o 0)), (1, .int (nI k))]) hx hb dX3_shopFor_71 hl (k := 3) rfl (nI_1 _) (Nat.le_of_ble_eq_true rfl) rfl (fun ls hl => ?_)
            refine lv_goto (tgt := 7) hx hb dX3_shopFor_74 (by decide) ?_
            exact ih7 (i + 1) (by omega) (by omega) _ hS ls (lv_sub hl [2, 1, 0, 4, 5] rfl)
  exact lp7_1 _ 0 (Nat.zero_le _) (Nat.lt_succ_self _) _ hS ls (lv_sub hl [2, 1, 0, 3, 4] rfl)
theorem cs_X3_60 {p : Program} {l : Launch} {e : Env} {R : Room} {s : State} {m : MethodId} {args : Array Value} {below : List Frame} {meth : Method} {c : Code} {H : Heap} {locs : List Loc} {cells slots : Nat} {cc : ByteArray} {pc nL a : Nat} {ls : Array Slot} {rest : List Value} {G : b_G} {B0 : Nat} (CX : b_Cx p s m args c cc nL RX3 G B0) (hls : ls.size = nL) {rm : Room} {mc ms : Nat} {As st0 : List Value} {Qc : Array Value → State → Outcome → State → Prop} (hM : Met l yX3_cratesInShops (ws_ yX3_cratesInShops cX3_cratesInShops 3 (Option.some Jvm.ClassFile.FieldType.int)) rm (b_Pc G B0 H (.ref a :: As)) Qc mc ms (b_A B0)) (hn : As.length = 0) {fs : List Value} {ci : Nat} {qc : vw_C} (hc : b_cl[ci]? = some qc) (hq : qc.1 = RX3) (hP : b_at G a (.inr (ci, fs)) H) (hS : va_S (b_A B0) s.heap H locs) (hst : st0 = As.reverse ++ .ref a :: rest) (hr : rm.cells = mc ∧ rm.slots = ms ∧ rm.frames + 1 ≤ R.frames ∧ 8 + (3 + 11) + rm.locals ≤ R.locals) (hw : (rest.map fun v => v.category).sum ≤ 8) (hdg : decode cc pc = .ok (.invokevirtual 60, 3)) (hf : cells + mc ≤ R.cells ∧ slots + ms ≤ R.slots) : va_Run p l e R s m args below meth c H locs cells slots mc ms (F0 m pc ls st0) rest (Qc (Value.ref a :: As).toArray) (b_A B0) := va_runV CX.fix hM (cwV 0 CX.ts (lw_V q1929 q1931 qs39 q88 q1932) rfl hr.1 hr.2.1 (by decide +kernel) ⟨hr.2.2.1, hr.2.2.2⟩) ⟨b_blind G B0 H _, by have h9 := b_recv CX.K hc hP; rw [hq] at h9; exact h9, b_pre _ CX.K hS⟩ rfl hn hls hst (lv_room hw) hdg hf
set_option maxHeartbeats 2000000 in
set_option maxRecDepth 100000 in
theorem m_X3_number (l : Launch) {G : b_G} {B0 : Nat} {o : Nat → Nat} {Hr H : Heap} {S : b_St} {sp sv tx : Nat → Int32} {n : Nat} {le th pl iw lt on ot nu di : Int32} {k : Nat} (hM : MW G B0 o Hr H (enc S) sp sv tx (nI n) le th pl iw lt on ot nu di) (hW : b_WF S) (hk : k < 11) : Met l yX3_number (ws_ yX3_number cX3_number 5 (Option.some Jvm.ClassFile.FieldType.int)) ({ frames := 3, cells := 0, slots := 0, locals := 65 } : Room) (b_Pc G B0 H [.ref (o 0), .int (nI k)]) (b_Qi B0 (fun r H1 => r = p_number S n k ∧ H1 = H)) 0 0 (b_A B0) := by
  refine b_of (by decide) (Nat.le_of_ble_eq_true rfl) ?_
  intro p e s m below meth c CX hr hlk hnm hS ls hl
  have CX : b_Cx p s m _ c cX3_number 5 RX3 G B0 := CX
  have hx := CX.hx
  have hb := CX.hb
  have hl : lv_has ls 5 [(0, .ref (o 0)), (1, .int (nI k))] := hl
  generalize hQ : MQ below (b_Qi B0 (fun r H1 => r = p_number S n k ∧ H1 = H)) ([.ref (o 0), .int (nI k)] : List Value).toArray s 0 0 (b_A B0) = Q
  have hn8 := hW.nb8
  have hn6 := hW.ns6
  refine lv_iconst (v := nI 0) hx hb dX3_number_0 rfl ?_
  refine lv_istore_n (lv' := [(2, .int (nI 0)), (0, .ref (o 0)), (1, .int (nI k))]) hx hb dX3_number_1 rfl hl (Nat.le_of_ble_eq_true rfl) rfl (fun ls hl => ?_)
  refine lv_iconst (v := nI 0) hx hb dX3_number_2 rfl ?_
  refine lv_istore_n (lv' := [(3, .int (nI 0)), (2, .int (nI 0)), (0, .ref (o 0)), (1, .int (nI k))]) hx hb dX3_number_3 rfl hl (Nat.le_of_ble_eq_true rfl) rfl (fun ls hl => ?_)
  refine lv_iconst (v := nI 0) hx hb dX3_number_4 rfl ?_
  refine lv_istore (lv' := [(4, .int (nI 0)), (3, .int (nI 0)), (2, .int (nI 0)), (0, .ref (o 0)), (1, .int (nI k))]) hx hb dX3_number_5 hl (Nat.le_of_ble_eq_true rfl) rfl (fun ls hl => ?_)
  have lp7_1 : ∀ (n_ : Nat) (i : Nat), i ≤ nb S → nb S - i < n_ → ∀ (locs : List Loc), va_S (b_A B0) s.heap H locs → ∀ ls : Array Slot, lv_has ls 5 [(2, .int (p_sum (fun b => S 1 b 3) i)), (3, .int (p_sum (fun b => S 1 b 4) i)), (4, .int (nI i)), (0, .ref (o 0)), (1, .int (nI k))] → W p l e ({ frames := 3, cells := 0, slots := 0, locals := 65 } : Room) s m ([.ref (o 0), .int (nI k)] : List Value).toArray below meth c H locs 0 0 Q (F0 m 7 ls []) := by
    intro n_
    induction n_ with
    | zero => intro i hi hlt locs hS ls hl; exact absurd hlt (Nat.not_lt_zero _)
    | succ n_ ih7 =>
      intro i hi hlt locs hS ls hl
      refine lv_iload hx hb dX3_number_7 (lv_at hl 2 rfl) ?_
      refine lv_aload_n hx hb dX3_number_9 rfl (lv_at hl 3 rfl) ?_
      refine gf_X3_7_8 CX hM.o0 rfl dX3_number_10 ?_
      refine lv_iconst (v := nI 0) hx hb dX3_number_13 rfl ?_
      refine b_ild CX hM.o1 (x := nI (nb S)) (vp_in_nI (by omega) (by omega)) (b_at_nI (by omega) (((enc_0 _ (by decide))).trans hW.nbE)) dX3_number_14 ?_
      refine b_icmp_geN (tgt := 44) CX (by omega) (by omega) dX3_number_15 (by decide) (fun c_15 => ?_) (fun c_15 => ?_)
      · obtain rfl : i = nb S := by omega
        refine lv_iload_n hx hb dX3_number_44 rfl (lv_at hl 4 rfl) ?_
        by_cases cs_45_0 : k ≤ 2
        · refine lv_tableIn (off := 55) (tgt := 100) hx hb dX3_number_45 (by rcases (by omega : k = 0 ∨ k = 1 ∨ k = 2) with h9 | h9 | h9 <;> (rw [h9]; decide)) (by rcases (by omega : k = 0 ∨ k = 1 ∨ k = 2) with h9 | h9 | h9 <;> (rw [h9]; decide)) (by rcases (by omega : k = 0 ∨ k = 1 ∨ k = 2) with h9 | h9 | h9 <;> (rw [h9]; rfl)) (by decide) ?_
          refine lv_aload_n hx hb dX3_number_100 rfl (lv_at hl 3 rfl) ?_
          refine gf_X3_7_8 CX hM.o0 rfl dX3_number_101 ?_
          refine lv_iload_n hx hb dX3_number_104 rfl (lv_at hl 4 rfl) ?_
          refine b_ild CX hM.o1 (x := S 0 0 k) (vp_in_nI (by omega) (by omega)) (b_at_nI (by omega) ((enc_0 _ (by omega)))) dX3_number_105 ?_
          rw [← hQ]
          exact b_iret CX hr hlk hS (Nat.le_of_ble_eq_true rfl) (Nat.le_of_ble_eq_true rfl) dX3_number_106 (⟨by unfold p_number; repeat (first | rw [if_pos (by omega)] | rw [if_neg (by omega)]), rfl⟩)
        by_cases cs_45_3 : k = 3
        · refine lv_tableIn (off := 62) (tgt := 107) hx hb dX3_number_45 (by rcases (by omega : k = 3) with h9 <;> (rw [h9]; decide)) (by rcases (by omega : k = 3) with h9 <;> (rw [h9]; decide)) (by rcases (by omega : k = 3) with h9 <;> (rw [h9]; rfl)) (by decide) ?_
          refine lv_aload_n hx hb dX3_number_107 rfl (lv_at hl 3 rfl) ?_
          refine b_ci0 (cs_X3_60 (rest := []) CX hl.1 (m_X3_cratesInShops l  hM hW) rfl rfl rfl hM.o0 hS rfl ⟨rfl, rfl, Nat.le_of_ble_eq_true rfl, Nat.le_of_ble_eq_true rfl⟩ (Nat.le_of_ble_eq_true rfl) dX3_number_108 ⟨Nat.le_of_ble_eq_true rfl, Nat.le_of_ble_eq_true rfl⟩) hS (fun locs hS => ?_)
          rw [← hQ]
          exact b_iret CX hr hlk hS (Nat.le_of_ble_eq_true rfl) (Nat.le_of_ble_eq_true rfl) dX3_number_111 (⟨by unfold p_number; repeat (first | rw [if_pos (by omega)] | rw [if_neg (by omega)]), rfl⟩)
        by_cases cs_45_4 : k ≤ 6
        · refine lv_tableIn (off := 67) (tgt := 112) hx hb dX3_number_45 (by rcases (by omega : k = 4 ∨ k = 5 ∨ k = 6) with h9 | h9 | h9 <;> (rw [h9]; decide)) (by rcases (by omega : k = 4 ∨ k = 5 ∨ k = 6) with h9 | h9 | h9 <;> (rw [h9]; decide)) (by rcases (by omega : k = 4 ∨ k = 5 ∨ k = 6) with h9 | h9 | h9 <;> (rw [h9]; rfl)) (by decide) ?_
          refine lv_aload_n hx hb dX3_number_112 rfl (lv_at hl 3 rfl) ?_
          refine gf_X3_7_8 CX hM.o0 rfl dX3_number_113 ?_
          refine lv_iload_n hx hb dX3_number_116 rfl (lv_at hl 4 rfl) ?_
          refine lv_iconst (v := nI 1) hx hb dX3_number_117 rfl ?_
          refine b_isubN CX (by omega) dX3_number_118 ?_
          refine b_ild CX hM.o1 (x := S 0 0 (k - 1)) (vp_in_nI (by omega) (by omega)) (b_at_nI (by omega) ((enc_0 _ (by omega)))) dX3_number_119 ?_
          rw [← hQ]
          exact b_iret CX hr hlk hS (Nat.le_of_ble_eq_true rfl) (Nat.le_of_ble_eq_true rfl) dX3_number_120 (⟨by unfold p_number; repeat (first | rw [if_pos (by omega)] | rw [if_neg (by omega)]), rfl⟩)
        by_cases cs_45_7 : k = 7
        · refine lv_tableIn (off := 76) (tgt := 121) hx hb dX3_number_45 (by rcases (by omega : k = 7) with h9 <;> (rw [h9]; decide)) (by rcases (by omega : k = 7) with h9 <;> (rw [h9]; decide)) (by rcases (by omega : k = 7) with h9 <;> (rw [h9]; rfl)) (by decide) ?_
          refine lv_iload_n hx hb dX3_number_121 rfl (lv_at hl 0 rfl) ?_
          rw [← hQ]
          exact b_iret CX hr hlk hS (Nat.le_of_ble_eq_true rfl) (Nat.le_of_ble_eq_true rfl) dX3_number_122 (⟨by unfold p_number; repeat (first | rw [if_pos (by omega)] | rw [if_neg (by omega)]), rfl⟩)
        by_cases cs_45_8 : k = 8
        · refine lv_tableIn (off := 78) (tgt := 123) hx hb dX3_number_45 (by rcases (by omega : k = 8) with h9 <;> (rw [h9]; decide)) (by rcases (by omega : k = 8) with h9 <;> (rw [h9]; decide)) (by rcases (by omega : k = 8) with h9 <;> (rw [h9]; rfl)) (by decide) ?_
          refine lv_iload_n hx hb dX3_number_123 rfl (lv_at hl 1 rfl) ?_
          rw [← hQ]
          exact b_iret CX hr hlk hS (Nat.le_of_ble_eq_true rfl) (Nat.le_of_ble_eq_true rfl) dX3_number_124 (⟨by unfold p_number; repeat (first | rw [if_pos (by omega)] | rw [if_neg (by omega)]), rfl⟩)
        by_cases cs_45_9 : k = 9
        · refine lv_tableIn (off := 80) (tgt := 125) hx hb dX3_number_45 (by rcases (by omega : k = 9) with h9 <;> (rw [h9]; decide)) (by rcases (by omega : k = 9) with h9 <;> (rw [h9]; decide)) (by rcases (by omega : k = 9) with h9 <;> (rw [h9]; rfl)) (by decide) ?_
          refine lv_aload_n hx hb dX3_number_125 rfl (lv_at hl 3 rfl) ?_
          refine gf_X3_7_8 CX hM.o0 rfl dX3_number_126 ?_
          refine lv_bipush (v := nI 6) hx hb dX3_number_129 rfl ?_
          refine b_ild CX hM.o1 (x := S 0 0 6) (vp_in_nI (by omega) (by omega)) (b_at_nI (by omega) ((enc_0 _ (by decide)))) dX3_number_131 ?_
          rw [← hQ]
          exact b_iret CX hr hlk hS (Nat.le_of_ble_eq_true rfl) (Nat.le_of_ble_eq_true rfl) dX3_number_132 (⟨by unfold p_number; repeat (first | rw [if_pos (by omega)] | rw [if_neg (by omega)]), rfl⟩)
        refine lv_tableOut (tgt := 133) hx hb dX3_number_45 (by first | decide | (rw [nI_toInt (by omega)]; omega)) (by decide) ?_
        refine lv_aload_n hx hb dX3_number_133 rfl (lv_at hl 3 rfl) ?_
        refine gf_X3_32_8 CX hM.o0 rfl dX3_number_134 ?_
        rw [← hQ]
        exact b_iret CX hr hlk hS (Nat.le_of_ble_eq_true rfl) (Nat.le_of_ble_eq_true rfl) dX3_number_137 (⟨by unfold p_number; repeat (first | rw [if_pos (by omega)] | rw [if_neg (by omega)]), rfl⟩)
      · refine lv_iload_n hx hb dX3_number_18 rfl (lv_at hl 0 rfl) ?_
        refine lv_aload_n hx hb dX3_number_19 rfl (lv_at hl 3 rfl) ?_
        refine lv_iload hx hb dX3_number_20 (lv_at hl 2 rfl) ?_
        refine lv_iconst (v := nI 3) hx hb dX3_number_22 rfl ?_
        refine b_ci0 (cs_X3_46 (rest := [.int (p_sum (fun b => S 1 b 3) i)]) CX hl.1 (m_X3_of l (b := i) (w := 3) hM (by omega) (by omega)) rfl rfl rfl hM.o0 hS rfl ⟨rfl, rfl, Nat.le_of_ble_eq_true rfl, Nat.le_of_ble_eq_true rfl⟩ (Nat.le_of_ble_eq_true rfl) dX3_number_23 ⟨Nat.le_of_ble_eq_true rfl, Nat.le_of_ble_eq_true rfl⟩) hS (fun locs hS => ?_)
        refine lv_iadd hx hb dX3_number_26 ?_
        refine lv_istore_n (lv' := [(2, .int ((p_sum (fun b => S 1 b 3) i) + (S 1 i 3))), (3, .int (p_sum (fun b => S 1 b 4) i)), (4, .int (nI i)), (0, .ref (o 0)), (1, .int (nI k))]) hx hb dX3_number_27 rfl hl (Nat.le_of_ble_eq_true rfl) rfl (fun ls hl => ?_)
        refine lv_iload_n hx hb dX3_number_28 rfl (lv_at hl 1 rfl) ?_
        refine lv_aload_n hx hb dX3_number_29 rfl (lv_at hl 3 rfl) ?_
        refine lv_iload hx hb dX3_number_30 (lv_at hl 2 rfl) ?_
        refine lv_iconst (v := nI 4) hx hb dX3_number_32 rfl ?_
        refine b_ci0 (cs_X3_46 (rest := [.int (p_sum (fun b => S 1 b 4) i)]) CX hl.1 (m_X3_of l (b := i) (w := 4) hM (by omega) (by omega)) rfl rfl rfl hM.o0 hS rfl ⟨rfl, rfl, Nat.le_of_ble_eq_true rfl, Nat.le_of_ble_eq_true rfl⟩ (Nat.le_of_ble_eq_true rfl) dX3_number_33 ⟨Nat.le_of_ble_eq_true rfl, Nat.le_of_ble_eq_true rfl⟩) hS (fun locs hS => ?_)
        refine lv_iadd hx hb dX3_number_36 ?_
        refine lv_istore_n (lv' := [(3, .int ((p_sum (fun b => S 1 b 4) i) + (S 1 i 4))), (2, .int ((p_sum (fun b => S 1 b 3) i) + (S 1 i 3))), (4, .int (nI i)), (0, .ref (o 0)), (1, .int (nI k))]) hx hb dX3_number_37 rfl hl (Nat.le_of_ble_eq_true rfl) rfl (fun ls hl => ?_)
        refine lv_iinc (v := nI (i + 1)) (lv' := [(4, .int (nI (i + 1))), (3, .int ((p_sum (fun b => S 1 b 4) i) + (S 1 i 4))), (2, .int ((p_sum (fun b => S 1 b 3) i) + (S 1 i 3))), (0, .ref (o 0)), (1, .int (nI k))]) hx hb dX3_number_38 hl (k := 2) rfl (nI_1 _) (Nat.le_of_ble_eq_true rfl) rfl (fun ls hl => ?_)
        refine lv_goto (tgt := 7) hx hb dX3_number_41 (by decide) ?_
        exact ih7 (i + 1) (by omega) (by omega) _ hS ls (lv_sub hl [2, 1, 0, 3, 4] rfl)
  exact lp7_1 _ 0 (Nat.zero_le _) (Nat.lt_succ_self _) _ hS ls (lv_sub hl [2, 1, 0, 3, 4] rfl)
theorem cs_X3_179 {p : Program} {l : Launch} {e : Env} {R : Room} {s : State} {m : MethodId} {args : Array Value} {below : List Frame} {meth : Method} {c : Code} {H : Heap} {locs : List Loc} {cells slots : Nat} {cc : ByteArray} {pc nL a : Nat} {ls : Array Slot} {rest : List Value} {G : b_G} {B0 : Nat} (CX : b_Cx p s m args c cc nL RX3 G B0) (hls : ls.size = nL) {rm : Room} {mc ms : Nat} {As st0 : List Value} {Qc : Array Value → State → Outcome → State → Prop} (hM : Met l yX3_aboutBrand (ws_ yX3_aboutBrand cX3_aboutBrand 3 (Option.some Jvm.ClassFile.FieldType.int)) rm (b_Pc G B0 H (.ref a :: As)) Qc mc ms (b_A B0)) (hn : As.length = 2) {fs : List Value} {ci : Nat} {qc : vw_C} (hc : b_cl[ci]? = some qc) (hq : qc.1 = RX3) (hP : b_at G a (.inr (ci, fs)) H) (hS : va_S (b_A B0) s.heap H locs) (hst : st0 = As.reverse ++ .ref a :: rest) (hr : rm.cells = mc ∧ rm.slots = ms ∧ rm.frames + 1 ≤ R.frames ∧ 8 + (3 + 11) + rm.locals ≤ R.locals) (hw : (rest.map fun v => v.category).sum ≤ 8) (hdg : decode cc pc = .ok (.invokevirtual 179, 3)) (hf : cells + mc ≤ R.cells ∧ slots + ms ≤ R.slots) : va_Run p l e R s m args below meth c H locs cells slots mc ms (F0 m pc ls st0) rest (Qc (Value.ref a :: As).toArray) (b_A B0) := va_runV CX.fix hM (cwV 2 CX.ts (lw_V q2116 q2118 qs69 q88 q2119) rfl hr.1 hr.2.1 (by decide +kernel) ⟨hr.2.2.1, hr.2.2.2⟩) ⟨b_blind G B0 H _, by have h9 := b_recv CX.K hc hP; rw [hq] at h9; exact h9, b_pre _ CX.K hS⟩ rfl hn hls hst (lv_room hw) hdg hf
set_option maxHeartbeats 2000000 in
set_option maxRecDepth 100000 in
theorem m_X3_gone (l : Launch) {G : b_G} {B0 : Nat} {o : Nat → Nat} {Hr H : Heap} {S : b_St} {sp sv tx : Nat → Int32} {sa le th pl iw lt on ot nu di : Int32} (hM : MW G B0 o Hr H (enc S) sp sv tx sa le th pl iw lt on ot nu di) (hW : b_WF S) (hnan : ¬ p_all S = 0 → vf_n64 (FP.ddiv (FP.i2d (p_gone S)) (FP.i2d (p_all S)))) : Met l yX3_gone (ws_ yX3_gone cX3_gone 5 (Option.some Jvm.ClassFile.FieldType.double)) ({ frames := 4, cells := 0, slots := 0, locals := 89 } : Room) (b_Pc G B0 H [.ref (o 0)]) (b_Qd B0 (fun r H1 => r = p_share S ∧ H1 = H)) 0 0 (b_A B0) := by
  refine b_of (by decide) (Nat.le_of_ble_eq_true rfl) ?_
  intro p e s m below meth c CX hr hlk hnm hS ls hl
  have CX : b_Cx p s m _ c cX3_gone 5 RX3 G B0 := CX
  have hx := CX.hx
  have hb := CX.hb
  have hl : lv_has ls 5 [(0, .ref (o 0))] := hl
  generalize hQ : MQ below (b_Qd B0 (fun r H1 => r = p_share S ∧ H1 = H)) ([.ref (o 0)] : List Value).toArray s 0 0 (b_A B0) = Q
  have hn8 := hW.nb8
  have hn6 := hW.ns6
  refine lv_iconst (v := nI 0) hx hb dX3_gone_0 rfl ?_
  refine lv_istore_n (lv' := [(1, .int (nI 0)), (0, .ref (o 0))]) hx hb dX3_gone_1 rfl hl (Nat.le_of_ble_eq_true rfl) rfl (fun ls hl => ?_)
  refine lv_iconst (v := nI 0) hx hb dX3_gone_2 rfl ?_
  refine lv_istore_n (lv' := [(2, .int (nI 0)), (1, .int (nI 0)), (0, .ref (o 0))]) hx hb dX3_gone_3 rfl hl (Nat.le_of_ble_eq_true rfl) rfl (fun ls hl => ?_)
  refine lv_iconst (v := nI 0) hx hb dX3_gone_4 rfl ?_
  refine lv_istore_n (lv' := [(3, .int (nI 0)), (2, .int (nI 0)), (1, .int (nI 0)), (0, .ref (o 0))]) hx hb dX3_gone_5 rfl hl (Nat.le_of_ble_eq_true rfl) rfl (fun ls hl => ?_)
  have lp6_1 : ∀ (n_ : Nat) (i : Nat), i ≤ nb S → nb S - i < n_ → ∀ (locs : List Loc), va_S (b_A B0) s.heap H locs → ∀ ls : Array Slot, lv_has ls 5 [(1, .int (p_acc2 (fun b k => p_about S b (k + 1)) 9 i)), (2, .int (p_acc2 (f_gone S) 9 i)), (3, .int (nI i)), (0, .ref (o 0))] → W p l e ({ frames := 4, cells := 0, slots := 0, locals := 89 } : Room) s m ([.ref (o 0)] : List Value).toArray below meth c H locs 0 0 Q (F0 m 6 ls []) := by
    intro n_
    induction n_ with
    | zero => intro i hi hlt locs hS ls hl; exact absurd hlt (Nat.not_lt_zero _)
    | succ n_ ih6 =>
      intro i hi hlt locs hS ls hl
      refine lv_iload_n hx hb dX3_gone_6 rfl (lv_at hl 2 rfl) ?_
      refine lv_aload_n hx hb dX3_gone_7 rfl (lv_at hl 3 rfl) ?_
      refine gf_X3_7_8 CX hM.o0 rfl dX3_gone_8 ?_
      refine lv_iconst (v := nI 0) hx hb dX3_gone_11 rfl ?_
      refine b_ild CX hM.o1 (x := nI (nb S)) (vp_in_nI (by omega) (by omega)) (b_at_nI (by omega) (((enc_0 _ (by decide))).trans hW.nbE)) dX3_gone_12 ?_
      refine b_icmp_geN (tgt := 69) CX (by omega) (by omega) dX3_gone_13 (by decide) (fun c_13 => ?_) (fun c_13 => ?_)
      · obtain rfl : i = nb S := by omega
        refine lv_iload_n hx hb dX3_gone_69 rfl (lv_at hl 0 rfl) ?_
        refine lv_if_ne (tgt := 77) hx hb dX3_gone_70 (by decide) (fun c_70 => ?_) (fun c_70 => ?_)
        · refine lv_iload_n hx hb dX3_gone_77 rfl (lv_at hl 1 rfl) ?_
          refine lv_i2d hx hb dX3_gone_78 ?_
          refine lv_iload_n hx hb dX3_gone_79 rfl (lv_at hl 0 rfl) ?_
          refine lv_i2d hx hb dX3_gone_80 ?_
          refine lv_ddiv hx hb dX3_gone_81 (hnan c_70) ?_
          rw [← hQ]
          exact b_dret CX hr hlk hS (Nat.le_of_ble_eq_true rfl) (Nat.le_of_ble_eq_true rfl) dX3_gone_82 (⟨by first | exact (if_pos c_70).symm | exact (if_neg c_70).symm, rfl⟩)
        · refine lv_dconst0 hx hb dX3_gone_73 ?_
          refine lv_goto (tgt := 82) hx hb dX3_gone_74 (by decide) ?_
          rw [← hQ]
          exact b_dret CX hr hlk hS (Nat.le_of_ble_eq_true rfl) (Nat.le_of_ble_eq_true rfl) dX3_gone_82 (⟨by first | exact (if_pos c_70).symm | exact (if_neg c_70).symm, rfl⟩)
      · refine lv_iconst (v := nI 1) hx hb dX3_gone_16 rfl ?_
        refine lv_istore (lv' := [(4, .int (nI 1)), (1, .int (p_acc2 (fun b k => p_about S b (k + 1)) 9 i)), (2, .int (p_acc2 (f_gone S) 9 i)), (3, .int (nI i)), (0, .ref (o 0))]) hx hb dX3_gone_17 hl (Nat.le_of_ble_eq_true rfl) rfl (fun ls hl => ?_)
        have lp19_2 : ∀ (n_ : Nat) (j : Nat), j ≤ 9 → 9 - j < n_ → ∀ (locs : List Loc), va_S (b_A B0) s.heap H locs → ∀ ls : Array Slot, lv_has ls 5 [(1, .int (p_acc (p_acc2 (fun b k => p_about S b (k + 1)) 9 i) (fun k => p_about S i (k + 1)) j)), (2, .int (p_acc (p_acc2 (f_gone S) 9 i) (f_gone S i) j)), (3, .int (nI i)), (4, .int (nI (j + 1))), (0, .ref (o 0))] → W p l e ({ frames := 4, cells := 0, slots := 0, locals := 89 } : Room) s m ([.ref (o 0)] : List Value).toArray below meth c H locs 0 0 Q (F0 m 19 ls []) := by
          intro n_
          induction n_ with
          | zero => intro j hj hlt locs hS ls hl; exact absurd hlt (Nat.not_lt_zero _)
          | succ n_ ih19 =>
            intro j hj hlt locs hS ls hl
            refine lv_iload hx hb dX3_gone_19 (lv_at hl 3 rfl) ?_
            refine lv_bipush (v := nI 10) hx hb dX3_gone_21 rfl ?_
            refine b_icmp_geN (tgt := 63) CX (by omega) (by omega) dX3_gone_23 (by decide) (fun c_23 => ?_) (fun c_23 => ?_)
            · obtain rfl : j = 9 := by omega
              refine lv_iinc (v := nI (i + 1)) (lv' := [(3, .int (nI (i + 1))), (1, .int (p_acc (p_acc2 (fun b k => p_about S b (k + 1)) 9 i) (fun k => p_about S i (k + 1)) 9)), (2, .int (p_acc (p_acc2 (f_gone S) 9 i) (f_gone S i) 9)), (4, .int (nI (9 + 1))), (0, .ref (o 0))]) hx hb dX3_gone_63 hl (k := 2) rfl (nI_1 _) (Nat.le_of_ble_eq_true rfl) rfl (fun ls hl => ?_)
              refine lv_goto (tgt := 6) hx hb dX3_gone_66 (by decide) ?_
              exact ih6 (i + 1) (by omega) (by omega) _ hS ls (lv_sub hl [1, 2, 0, 4] rfl)
            · refine lv_iload_n hx hb dX3_gone_26 rfl (lv_at hl 0 rfl) ?_
              refine lv_aload_n hx hb dX3_gone_27 rfl (lv_at hl 4 rfl) ?_
              refine lv_iload_n hx hb dX3_gone_28 rfl (lv_at hl 2 rfl) ?_
              refine lv_iload hx hb dX3_gone_29 (lv_at hl 3 rfl) ?_
              refine b_ci0 (cs_X3_179 (rest := [.int (p_acc (p_acc2 (fun b k => p_about S b (k + 1)) 9 i) (fun k => p_about S i (k + 1)) j)]) CX hl.1 (m_X3_aboutBrand l (b := i) (k := j + 1) hM hW (by omega) (by omega)) rfl rfl rfl hM.o0 hS rfl ⟨rfl, rfl, Nat.le_of_ble_eq_true rfl, Nat.le_of_ble_eq_true rfl⟩ (Nat.le_of_ble_eq_true rfl) dX3_gone_31 ⟨Nat.le_of_ble_eq_true rfl, Nat.le_of_ble_eq_true rfl⟩) hS (fun locs hS => ?_)
              refine lv_iadd hx hb dX3_gone_34 ?_
              refine lv_istore_n (lv' := [(1, .int ((p_acc (p_acc2 (fun b k => p_about S b (k + 1)) 9 i) (fun k => p_about S i (k + 1)) j) + (p_about S i (j + 1)))), (2, .int (p_acc (p_acc2 (f_gone S) 9 i) (f_gone S i) j)), (3, .int (nI i)), (4, .int (nI (j + 1))), (0, .ref (o 0))]) hx hb dX3_gone_35 rfl hl (Nat.le_of_ble_eq_true rfl) rfl (fun ls hl => ?_)
              refine lv_iload_n hx hb dX3_gone_36 rfl (lv_at hl 1 rfl) ?_
              refine lv_iload hx hb dX3_gone_37 (lv_at hl 3 rfl) ?_
              refine lv_bipush (v := nI 6) hx hb dX3_gone_39 rfl ?_
              refine b_icmp_leN (tgt := 54) CX (by omega) (by omega) dX3_gone_41 (by decide) (fun c_41 => ?_) (fun c_41 => ?_)
              · refine lv_iconst (v := nI 0) hx hb dX3_gone_54 rfl ?_
                refine b_top (x := nI 0) (y := f_gone S i j) (by unfold f_gone; first | (rw [if_pos (by omega)]) | (rw [if_neg (by omega)])) ?_
                refine lv_iadd hx hb dX3_gone_55 ?_
                refine lv_istore_n (lv' := [(2, .int ((p_acc (p_acc2 (f_gone S) 9 i) (f_gone S i) j) + (f_gone S i j))), (1, .int ((p_acc (p_acc2 (fun b k => p_about S b (k + 1)) 9 i) (fun k => p_about S i (k + 1)) j) + (p_about S i (j + 1)))), (3, .int (nI i)), (4, .int (nI (j + 1))), (0, .ref (o 0))]) hx hb dX3_gone_56 rfl hl (Nat.le_of_ble_eq_true rfl) rfl (fun ls hl => ?_)
                refine lv_iinc (v := nI (j + 1 + 1)) (lv' := [(4, .int (nI (j + 1 + 1))), (2, .int ((p_acc (p_acc2 (f_gone S) 9 i) (f_gone S i) j) + (f_gone S i j))), (1, .int ((p_acc (p_acc2 (fun b k => p_about S b (k + 1)) 9 i) (fun k => p_about S i (k + 1)) j) + (p_about S i (j + 1)))), (3, .int (nI i)), (0, .ref (o 0))]) hx hb dX3_gone_57 hl (k := 3) rfl (nI_1 _) (Nat.le_of_ble_eq_true rfl) rfl (fun ls hl => ?_)
                refine lv_goto (tgt := 19) hx hb dX3_gone_60 (by decide) ?_
                exact ih19 (j + 1) (by omega) (by omega) _ hS ls (lv_sub hl [2, 1, 3, 0, 4] rfl)
              · refine lv_aload_n hx hb dX3_gone_44 rfl (lv_at hl 4 rfl) ?_
                refine lv_iload_n hx hb dX3_gone_45 rfl (lv_at hl 2 rfl) ?_
                refine lv_iload hx hb dX3_gone_46 (lv_at hl 3 rfl) ?_
                refine b_ci0 (cs_X3_179 (rest := [.int (p_acc (p_acc2 (f_gone S) 9 i) (f_gone S i) j)]) CX hl.1 (m_X3_aboutBrand l (b := i) (k := j + 1) hM hW (by omega) (by omega)) rfl rfl rfl hM.o0 hS rfl ⟨rfl, rfl, Nat.le_of_ble_eq_true rfl, Nat.le_of_ble_eq_true rfl⟩ (Nat.le_of_ble_eq_true rfl) dX3_gone_48 ⟨Nat.le_of_ble_eq_true rfl, Nat.le_of_ble_eq_true rfl⟩) hS (fun locs hS => ?_)
                refine lv_goto (tgt := 55) hx hb dX3_gone_51 (by decide) ?_
                refine b_top (x := p_about S i (j + 1)) (y := f_gone S i j) (by unfold f_gone; first | (rw [if_pos (by omega)]) | (rw [if_neg (by omega)])) ?_
                refine lv_iadd hx hb dX3_gone_55 ?_
                refine lv_istore_n (lv' := [(2, .int ((p_acc (p_acc2 (f_gone S) 9 i) (f_gone S i) j) + (f_gone S i j))), (1, .int ((p_acc (p_acc2 (fun b k => p_about S b (k + 1)) 9 i) (fun k => p_about S i (k + 1)) j) + (p_about S i (j + 1)))), (3, .int (nI i)), (4, .int (nI (j + 1))), (0, .ref (o 0))]) hx hb dX3_gone_56 rfl hl (Nat.le_of_ble_eq_true rfl) rfl (fun ls hl => ?_)
                refine lv_iinc (v := nI (j + 1 + 1)) (lv' := [(4, .int (nI (j + 1 + 1))), (2, .int ((p_acc (p_acc2 (f_gone S) 9 i) (f_gone S i) j) + (f_gone S i j))), (1, .int ((p_acc (p_acc2 (fun b k => p_about S b (k + 1)) 9 i) (fun k => p_about S i (k + 1)) j) + (p_about S i (j + 1)))), (3, .int (nI i)), (0, .ref (o 0))]) hx hb dX3_gone_57 hl (k := 3) rfl (nI_1 _) (Nat.le_of_ble_eq_true rfl) rfl (fun ls hl => ?_)
                refine lv_goto (tgt := 19) hx hb dX3_gone_60 (by decide) ?_
                exact ih19 (j + 1) (by omega) (by omega) _ hS ls (lv_sub hl [2, 1, 3, 0, 4] rfl)
        exact lp19_2 _ 0 (Nat.zero_le _) (Nat.lt_succ_self _) _ hS ls (lv_sub hl [1, 2, 3, 0, 4] rfl)
  exact lp6_1 _ 0 (Nat.zero_le _) (Nat.lt_succ_self _) _ hS ls (lv_sub hl [2, 1, 0, 3] rfl)
