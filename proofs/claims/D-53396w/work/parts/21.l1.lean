/-! the loop, 1 -/
set_option maxRecDepth 100000
theorem LR.k3 {G : b_G} {B0 : Nat} {τ : b_T} {id : Nat} {F : Nat → Nat} {M : Nat → Int32} {E : Nat → Bool} {H : Heap} {S : b_St} {Z : Nat → Nat → Int32} {i j : Nat} {x : Int32} (h : LR G B0 τ id F M E H S Z) : LR G B0 τ id F M E H (u3 S 3 i j x) Z := by
  have e0 : ∀ k a b, ¬ k = 3 → u3 S 3 i j x k a b = S k a b := fun k a b hk => u3_n S x (fun q => hk q.1)
  have en : nb (u3 S 3 i j x) = nb S := nb_u (by omega)
  have es : ns (u3 S 3 i j x) = ns S := ns_u (by omega)
  have ec : ∀ q, l_cnt G F (u3 S 3 i j x) Z M E q = l_cnt G F S Z M E q := by
    intro q
    unfold l_cnt
    rw [en, es]
    simp only [e0 0 _ _ (by decide), e0 1 _ _ (by decide), e0 2 _ _ (by decide), e0 4 _ _ (by decide), e0 5 _ _ (by decide)]
  unfold LR
  rw [en, es]
  exact ⟨fun q hq => (ec q) ▸ h.1 q hq, h.2⟩
def s_swZ (Z : Nat → Nat → Int32) (x y : Nat) (c : Int32) : Nat → Nat → Int32 := fun a b => if a = x ∧ b = y then Z x y + c else if a = y ∧ b = x then Z y x - c else Z a b
theorem s_swZ_e {Z : Nat → Nat → Int32} {x y : Nat} (h : ¬ x = y) (c : Int32) : upZ (upZ Z x y (Z x y + c)) y x (upZ Z x y (Z x y + c) y x - c) = s_swZ Z x y c := by
  funext a b
  have e : upZ Z x y (Z x y + c) y x = Z y x := if_neg (fun q => h q.1.symm)
  rw [e]
  unfold upZ s_swZ
  by_cases c1 : a = x ∧ b = y
  · rw [if_pos c1, if_neg (fun q => h (c1.1.symm.trans q.1)), if_pos c1]
  · rw [if_neg c1, if_neg c1]
theorem s_coll_a (S : b_St) (s b m : Nat) (t : Nat → Nat) : u3 (u3 (s_coll S s t) 5 s b (s_coll S s t 5 s b - nI m)) 1 b 4 (s_coll S s t 1 b 4 + nI m) = s_coll S s (fun j => if j = b then t b + m else t j) := by
  have e5 : s_coll S s t 5 s b = S 5 s b - nI (t b) := by simp [s_coll]
  have e1 : s_coll S s t 1 b 4 = S 1 b 4 + nI (t b) := by simp [s_coll]
  have f5 : S 5 s b - nI (t b) - nI m = S 5 s b - nI (t b + m) := by rw [← nI_add]; grind
  have f1 : S 1 b 4 + nI (t b) + nI m = S 1 b 4 + nI (t b + m) := by rw [← nI_add, Int32.add_assoc]
  rw [e5, e1, f5, f1]
  funext k i j
  unfold u3 s_coll
  by_cases h1 : k = 1 ∧ j = 4 ∧ i = b
  · obtain ⟨rfl, rfl, rfl⟩ := h1
    simp
  · rw [if_neg h1]
    by_cases h2 : k = 5 ∧ j = b ∧ i = s
    · obtain ⟨rfl, rfl, rfl⟩ := h2
      simp
    · rw [if_neg h2]
      by_cases h3 : k = 5 ∧ i = s
      · rw [if_pos h3, if_pos h3]
        show _ = S 5 s j - nI (if j = b then t b + m else t j)
        rw [if_neg (fun q => h2 ⟨h3.1, q, h3.2⟩)]
      · rw [if_neg h3, if_neg h3]
        by_cases h4 : k = 1 ∧ j = 4
        · rw [if_pos h4, if_pos h4]
          show _ = S 1 i 4 + nI (if i = b then t b + m else t i)
          rw [if_neg (fun q => h1 ⟨h4.1, h4.2, q⟩)]
        · rw [if_neg h4, if_neg h4]
def p_tki (t : Nat → Nat) (i : Nat) : Nat → Nat := fun j => if j < i then t j else 0
theorem p_tki_0 (t : Nat → Nat) : p_tki t 0 = fun _ => 0 := by funext j; exact if_neg (Nat.not_lt_zero _)
theorem p_tki_s (t : Nat → Nat) (i : Nat) : (fun j => if j = i then p_tki t i i + t i else p_tki t i j) = p_tki t (i + 1) := by
  funext j
  unfold p_tki
  rw [if_neg (Nat.lt_irrefl i)]
  by_cases c : j = i
  · subst c; rw [if_pos rfl, if_pos (by omega)]; omega
  · rw [if_neg c]
    by_cases d : j < i
    · rw [if_pos d, if_pos (by omega)]
    · rw [if_neg d, if_neg (by omega)]
theorem p_tk_out {S : b_St} {s k j : Nat} (hj : nb S ≤ j) : ∀ n, p_tk S s k n j = 0
  | 0 => rfl
  | n + 1 => by
    have ih := p_tk_out (s := s) (k := k) hj n
    cases h : p_bst (kd S) k (fun b => S 5 s b - nI (p_tk S s k n b)) (nb S) with
    | none =>
      rw [p_tk]
      simp only [h]
      exact ih
    | some b =>
      rw [p_tk_s h]
      have := p_bst_lt h
      show (if j = b then _ else _) = 0
      rw [if_neg (by omega)]
      exact ih
theorem p_tki_e (S : b_St) (s k n : Nat) : p_tki (p_tk S s k n) (nb S) = p_tk S s k n := by
  funext j
  unfold p_tki
  by_cases c : j < nb S
  · rw [if_pos c]
  · rw [if_neg c, p_tk_out (by omega)]
theorem oI_m1 {x : Option Nat} {n : Nat} (hx : ∀ a, x = some a → a < n) (hn : n < 2147483648) (h : oI x = -1) : x = none := oI_none hx hn (by rw [h]; decide)
theorem oI_m1n {x : Option Nat} (h : ¬ oI x = -1) : ∃ a, x = some a := by
  cases x with
  | none => exact absurd rfl h
  | some a => exact ⟨a, rfl⟩
theorem tk_upd {S : b_St} {s k n b : Nat} (h : p_bst (kd S) k (fun b => S 5 s b - nI (p_tk S s k n b)) (nb S) = some b) : upd (fun j => nI (p_tk S s k n j)) b (nI (p_tk S s k n b + 1)) = fun j => nI (p_tk S s k (n + 1) j) := by
  rw [p_tk_s h]
  funext j
  unfold upd
  by_cases c : j = b
  · subst c; simp
  · simp [c]
theorem tk_zero (f : Nat → Int32) (i : Nat) : upd (fun j => if j < i then nI 0 else f j) i (nI 0) = fun j => if j < i + 1 then nI 0 else f j := by
  funext j
  unfold upd
  by_cases c : j = i
  · subst c; simp
  · rw [if_neg c]
    by_cases d : j < i
    · simp [d, Nat.lt_succ_of_lt d]
    · have : ¬ j < i + 1 := by omega
      simp [d, this]
theorem b_tt.ci {G : b_G} {B0 : Nat} {τ : b_T} {H : Heap} {a t n : Nat} {f g : Nat → Int32} (h : b_tt G B0 τ H a t (.inl (G.2.1 0, n, .inl f))) (he : ∀ j, j < n → f j = g j) : b_tt G B0 τ H a t (.inl (G.2.1 0, n, .inl g)) := ⟨b_cg h.1 he, h.2⟩
theorem ns_mv (S : b_St) (d : Nat → Int32) : ns (s_mv S d) = ns S := by simp [s_mv, ns]
section LRG
variable {G : b_G} {B0 : Nat} {τ τ1 : b_T} {id : Nat} {F : Nat → Nat} {M : Nat → Int32} {E : Nat → Bool} {H H1 : Heap} {S S1 : b_St} {Z Z1 : Nat → Nat → Int32} {T : Nat → Prop}
theorem LR.alg1 (h : LR G B0 τ id F M E H S Z) (hW : b_WF S) (hn : 0 < nb S) : b_tt G B0 τ H (F 1) (1000 * id + 1) (.inr (2, [.int (M 1), .ref (F 2), .int (nI (nb S))])) := by
  have e := h.al1
  rw [if_pos (h.2.1.resolve_right (by omega)), hW.nbE] at e
  exact e
theorem LR.alg3 (h : LR G B0 τ id F M E H S Z) (hW : b_WF S) (hn : 0 < ns S) : b_tt G B0 τ H (F 3) (1000 * id + 3) (.inr (2, [.int (M 3), .ref (F 4), .int (nI (ns S))])) := by
  have e := h.al3
  rw [if_pos (h.2.2.1.resolve_right (by omega)), hW.nsE] at e
  exact e
theorem LR.arg2 (h : LR G B0 τ id F M E H S Z) (hn : 0 < nb S) : b_tt G B0 τ H (F 2) (1000 * id + 2) (.inl (G.2.1 2, q_refs 10 (fun j => if j < nb S then some (F (20 + j)) else none))) := h.ar2 (h.2.1.resolve_right (by omega))
theorem LR.arg4 (h : LR G B0 τ id F M E H S Z) (hn : 0 < ns S) : b_tt G B0 τ H (F 4) (1000 * id + 4) (.inl (G.2.1 2, q_refs 10 (fun j => if j < ns S then some (F (30 + j)) else none))) := h.ar4 (h.2.2.1.resolve_right (by omega))
end LRG

theorem gf_X2_21_1 {p : Program} {l : Launch} {e : Env} {R : Room} {s : State} {m : MethodId} {args : Array Value} {below : List Frame} {meth : Method} {c : Code} {H : Heap} {locs : List Loc} {cells slots : Nat} {Q : State → Prop} {cc : ByteArray} {pc nL a : Nat} {ls : Array Slot} {rest : List Value} {G : b_G} {B0 : Nat} (CX : b_Cx p s m args c cc nL RX2 G B0) {fs : List Value} (hP : b_at G a (.inr (1, fs)) H) {v : Value} (hv : fs[2]? = some v) (hdg : decode cc pc = .ok (.getfield 21, 3)) (kk : W p l e R s m args below meth c H locs cells slots Q (F0 m (pc + 3) ls (v :: rest))) : W p l e R s m args below meth c H locs cells slots Q (F0 m pc ls (.ref a :: rest)) := b_get CX in_X2 rfl 2 (by decide) q180 (Or.inl rfl) hP hv hdg kk
theorem gf_X2_76_4 {p : Program} {l : Launch} {e : Env} {R : Room} {s : State} {m : MethodId} {args : Array Value} {below : List Frame} {meth : Method} {c : Code} {H : Heap} {locs : List Loc} {cells slots : Nat} {Q : State → Prop} {cc : ByteArray} {pc nL a : Nat} {ls : Array Slot} {rest : List Value} {G : b_G} {B0 : Nat} (CX : b_Cx p s m args c cc nL RX2 G B0) {fs : List Value} (hP : b_at G a (.inr (4, fs)) H) {v : Value} (hv : fs[0]? = some v) (hdg : decode cc pc = .ok (.getfield 76, 3)) (kk : W p l e R s m args below meth c H locs cells slots Q (F0 m (pc + 3) ls (v :: rest))) : W p l e R s m args below meth c H locs cells slots Q (F0 m pc ls (.ref a :: rest)) := b_getN CX in_X4 rfl 0 (by decide) q992 (Or.inl rfl) hP hv hdg kk
set_option maxHeartbeats 2000000 in
set_option maxRecDepth 100000 in
theorem m_X2_deposit (l : Launch) {G : b_G} {B0 : Nat} {H : Heap} {τ : b_T} {id : Nat} {F : Nat → Nat} {M : Nat → Int32} {E : Nat → Bool} {S : b_St} {Z : Nat → Nat → Int32} {b : Nat} (hL : LR G B0 τ id F M E H S Z) (hW : b_WF S) (hb : b < nb S) : Met l yX2_deposit (ws_ yX2_deposit cX2_deposit 2 (Option.some Jvm.ClassFile.FieldType.int)) ({ frames := 0, cells := 0, slots := 0, locals := 0 } : Room) (b_Pc G B0 H [.ref ((F 0)), .ref ((F (20 + b)))]) (b_Qi B0 (fun r H1 => r = p_dep S b ∧ H1 = H)) 0 0 (b_A B0) := by
  refine b_of (by decide) (Nat.le_of_ble_eq_true rfl) ?_
  intro p e s m below meth c CX hr hlk hnm hS ls hl
  have CX : b_Cx p s m _ c cX2_deposit 2 RX2 G B0 := CX
  have hx := CX.hx
  have hb := CX.hb
  have hl : lv_has ls 2 [(0, .ref ((F 0))), (1, .ref ((F (20 + b))))] := hl
  generalize hQ : MQ below (b_Qi B0 (fun r H1 => r = p_dep S b ∧ H1 = H)) ([.ref ((F 0)), .ref ((F (20 + b)))] : List Value).toArray s 0 0 (b_A B0) = Q
  have hnb : nb S = nb S := rfl
  have hns : ns S = ns S := rfl
  have hn8 := hL.2.2.2.1
  have hn6 := hL.2.2.2.2
  have hkd := hW.kd3 (b := b) (by omega)
  refine lv_aload_n hx hb dX2_deposit_0 rfl (lv_at hl 0 rfl) ?_
  refine gf_X2_21_1 CX hL.loop.at rfl dX2_deposit_1 ?_
  refine lv_aload_n hx hb dX2_deposit_4 rfl (lv_at hl 1 rfl) ?_
  refine gf_X2_76_4 CX (hL.brand (k := b) (by omega)).at (v := .int (nI (kd S b))) (congrArg (fun q => some (Value.int q)) (hW.kdE (by omega))) dX2_deposit_5 ?_
  refine b_ild CX hL.sett.at (x := S 0 0 (7 + (kd S b))) (vp_in_nI (by omega) (by omega)) (b_at_nI (f := (fun j => S 0 0 (7 + j))) (n := kd S b) (by omega) rfl) dX2_deposit_8 ?_
  rw [← hQ]
  exact b_iret CX hr hlk hS (Nat.le_of_ble_eq_true rfl) (Nat.le_of_ble_eq_true rfl) dX2_deposit_9 (⟨rfl, rfl⟩)
theorem gf_X2_79_4 {p : Program} {l : Launch} {e : Env} {R : Room} {s : State} {m : MethodId} {args : Array Value} {below : List Frame} {meth : Method} {c : Code} {H : Heap} {locs : List Loc} {cells slots : Nat} {Q : State → Prop} {cc : ByteArray} {pc nL a : Nat} {ls : Array Slot} {rest : List Value} {G : b_G} {B0 : Nat} (CX : b_Cx p s m args c cc nL RX2 G B0) {fs : List Value} (hP : b_at G a (.inr (4, fs)) H) {v : Value} (hv : fs[8]? = some v) (hdg : decode cc pc = .ok (.getfield 79, 3)) (kk : W p l e R s m args below meth c H locs cells slots Q (F0 m (pc + 3) ls (v :: rest))) : W p l e R s m args below meth c H locs cells slots Q (F0 m pc ls (.ref a :: rest)) := b_getN CX in_X4 rfl 8 (by decide) q1016 (Or.inl rfl) hP hv hdg kk
set_option maxHeartbeats 2000000 in
set_option maxRecDepth 100000 in
theorem m_X2_wornBy (l : Launch) {G : b_G} {B0 : Nat} {H : Heap} {τ : b_T} {id : Nat} {F : Nat → Nat} {M : Nat → Int32} {E : Nat → Bool} {S : b_St} {Z : Nat → Nat → Int32} {b : Nat} {n_ : Int32} (hL : LR G B0 τ id F M E H S Z) (hW : b_WF S) (hb : b < nb S) : Met l yX2_wornBy (ws_ yX2_wornBy cX2_wornBy 3 (Option.some Jvm.ClassFile.FieldType.int)) ({ frames := 0, cells := 0, slots := 0, locals := 0 } : Room) (b_Pc G B0 H [.ref ((F 0)), .ref ((F (20 + b))), .int n_]) (b_Qi B0 (fun r H1 => r = (S 1 b 8 + n_) / S 0 0 12 - S 1 b 8 / S 0 0 12 ∧ H1 = H)) 0 0 (b_A B0) := by
  refine b_of (by decide) (Nat.le_of_ble_eq_true rfl) ?_
  intro p e s m below meth c CX hr hlk hnm hS ls hl
  have CX : b_Cx p s m _ c cX2_wornBy 3 RX2 G B0 := CX
  have hx := CX.hx
  have hb := CX.hb
  have hl : lv_has ls 3 [(0, .ref ((F 0))), (1, .ref ((F (20 + b)))), (2, .int n_)] := hl
  generalize hQ : MQ below (b_Qi B0 (fun r H1 => r = (S 1 b 8 + n_) / S 0 0 12 - S 1 b 8 / S 0 0 12 ∧ H1 = H)) ([.ref ((F 0)), .ref ((F (20 + b))), .int n_] : List Value).toArray s 0 0 (b_A B0) = Q
  have hnb : nb S = nb S := rfl
  have hns : ns S = ns S := rfl
  have hn8 := hL.2.2.2.1
  have hn6 := hL.2.2.2.2
  refine lv_aload_n hx hb dX2_wornBy_0 rfl (lv_at hl 1 rfl) ?_
  refine gf_X2_79_4 CX (hL.brand (k := b) (by omega)).at rfl dX2_wornBy_1 ?_
  refine lv_iload_n hx hb dX2_wornBy_4 rfl (lv_at hl 2 rfl) ?_
  refine lv_iadd hx hb dX2_wornBy_5 ?_
  refine lv_aload_n hx hb dX2_wornBy_6 rfl (lv_at hl 0 rfl) ?_
  refine gf_X2_21_1 CX hL.loop.at rfl dX2_wornBy_7 ?_
  refine lv_iconst (v := nI 5) hx hb dX2_wornBy_10 rfl ?_
  refine b_ild CX hL.sett.at (x := S 0 0 12) (vp_in_nI (by omega) (by omega)) (b_at_nI (f := (fun j => S 0 0 (7 + j))) (n := 5) (by omega) rfl) dX2_wornBy_11 ?_
  refine lv_idiv hx hb dX2_wornBy_12 (hW.wear) ?_
  refine lv_aload_n hx hb dX2_wornBy_13 rfl (lv_at hl 1 rfl) ?_
  refine gf_X2_79_4 CX (hL.brand (k := b) (by omega)).at rfl dX2_wornBy_14 ?_
  refine lv_aload_n hx hb dX2_wornBy_17 rfl (lv_at hl 0 rfl) ?_
  refine gf_X2_21_1 CX hL.loop.at rfl dX2_wornBy_18 ?_
  refine lv_iconst (v := nI 5) hx hb dX2_wornBy_21 rfl ?_
  refine b_ild CX hL.sett.at (x := S 0 0 12) (vp_in_nI (by omega) (by omega)) (b_at_nI (f := (fun j => S 0 0 (7 + j))) (n := 5) (by omega) rfl) dX2_wornBy_22 ?_
  refine lv_idiv hx hb dX2_wornBy_23 (hW.wear) ?_
  refine lv_isub hx hb dX2_wornBy_24 ?_
  rw [← hQ]
  exact b_iret CX hr hlk hS (Nat.le_of_ble_eq_true rfl) (Nat.le_of_ble_eq_true rfl) dX2_wornBy_25 (⟨rfl, rfl⟩)
theorem cs_X2_99 {p : Program} {l : Launch} {e : Env} {R : Room} {s : State} {m : MethodId} {args : Array Value} {below : List Frame} {meth : Method} {c : Code} {H : Heap} {locs : List Loc} {cells slots : Nat} {cc : ByteArray} {pc nL a : Nat} {ls : Array Slot} {rest : List Value} {G : b_G} {B0 : Nat} (CX : b_Cx p s m args c cc nL RX2 G B0) (hls : ls.size = nL) {rm : Room} {mc ms : Nat} {As st0 : List Value} {Qc : Array Value → State → Outcome → State → Prop} (hM : Met l yX2_deposit (ws_ yX2_deposit cX2_deposit 2 (Option.some Jvm.ClassFile.FieldType.int)) rm (b_Pc G B0 H (.ref a :: As)) Qc mc ms (b_A B0)) (hn : As.length = 1) {fs : List Value} {ci : Nat} {qc : vw_C} (hc : b_cl[ci]? = some qc) (hq : qc.1 = RX2) (hP : b_at G a (.inr (ci, fs)) H) (hS : va_S (b_A B0) s.heap H locs) (hst : st0 = As.reverse ++ .ref a :: rest) (hr : rm.cells = mc ∧ rm.slots = ms ∧ rm.frames + 1 ≤ R.frames ∧ 8 + (2 + 11) + rm.locals ≤ R.locals) (hw : (rest.map fun v => v.category).sum ≤ 8) (hdg : decode cc pc = .ok (.invokevirtual 99, 3)) (hf : cells + mc ≤ R.cells ∧ slots + ms ≤ R.slots) : va_Run p l e R s m args below meth c H locs cells slots mc ms (F0 m pc ls st0) rest (Qc (Value.ref a :: As).toArray) (b_A B0) := va_runV CX.fix hM (cwV 1 CX.ts (lw_V q868 q870 qs21 q80 q871) rfl hr.1 hr.2.1 (by decide +kernel) ⟨hr.2.2.1, hr.2.2.2⟩) ⟨b_blind G B0 H _, by have h9 := b_recv CX.K hc hP; rw [hq] at h9; exact h9, b_pre _ CX.K hS⟩ rfl hn hls hst (lv_room hw) hdg hf
set_option maxHeartbeats 2000000 in
set_option maxRecDepth 100000 in
theorem m_X2_depositsOf (l : Launch) {G : b_G} {B0 : Nat} {H : Heap} {τ : b_T} {id : Nat} {F : Nat → Nat} {M : Nat → Int32} {E : Nat → Bool} {S : b_St} {Z : Nat → Nat → Int32} {b : Nat} {c_ : Int32} (hL : LR G B0 τ id F M E H S Z) (hW : b_WF S) (hb : b < nb S) : Met l yX2_depositsOf (ws_ yX2_depositsOf cX2_depositsOf 3 (Option.some Jvm.ClassFile.FieldType.int)) ({ frames := 1, cells := 0, slots := 0, locals := 21 } : Room) (b_Pc G B0 H [.ref ((F 0)), .ref ((F (20 + b))), .int c_]) (b_Qi B0 (fun r H1 => r = p_deps S (kd S b) c_ ∧ H1 = H)) 0 0 (b_A B0) := by
  refine b_of (by decide) (Nat.le_of_ble_eq_true rfl) ?_
  intro p e s m below meth c CX hr hlk hnm hS ls hl
  have CX : b_Cx p s m _ c cX2_depositsOf 3 RX2 G B0 := CX
  have hx := CX.hx
  have hb := CX.hb
  have hl : lv_has ls 3 [(0, .ref ((F 0))), (1, .ref ((F (20 + b)))), (2, .int c_)] := hl
  generalize hQ : MQ below (b_Qi B0 (fun r H1 => r = p_deps S (kd S b) c_ ∧ H1 = H)) ([.ref ((F 0)), .ref ((F (20 + b))), .int c_] : List Value).toArray s 0 0 (b_A B0) = Q
  have hnb : nb S = nb S := rfl
  have hns : ns S = ns S := rfl
  have hn8 := hL.2.2.2.1
  have hn6 := hL.2.2.2.2
  refine lv_iload_n hx hb dX2_depositsOf_0 rfl (lv_at hl 2 rfl) ?_
  refine lv_bipush (v := nI 12) hx hb dX2_depositsOf_1 rfl ?_
  refine lv_aload_n hx hb dX2_depositsOf_3 rfl (lv_at hl 0 rfl) ?_
  refine lv_aload_n hx hb dX2_depositsOf_4 rfl (lv_at hl 1 rfl) ?_
  refine b_ci0 (cs_X2_99 (rest := [.int (nI 12), .int c_]) CX hl.1 (m_X2_deposit l (b := b) hL hW (by omega)) rfl rfl rfl hL.loop.at hS rfl ⟨rfl, rfl, Nat.le_of_ble_eq_true rfl, Nat.le_of_ble_eq_true rfl⟩ (Nat.le_of_ble_eq_true rfl) dX2_depositsOf_5 ⟨Nat.le_of_ble_eq_true rfl, Nat.le_of_ble_eq_true rfl⟩) hS (fun locs hS => ?_)
  refine lv_imul hx hb dX2_depositsOf_8 ?_
  refine lv_aload_n hx hb dX2_depositsOf_9 rfl (lv_at hl 0 rfl) ?_
  refine gf_X2_21_1 CX hL.loop.at rfl dX2_depositsOf_10 ?_
  refine lv_iconst (v := nI 3) hx hb dX2_depositsOf_13 rfl ?_
  refine b_ild CX hL.sett.at (x := S 0 0 10) (vp_in_nI (by omega) (by omega)) (b_at_nI (f := (fun j => S 0 0 (7 + j))) (n := 3) (by omega) rfl) dX2_depositsOf_14 ?_
  refine lv_iadd hx hb dX2_depositsOf_15 ?_
  refine lv_imul hx hb dX2_depositsOf_16 ?_
  rw [← hQ]
  exact b_iret CX hr hlk hS (Nat.le_of_ble_eq_true rfl) (Nat.le_of_ble_eq_true rfl) dX2_depositsOf_17 (⟨rfl, rfl⟩)
theorem cs_X2_103 {p : Program} {l : Launch} {e : Env} {R : Room} {s : State} {m : MethodId} {args : Array Value} {below : List Frame} {meth : Method} {c : Code} {H : Heap} {locs : List Loc} {cells slots : Nat} {cc : ByteArray} {pc nL a : Nat} {ls : Array Slot} {rest : List Value} {G : b_G} {B0 : Nat} (CX : b_Cx p s m args c cc nL RX2 G B0) (hls : ls.size = nL) {rm : Room} {mc ms : Nat} {As st0 : List Value} {Qc : Array Value → State → Outcome → State → Prop} (hM : Met l yX2_depositsOf (ws_ yX2_depositsOf cX2_depositsOf 3 (Option.some Jvm.ClassFile.FieldType.int)) rm (b_Pc G B0 H (.ref a :: As)) Qc mc ms (b_A B0)) (hn : As.length = 2) {fs : List Value} {ci : Nat} {qc : vw_C} (hc : b_cl[ci]? = some qc) (hq : qc.1 = RX2) (hP : b_at G a (.inr (ci, fs)) H) (hS : va_S (b_A B0) s.heap H locs) (hst : st0 = As.reverse ++ .ref a :: rest) (hr : rm.cells = mc ∧ rm.slots = ms ∧ rm.frames + 1 ≤ R.frames ∧ 8 + (3 + 11) + rm.locals ≤ R.locals) (hw : (rest.map fun v => v.category).sum ≤ 8) (hdg : decode cc pc = .ok (.invokevirtual 103, 3)) (hf : cells + mc ≤ R.cells ∧ slots + ms ≤ R.slots) : va_Run p l e R s m args below meth c H locs cells slots mc ms (F0 m pc ls st0) rest (Qc (Value.ref a :: As).toArray) (b_A B0) := va_runV CX.fix hM (cwV 2 CX.ts (lw_V q864 q866 qs20 q80 q867) rfl hr.1 hr.2.1 (by decide +kernel) ⟨hr.2.2.1, hr.2.2.2⟩) ⟨b_blind G B0 H _, by have h9 := b_recv CX.K hc hP; rw [hq] at h9; exact h9, b_pre _ CX.K hS⟩ rfl hn hls hst (lv_room hw) hdg hf
set_option maxHeartbeats 2000000 in
set_option maxRecDepth 100000 in
theorem m_X2_priceOf (l : Launch) {G : b_G} {B0 : Nat} {H : Heap} {τ : b_T} {id : Nat} {F : Nat → Nat} {M : Nat → Int32} {E : Nat → Bool} {S : b_St} {Z : Nat → Nat → Int32} {b : Nat} {c_ : Int32} (hL : LR G B0 τ id F M E H S Z) (hW : b_WF S) (hb : b < nb S) : Met l yX2_priceOf (ws_ yX2_priceOf cX2_priceOf 3 (Option.some Jvm.ClassFile.FieldType.int)) ({ frames := 2, cells := 0, slots := 0, locals := 43 } : Room) (b_Pc G B0 H [.ref ((F 0)), .ref ((F (20 + b))), .int c_]) (b_Qi B0 (fun r H1 => r = p_price S b c_ ∧ H1 = H)) 0 0 (b_A B0) := by
  refine b_of (by decide) (Nat.le_of_ble_eq_true rfl) ?_
  intro p e s m below meth c CX hr hlk hnm hS ls hl
  have CX : b_Cx p s m _ c cX2_priceOf 3 RX2 G B0 := CX
  have hx := CX.hx
  have hb := CX.hb
  have hl : lv_has ls 3 [(0, .ref ((F 0))), (1, .ref ((F (20 + b)))), (2, .int c_)] := hl
  generalize hQ : MQ below (b_Qi B0 (fun r H1 => r = p_price S b c_ ∧ H1 = H)) ([.ref ((F 0)), .ref ((F (20 + b))), .int c_] : List Value).toArray s 0 0 (b_A B0) = Q
  have hnb : nb S = nb S := rfl
  have hns : ns S = ns S := rfl
  have hn8 := hL.2.2.2.1
  have hn6 := hL.2.2.2.2
  refine lv_aload_n hx hb dX2_priceOf_0 rfl (lv_at hl 0 rfl) ?_
  refine lv_aload_n hx hb dX2_priceOf_1 rfl (lv_at hl 1 rfl) ?_
  refine lv_iload_n hx hb dX2_priceOf_2 rfl (lv_at hl 2 rfl) ?_
  refine b_ci0 (cs_X2_103 (rest := []) CX hl.1 (m_X2_depositsOf l (b := b) (c_ := c_) hL hW (by omega)) rfl rfl rfl hL.loop.at hS rfl ⟨rfl, rfl, Nat.le_of_ble_eq_true rfl, Nat.le_of_ble_eq_true rfl⟩ (Nat.le_of_ble_eq_true rfl) dX2_priceOf_3 ⟨Nat.le_of_ble_eq_true rfl, Nat.le_of_ble_eq_true rfl⟩) hS (fun locs hS => ?_)
  refine lv_iload_n hx hb dX2_priceOf_6 rfl (lv_at hl 2 rfl) ?_
  refine lv_aload_n hx hb dX2_priceOf_7 rfl (lv_at hl 0 rfl) ?_
  refine gf_X2_21_1 CX hL.loop.at rfl dX2_priceOf_8 ?_
  refine lv_iconst (v := nI 4) hx hb dX2_priceOf_11 rfl ?_
  refine b_ild CX hL.sett.at (x := S 0 0 11) (vp_in_nI (by omega) (by omega)) (b_at_nI (f := (fun j => S 0 0 (7 + j))) (n := 4) (by omega) rfl) dX2_priceOf_12 ?_
  refine lv_imul hx hb dX2_priceOf_13 ?_
  refine lv_iadd hx hb dX2_priceOf_14 ?_
  rw [← hQ]
  exact b_iret CX hr hlk hS (Nat.le_of_ble_eq_true rfl) (Nat.le_of_ble_eq_true rfl) dX2_priceOf_15 (⟨rfl, rfl⟩)
theorem gf_X2_12_1 {p : Program} {l : Launch} {e : Env} {R : Room} {s : State} {m : MethodId} {args : Array Value} {below : List Frame} {meth : Method} {c : Code} {H : Heap} {locs : List Loc} {cells slots : Nat} {Q : State → Prop} {cc : ByteArray} {pc nL a : Nat} {ls : Array Slot} {rest : List Value} {G : b_G} {B0 : Nat} (CX : b_Cx p s m args c cc nL RX2 G B0) {fs : List Value} (hP : b_at G a (.inr (1, fs)) H) {v : Value} (hv : fs[0]? = some v) (hdg : decode cc pc = .ok (.getfield 12, 3)) (kk : W p l e R s m args below meth c H locs cells slots Q (F0 m (pc + 3) ls (v :: rest))) : W p l e R s m args below meth c H locs cells slots Q (F0 m pc ls (.ref a :: rest)) := b_get CX in_X2 rfl 0 (by decide) q168 (Or.inl rfl) hP hv hdg kk
theorem cs_X2_31 {p : Program} {l : Launch} {e : Env} {R : Room} {s : State} {m : MethodId} {args : Array Value} {below : List Frame} {meth : Method} {c : Code} {H : Heap} {locs : List Loc} {cells slots : Nat} {cc : ByteArray} {pc nL a : Nat} {ls : Array Slot} {rest : List Value} {G : b_G} {B0 : Nat} (CX : b_Cx p s m args c cc nL RX2 G B0) (hls : ls.size = nL) {rm : Room} {mc ms : Nat} {As st0 : List Value} {Qc : Array Value → State → Outcome → State → Prop} (hM : Met l yJ2_size (ws_ yJ2_size cJ2_size 1 (Option.some Jvm.ClassFile.FieldType.int)) rm (b_Pc G B0 H (.ref a :: As)) Qc mc ms (b_A B0)) (hn : As.length = 0) {fs : List Value} {ci : Nat} {qc : vw_C} (hc : b_cl[ci]? = some qc) (hq : qc.1 = RJ2) (hP : b_at G a (.inr (ci, fs)) H) (hS : va_S (b_A B0) s.heap H locs) (hst : st0 = As.reverse ++ .ref a :: rest) (hr : rm.cells = mc ∧ rm.slots = ms ∧ rm.frames + 1 ≤ R.frames ∧ 8 + (1 + 11) + rm.locals ≤ R.locals) (hw : (rest.map fun v => v.category).sum ≤ 8) (hdg : decode cc pc = .ok (.invokevirtual 31, 3)) (hf : cells + mc ≤ R.cells ∧ slots + ms ≤ R.slots) : va_Run p l e R s m args below meth c H locs cells slots mc ms (F0 m pc ls st0) rest (Qc (Value.ref a :: As).toArray) (b_A B0) := va_runV CX.fix hM (cwV 0 CX.ts (lw_V q895 q792 q793 q83 q794) rfl hr.1 hr.2.1 (by decide +kernel) ⟨hr.2.2.1, hr.2.2.2⟩) ⟨b_blind G B0 H _, by have h9 := b_recv CX.K hc hP; rw [hq] at h9; exact h9, b_pre _ CX.K hS⟩ rfl hn hls hst (lv_room hw) hdg hf
theorem cs_X2_35 {p : Program} {l : Launch} {e : Env} {R : Room} {s : State} {m : MethodId} {args : Array Value} {below : List Frame} {meth : Method} {c : Code} {H : Heap} {locs : List Loc} {cells slots : Nat} {cc : ByteArray} {pc nL a : Nat} {ls : Array Slot} {rest : List Value} {G : b_G} {B0 : Nat} (CX : b_Cx p s m args c cc nL RX2 G B0) (hls : ls.size = nL) {rm : Room} {mc ms : Nat} {As st0 : List Value} {Qc : Array Value → State → Outcome → State → Prop} (hM : Met l yJ2_get (ws_ yJ2_get cJ2_get 2 (Option.some (Jvm.ClassFile.FieldType.object "java/lang/Object"))) rm (b_Pc G B0 H (.ref a :: As)) Qc mc ms (b_A B0)) (hn : As.length = 1) {fs : List Value} {ci : Nat} {qc : vw_C} (hc : b_cl[ci]? = some qc) (hq : qc.1 = RJ2) (hP : b_at G a (.inr (ci, fs)) H) (hS : va_S (b_A B0) s.heap H locs) (hst : st0 = As.reverse ++ .ref a :: rest) (hr : rm.cells = mc ∧ rm.slots = ms ∧ rm.frames + 1 ≤ R.frames ∧ 8 + (2 + 11) + rm.locals ≤ R.locals) (hw : (rest.map fun v => v.category).sum ≤ 8) (hdg : decode cc pc = .ok (.invokevirtual 35, 3)) (hf : cells + mc ≤ R.cells ∧ slots + ms ≤ R.slots) : va_Run p l e R s m args below meth c H locs cells slots mc ms (F0 m pc ls st0) rest (Qc (Value.ref a :: As).toArray) (b_A B0) := va_runV CX.fix hM (cwV 1 CX.ts (lw_V q896 q796 q797 q83 q798) rfl hr.1 hr.2.1 (by decide +kernel) ⟨hr.2.2.1, hr.2.2.2⟩) ⟨b_blind G B0 H _, by have h9 := b_recv CX.K hc hP; rw [hq] at h9; exact h9, b_pre _ CX.K hS⟩ rfl hn hls hst (lv_room hw) hdg hf
theorem gf_X2_135_5 {p : Program} {l : Launch} {e : Env} {R : Room} {s : State} {m : MethodId} {args : Array Value} {below : List Frame} {meth : Method} {c : Code} {H : Heap} {locs : List Loc} {cells slots : Nat} {Q : State → Prop} {cc : ByteArray} {pc nL a : Nat} {ls : Array Slot} {rest : List Value} {G : b_G} {B0 : Nat} (CX : b_Cx p s m args c cc nL RX2 G B0) {fs : List Value} (hP : b_at G a (.inr (5, fs)) H) {v : Value} (hv : fs[1]? = some v) (hdg : decode cc pc = .ok (.getfield 135, 3)) (kk : W p l e R s m args below meth c H locs cells slots Q (F0 m (pc + 3) ls (v :: rest))) : W p l e R s m args below meth c H locs cells slots Q (F0 m pc ls (.ref a :: rest)) := b_getN CX in_X5 rfl 1 (by decide) q1058 (Or.inl rfl) hP hv hdg kk
set_option maxHeartbeats 2000000 in
set_option maxRecDepth 100000 in
theorem m_X2_emptyOf (l : Launch) {G : b_G} {B0 : Nat} {H : Heap} {τ : b_T} {id : Nat} {F : Nat → Nat} {M : Nat → Int32} {E : Nat → Bool} {S : b_St} {Z : Nat → Nat → Int32} {s_ : Nat} {k : Nat} (hL : LR G B0 τ id F M E H S Z) (hW : b_WF S) (hs : s_ < ns S) (hk : k < 3) : Met l yX2_emptyOf (ws_ yX2_emptyOf cX2_emptyOf 5 (Option.some Jvm.ClassFile.FieldType.int)) ({ frames := 3, cells := 0, slots := 0, locals := 64 } : Room) (b_Pc G B0 H [.ref ((F 0)), .ref ((F (30 + s_))), .int (nI k)]) (b_Qi B0 (fun r H1 => r = p_empt S s_ k ∧ H1 = H)) 0 0 (b_A B0) := by
  refine b_of (by decide) (Nat.le_of_ble_eq_true rfl) ?_
  intro p e s m below meth c CX hr hlk hnm hS ls hl
  have CX : b_Cx p s m _ c cX2_emptyOf 5 RX2 G B0 := CX
  have hx := CX.hx
  have hb := CX.hb
  have hl : lv_has ls 5 [(0, .ref ((F 0))), (1, .ref ((F (30 + s_)))), (2, .int (nI k))] := hl
  generalize hQ : MQ below (b_Qi B0 (fun r H1 => r = p_empt S s_ k ∧ H1 = H)) ([.ref ((F 0)), .ref ((F (30 + s_))), .int (nI k)] : List Value).toArray s 0 0 (b_A B0) = Q
  have hnb : nb S = nb S := rfl
  have hns : ns S = ns S := rfl
  have hn8 := hL.2.2.2.1
  have hn6 := hL.2.2.2.2
  refine lv_iconst (v := nI 0) hx hb dX2_emptyOf_0 rfl ?_
  refine lv_istore_n (lv' := [(3, .int (nI 0)), (0, .ref ((F 0))), (1, .ref ((F (30 + s_)))), (2, .int (nI k))]) hx hb dX2_emptyOf_1 rfl hl (Nat.le_of_ble_eq_true rfl) rfl (fun ls hl => ?_)
  refine lv_iconst (v := nI 0) hx hb dX2_emptyOf_2 rfl ?_
  refine lv_istore (lv' := [(4, .int (nI 0)), (3, .int (nI 0)), (0, .ref ((F 0))), (1, .ref ((F (30 + s_)))), (2, .int (nI k))]) hx hb dX2_emptyOf_3 hl (Nat.le_of_ble_eq_true rfl) rfl (fun ls hl => ?_)
  have lp5_1 : ∀ (n_ : Nat) (i : Nat), i ≤ nb S → nb S - i < n_ → ∀ (locs : List Loc), va_S (b_A B0) s.heap H locs → ∀ ls : Array Slot, lv_has ls 5 [(3, .int (p_sum (f_empt S s_ k) i)), (4, .int (nI i)), (0, .ref ((F 0))), (1, .ref ((F (30 + s_)))), (2, .int (nI k))] → W p l e ({ frames := 3, cells := 0, slots := 0, locals := 64 } : Room) s m ([.ref ((F 0)), .ref ((F (30 + s_))), .int (nI k)] : List Value).toArray below meth c H locs 0 0 Q (F0 m 5 ls []) := by
    intro n_
    induction n_ with
    | zero => intro i hi hlt locs hS ls hl; exact absurd hlt (Nat.not_lt_zero _)
    | succ n_ ih5 =>
      intro i hi hlt locs hS ls hl
      refine lv_iload hx hb dX2_emptyOf_5 (lv_at hl 1 rfl) ?_
      refine lv_aload_n hx hb dX2_emptyOf_7 rfl (lv_at hl 2 rfl) ?_
      refine gf_X2_12_1 CX hL.loop.at rfl dX2_emptyOf_8 ?_
      refine b_ci0 (cs_X2_31 (rest := [.int (nI i)]) CX hl.1 (m_J2_size l (a := (F 1)) (ta := 1000 * id + 1) (mc := M 1) (ra := (if E 1 = true then F 2 else G.2.2 0)) (x := S 0 0 0) hL.al1) rfl rfl rfl hL.al1.at hS rfl ⟨rfl, rfl, Nat.le_of_ble_eq_true rfl, Nat.le_of_ble_eq_true rfl⟩ (Nat.le_of_ble_eq_true rfl) dX2_emptyOf_11 ⟨Nat.le_of_ble_eq_true rfl, Nat.le_of_ble_eq_true rfl⟩) hS (fun locs hS => ?_)
      refine b_top (x := (S 0 0 0)) (y := nI (nb S)) (hW.nbE) ?_
      refine b_icmp_geN (tgt := 56) CX (by omega) (by omega) dX2_emptyOf_14 (by decide) (fun c_14 => ?_) (fun c_14 => ?_)
      · obtain rfl : i = nb S := by omega
        refine lv_iload_n hx hb dX2_emptyOf_56 rfl (lv_at hl 0 rfl) ?_
        rw [← hQ]
        exact b_iret CX hr hlk hS (Nat.le_of_ble_eq_true rfl) (Nat.le_of_ble_eq_true rfl) dX2_emptyOf_57 (⟨rfl, rfl⟩)
      · have hkd := hW.kd3 (b := i) (by omega)
        refine lv_iload_n hx hb dX2_emptyOf_17 rfl (lv_at hl 0 rfl) ?_
        refine lv_aload_n hx hb dX2_emptyOf_18 rfl (lv_at hl 2 rfl) ?_
        refine gf_X2_12_1 CX hL.loop.at rfl dX2_emptyOf_19 ?_
        refine lv_iload hx hb dX2_emptyOf_22 (lv_at hl 1 rfl) ?_
        refine b_cq0 (cs_X2_35 (rest := [.int (p_sum (f_empt S s_ k) i)]) CX hl.1 (m_J2_get l (a := (F 1)) (ta := 1000 * id + 1) (mc := M 1) (ra := (F 2)) (tr := 1000 * id + 2) (f := (fun j => F (20 + j))) (n := nb S) (i := i) (hL.alg1 hW (by omega)) (hL.arg2 (by omega)) (by omega) (by omega)) rfl rfl rfl (hL.alg1 hW (by omega)).at hS rfl ⟨rfl, rfl, Nat.le_of_ble_eq_true rfl, Nat.le_of_ble_eq_true rfl⟩ (Nat.le_of_ble_eq_true rfl) dX2_emptyOf_24 ⟨Nat.le_of_ble_eq_true rfl, Nat.le_of_ble_eq_true rfl⟩) hS (fun locs hS => ?_)
        refine b_cast CX (ci := 4) rfl (hL.brand (k := i) (by omega)).at q897 dX2_emptyOf_27 ?_
        refine gf_X2_76_4 CX (hL.brand (k := i) (by omega)).at (v := .int (nI (kd S i))) (congrArg (fun q => some (Value.int q)) (hW.kdE (by omega))) dX2_emptyOf_30 ?_
        refine lv_iload_n hx hb dX2_emptyOf_33 rfl (lv_at hl 4 rfl) ?_
        refine b_icmp_neN (tgt := 47) CX (by omega) (by omega) dX2_emptyOf_34 (by decide) (fun c_34 => ?_) (fun c_34 => ?_)
        · refine lv_iconst (v := nI 0) hx hb dX2_emptyOf_47 rfl ?_
          refine b_top (x := nI 0) (y := f_empt S s_ k i) (by unfold f_empt; first | (rw [if_pos c_34]) | (rw [if_neg c_34])) ?_
          refine lv_iadd hx hb dX2_emptyOf_48 ?_
          refine lv_istore_n (lv' := [(3, .int ((p_sum (f_empt S s_ k) i) + (f_empt S s_ k i))), (4, .int (nI i)), (0, .ref ((F 0))), (1, .ref ((F (30 + s_)))), (2, .int (nI k))]) hx hb dX2_emptyOf_49 rfl hl (Nat.le_of_ble_eq_true rfl) rfl (fun ls hl => ?_)
          refine lv_iinc (v := nI (i + 1)) (lv' := [(4, .int (nI (i + 1))), (3, .int ((p_sum (f_empt S s_ k) i) + (f_empt S s_ k i))), (0, .ref ((F 0))), (1, .ref ((F (30 + s_)))), (2, .int (nI k))]) hx hb dX2_emptyOf_50 hl (k := 1) rfl (nI_1 _) (Nat.le_of_ble_eq_true rfl) rfl (fun ls hl => ?_)
          refine lv_goto (tgt := 5) hx hb dX2_emptyOf_53 (by decide) ?_
          exact ih5 (i + 1) (by omega) (by omega) _ hS ls (lv_sub hl [1, 0, 2, 3, 4] rfl)
        · refine lv_aload_n hx hb dX2_emptyOf_37 rfl (lv_at hl 3 rfl) ?_
          refine gf_X2_135_5 CX (hL.shop (k := s_) (by omega)).at rfl dX2_emptyOf_38 ?_
          refine lv_iload hx hb dX2_emptyOf_41 (lv_at hl 1 rfl) ?_
          refine b_ild CX (hL.empt (k := s_) (by omega)).at (x := S 5 s_ i) (vp_in_nI (by omega) (by omega)) (b_at_nI (f := (fun j => S 5 s_ j)) (n := i) (by omega) rfl) dX2_emptyOf_43 ?_
          refine lv_goto (tgt := 48) hx hb dX2_emptyOf_44 (by decide) ?_
          refine b_top (x := S 5 s_ i) (y := f_empt S s_ k i) (by unfold f_empt; first | (rw [if_pos c_34]) | (rw [if_neg c_34])) ?_
          refine lv_iadd hx hb dX2_emptyOf_48 ?_
          refine lv_istore_n (lv' := [(3, .int ((p_sum (f_empt S s_ k) i) + (f_empt S s_ k i))), (4, .int (nI i)), (0, .ref ((F 0))), (1, .ref ((F (30 + s_)))), (2, .int (nI k))]) hx hb dX2_emptyOf_49 rfl hl (Nat.le_of_ble_eq_true rfl) rfl (fun ls hl => ?_)
          refine lv_iinc (v := nI (i + 1)) (lv' := [(4, .int (nI (i + 1))), (3, .int ((p_sum (f_empt S s_ k) i) + (f_empt S s_ k i))), (0, .ref ((F 0))), (1, .ref ((F (30 + s_)))), (2, .int (nI k))]) hx hb dX2_emptyOf_50 hl (k := 1) rfl (nI_1 _) (Nat.le_of_ble_eq_true rfl) rfl (fun ls hl => ?_)
          refine lv_goto (tgt := 5) hx hb dX2_emptyOf_53 (by decide) ?_
          exact ih5 (i + 1) (by omega) (by omega) _ hS ls (lv_sub hl [1, 0, 2, 3, 4] rfl)
  exact lp5_1 _ 0 (Nat.zero_le _) (Nat.lt_succ_self _) _ hS ls (lv_sub hl [1, 0, 2, 3, 4] rfl)
theorem gf_X2_157_4 {p : Program} {l : Launch} {e : Env} {R : Room} {s : State} {m : MethodId} {args : Array Value} {below : List Frame} {meth : Method} {c : Code} {H : Heap} {locs : List Loc} {cells slots : Nat} {Q : State → Prop} {cc : ByteArray} {pc nL a : Nat} {ls : Array Slot} {rest : List Value} {G : b_G} {B0 : Nat} (CX : b_Cx p s m args c cc nL RX2 G B0) {fs : List Value} (hP : b_at G a (.inr (4, fs)) H) {v : Value} (hv : fs[4]? = some v) (hdg : decode cc pc = .ok (.getfield 157, 3)) (kk : W p l e R s m args below meth c H locs cells slots Q (F0 m (pc + 3) ls (v :: rest))) : W p l e R s m args below meth c H locs cells slots Q (F0 m pc ls (.ref a :: rest)) := b_getN CX in_X4 rfl 4 (by decide) q1004 (Or.inl rfl) hP hv hdg kk
set_option maxHeartbeats 2000000 in
set_option maxRecDepth 100000 in
theorem m_X2_inYard (l : Launch) {G : b_G} {B0 : Nat} {H : Heap} {τ : b_T} {id : Nat} {F : Nat → Nat} {M : Nat → Int32} {E : Nat → Bool} {S : b_St} {Z : Nat → Nat → Int32} {k : Nat} (hL : LR G B0 τ id F M E H S Z) (hW : b_WF S) (hk : k < 3) : Met l yX2_inYard (ws_ yX2_inYard cX2_inYard 4 (Option.some Jvm.ClassFile.FieldType.int)) ({ frames := 3, cells := 0, slots := 0, locals := 64 } : Room) (b_Pc G B0 H [.ref ((F 0)), .int (nI k)]) (b_Qi B0 (fun r H1 => r = p_yard S k ∧ H1 = H)) 0 0 (b_A B0) := by
  refine b_of (by decide) (Nat.le_of_ble_eq_true rfl) ?_
  intro p e s m below meth c CX hr hlk hnm hS ls hl
  have CX : b_Cx p s m _ c cX2_inYard 4 RX2 G B0 := CX
  have hx := CX.hx
  have hb := CX.hb
  have hl : lv_has ls 4 [(0, .ref ((F 0))), (1, .int (nI k))] := hl
  generalize hQ : MQ below (b_Qi B0 (fun r H1 => r = p_yard S k ∧ H1 = H)) ([.ref ((F 0)), .int (nI k)] : List Value).toArray s 0 0 (b_A B0) = Q
  have hnb : nb S = nb S := rfl
  have hns : ns S = ns S := rfl
  have hn8 := hL.2.2.2.1
  have hn6 := hL.2.2.2.2
  refine lv_iconst (v := nI 0) hx hb dX2_inYard_0 rfl ?_
  refine lv_istore_n (lv' := [(2, .int (nI 0)), (0, .ref ((F 0))), (1, .int (nI k))]) hx hb dX2_inYard_1 rfl hl (Nat.le_of_ble_eq_true rfl) rfl (fun ls hl => ?_)
  refine lv_iconst (v := nI 0) hx hb dX2_inYard_2 rfl ?_
  refine lv_istore_n (lv' := [(3, .int (nI 0)), (2, .int (nI 0)), (0, .ref ((F 0))), (1, .int (nI k))]) hx hb dX2_inYard_3 rfl hl (Nat.le_of_ble_eq_true rfl) rfl (fun ls hl => ?_)
  have lp4_1 : ∀ (n_ : Nat) (i : Nat), i ≤ nb S → nb S - i < n_ → ∀ (locs : List Loc), va_S (b_A B0) s.heap H locs → ∀ ls : Array Slot, lv_has ls 4 [(2, .int (p_sum (f_yard S k) i)), (3, .int (nI i)), (0, .ref ((F 0))), (1, .int (nI k))] → W p l e ({ frames := 3, cells := 0, slots := 0, locals := 64 } : Room) s m ([.ref ((F 0)), .int (nI k)] : List Value).toArray below meth c H locs 0 0 Q (F0 m 4 ls []) := by
    intro n_
    induction n_ with
    | zero => intro i hi hlt locs hS ls hl; exact absurd hlt (Nat.not_lt_zero _)
    | succ n_ ih4 =>
      intro i hi hlt locs hS ls hl
      refine lv_iload_n hx hb dX2_inYard_4 rfl (lv_at hl 1 rfl) ?_
      refine lv_aload_n hx hb dX2_inYard_5 rfl (lv_at hl 2 rfl) ?_
      refine gf_X2_12_1 CX hL.loop.at rfl dX2_inYard_6 ?_
      refine b_ci0 (cs_X2_31 (rest := [.int (nI i)]) CX hl.1 (m_J2_size l (a := (F 1)) (ta := 1000 * id + 1) (mc := M 1) (ra := (if E 1 = true then F 2 else G.2.2 0)) (x := S 0 0 0) hL.al1) rfl rfl rfl hL.al1.at hS rfl ⟨rfl, rfl, Nat.le_of_ble_eq_true rfl, Nat.le_of_ble_eq_true rfl⟩ (Nat.le_of_ble_eq_true rfl) dX2_inYard_9 ⟨Nat.le_of_ble_eq_true rfl, Nat.le_of_ble_eq_true rfl⟩) hS (fun locs hS => ?_)
      refine b_top (x := (S 0 0 0)) (y := nI (nb S)) (hW.nbE) ?_
      refine b_icmp_geN (tgt := 60) CX (by omega) (by omega) dX2_inYard_12 (by decide) (fun c_12 => ?_) (fun c_12 => ?_)
      · obtain rfl : i = nb S := by omega
        refine lv_iload_n hx hb dX2_inYard_60 rfl (lv_at hl 0 rfl) ?_
        rw [← hQ]
        exact b_iret CX hr hlk hS (Nat.le_of_ble_eq_true rfl) (Nat.le_of_ble_eq_true rfl) dX2_inYard_61 (⟨rfl, rfl⟩)
      · have hkd := hW.kd3 (b := i) (by omega)
        refine lv_iload_n hx hb dX2_inYard_15 rfl (lv_at hl 0 rfl) ?_
        refine lv_aload_n hx hb dX2_inYard_16 rfl (lv_at hl 2 rfl) ?_
        refine gf_X2_12_1 CX hL.loop.at rfl dX2_inYard_17 ?_
        refine lv_iload_n hx hb dX2_inYard_20 rfl (lv_at hl 1 rfl) ?_
        refine b_cq0 (cs_X2_35 (rest := [.int (p_sum (f_yard S k) i)]) CX hl.1 (m_J2_get l (a := (F 1)) (ta := 1000 * id + 1) (mc := M 1) (ra := (F 2)) (tr := 1000 * id + 2) (f := (fun j => F (20 + j))) (n := nb S) (i := i) (hL.alg1 hW (by omega)) (hL.arg2 (by omega)) (by omega) (by omega)) rfl rfl rfl (hL.alg1 hW (by omega)).at hS rfl ⟨rfl, rfl, Nat.le_of_ble_eq_true rfl, Nat.le_of_ble_eq_true rfl⟩ (Nat.le_of_ble_eq_true rfl) dX2_inYard_21 ⟨Nat.le_of_ble_eq_true rfl, Nat.le_of_ble_eq_true rfl⟩) hS (fun locs hS => ?_)
        refine b_cast CX (ci := 4) rfl (hL.brand (k := i) (by omega)).at q897 dX2_inYard_24 ?_
        refine gf_X2_76_4 CX (hL.brand (k := i) (by omega)).at (v := .int (nI (kd S i))) (congrArg (fun q => some (Value.int q)) (hW.kdE (by omega))) dX2_inYard_27 ?_
        refine lv_iload_n hx hb dX2_inYard_30 rfl (lv_at hl 3 rfl) ?_
        refine b_icmp_neN (tgt := 51) CX (by omega) (by omega) dX2_inYard_31 (by decide) (fun c_31 => ?_) (fun c_31 => ?_)
        · refine lv_iconst (v := nI 0) hx hb dX2_inYard_51 rfl ?_
          refine b_top (x := nI 0) (y := f_yard S k i) (by unfold f_yard; first | (rw [if_pos c_31]) | (rw [if_neg c_31])) ?_
          refine lv_iadd hx hb dX2_inYard_52 ?_
          refine lv_istore_n (lv' := [(2, .int ((p_sum (f_yard S k) i) + (f_yard S k i))), (3, .int (nI i)), (0, .ref ((F 0))), (1, .int (nI k))]) hx hb dX2_inYard_53 rfl hl (Nat.le_of_ble_eq_true rfl) rfl (fun ls hl => ?_)
          refine lv_iinc (v := nI (i + 1)) (lv' := [(3, .int (nI (i + 1))), (2, .int ((p_sum (f_yard S k) i) + (f_yard S k i))), (0, .ref ((F 0))), (1, .int (nI k))]) hx hb dX2_inYard_54 hl (k := 1) rfl (nI_1 _) (Nat.le_of_ble_eq_true rfl) rfl (fun ls hl => ?_)
          refine lv_goto (tgt := 4) hx hb dX2_inYard_57 (by decide) ?_
          exact ih4 (i + 1) (by omega) (by omega) _ hS ls (lv_sub hl [1, 0, 2, 3] rfl)
        · refine lv_aload_n hx hb dX2_inYard_34 rfl (lv_at hl 2 rfl) ?_
          refine gf_X2_12_1 CX hL.loop.at rfl dX2_inYard_35 ?_
          refine lv_iload_n hx hb dX2_inYard_38 rfl (lv_at hl 1 rfl) ?_
          refine b_cq0 (cs_X2_35 (rest := [.int (p_sum (f_yard S k) i)]) CX hl.1 (m_J2_get l (a := (F 1)) (ta := 1000 * id + 1) (mc := M 1) (ra := (F 2)) (tr := 1000 * id + 2) (f := (fun j => F (20 + j))) (n := nb S) (i := i) (hL.alg1 hW (by omega)) (hL.arg2 (by omega)) (by omega) (by omega)) rfl rfl rfl (hL.alg1 hW (by omega)).at hS rfl ⟨rfl, rfl, Nat.le_of_ble_eq_true rfl, Nat.le_of_ble_eq_true rfl⟩ (Nat.le_of_ble_eq_true rfl) dX2_inYard_39 ⟨Nat.le_of_ble_eq_true rfl, Nat.le_of_ble_eq_true rfl⟩) hS (fun locs hS => ?_)
          refine b_cast CX (ci := 4) rfl (hL.brand (k := i) (by omega)).at q897 dX2_inYard_42 ?_
          refine gf_X2_157_4 CX (hL.brand (k := i) (by omega)).at rfl dX2_inYard_45 ?_
          refine lv_goto (tgt := 52) hx hb dX2_inYard_48 (by decide) ?_
          refine b_top (x := S 1 i 4) (y := f_yard S k i) (by unfold f_yard; first | (rw [if_pos c_31]) | (rw [if_neg c_31])) ?_
          refine lv_iadd hx hb dX2_inYard_52 ?_
          refine lv_istore_n (lv' := [(2, .int ((p_sum (f_yard S k) i) + (f_yard S k i))), (3, .int (nI i)), (0, .ref ((F 0))), (1, .int (nI k))]) hx hb dX2_inYard_53 rfl hl (Nat.le_of_ble_eq_true rfl) rfl (fun ls hl => ?_)
          refine lv_iinc (v := nI (i + 1)) (lv' := [(3, .int (nI (i + 1))), (2, .int ((p_sum (f_yard S k) i) + (f_yard S k i))), (0, .ref ((F 0))), (1, .int (nI k))]) hx hb dX2_inYard_54 hl (k := 1) rfl (nI_1 _) (Nat.le_of_ble_eq_true rfl) rfl (fun ls hl => ?_)
          refine lv_goto (tgt := 4) hx hb dX2_inYard_57 (by decide) ?_
          exact ih4 (i + 1) (by omega) (by omega) _ hS ls (lv_sub hl [1, 0, 2, 3] rfl)
  exact lp4_1 _ 0 (Nat.zero_le _) (Nat.lt_succ_self _) _ hS ls (lv_sub hl [1, 0, 2, 3] rfl)
theorem cs_X2_89 {p : Program} {l : Launch} {e : Env} {R : Room} {s : State} {m : MethodId} {args : Array Value} {below : List Frame} {meth : Method} {c : Code} {H : Heap} {locs : List Loc} {cells slots : Nat} {cc : ByteArray} {pc nL a : Nat} {ls : Array Slot} {rest : List Value} {G : b_G} {B0 : Nat} (CX : b_Cx p s m args c cc nL RX2 G B0) (hls : ls.size = nL) {rm : Room} {mc ms : Nat} {As st0 : List Value} {Qc : Array Value → State → Outcome → State → Prop} (hM : Met l yX2_wornBy (ws_ yX2_wornBy cX2_wornBy 3 (Option.some Jvm.ClassFile.FieldType.int)) rm (b_Pc G B0 H (.ref a :: As)) Qc mc ms (b_A B0)) (hn : As.length = 2) {fs : List Value} {ci : Nat} {qc : vw_C} (hc : b_cl[ci]? = some qc) (hq : qc.1 = RX2) (hP : b_at G a (.inr (ci, fs)) H) (hS : va_S (b_A B0) s.heap H locs) (hst : st0 = As.reverse ++ .ref a :: rest) (hr : rm.cells = mc ∧ rm.slots = ms ∧ rm.frames + 1 ≤ R.frames ∧ 8 + (3 + 11) + rm.locals ≤ R.locals) (hw : (rest.map fun v => v.category).sum ≤ 8) (hdg : decode cc pc = .ok (.invokevirtual 89, 3)) (hf : cells + mc ≤ R.cells ∧ slots + ms ≤ R.slots) : va_Run p l e R s m args below meth c H locs cells slots mc ms (F0 m pc ls st0) rest (Qc (Value.ref a :: As).toArray) (b_A B0) := va_runV CX.fix hM (cwV 2 CX.ts (lw_V q1410 q852 q853 q80 q854) rfl hr.1 hr.2.1 (by decide +kernel) ⟨hr.2.2.1, hr.2.2.2⟩) ⟨b_blind G B0 H _, by have h9 := b_recv CX.K hc hP; rw [hq] at h9; exact h9, b_pre _ CX.K hS⟩ rfl hn hls hst (lv_room hw) hdg hf
theorem gf_X2_82_4 {p : Program} {l : Launch} {e : Env} {R : Room} {s : State} {m : MethodId} {args : Array Value} {below : List Frame} {meth : Method} {c : Code} {H : Heap} {locs : List Loc} {cells slots : Nat} {Q : State → Prop} {cc : ByteArray} {pc nL a : Nat} {ls : Array Slot} {rest : List Value} {G : b_G} {B0 : Nat} (CX : b_Cx p s m args c cc nL RX2 G B0) {fs : List Value} (hP : b_at G a (.inr (4, fs)) H) {v : Value} (hv : fs[1]? = some v) (hdg : decode cc pc = .ok (.getfield 82, 3)) (kk : W p l e R s m args below meth c H locs cells slots Q (F0 m (pc + 3) ls (v :: rest))) : W p l e R s m args below meth c H locs cells slots Q (F0 m pc ls (.ref a :: rest)) := b_getN CX in_X4 rfl 1 (by decide) q995 (Or.inl rfl) hP hv hdg kk
theorem pf_X2_82_4 {p : Program} {l : Launch} {e : Env} {R : Room} {s : State} {m : MethodId} {args : Array Value} {below : List Frame} {meth : Method} {c : Code} {H : Heap} {locs : List Loc} {cells slots : Nat} {Q : State → Prop} {cc : ByteArray} {pc nL a : Nat} {ls : Array Slot} {rest : List Value} {G : b_G} {B0 : Nat} (CX : b_Cx p s m args c cc nL RX2 G B0) {fs : List Value} (hP : b_at G a (.inr (4, fs)) H) (hS : va_S (b_A B0) s.heap H locs) (ha : B0 ≤ a) {v : Value} (hn : narrow (tyX4 1) v = v) (hfit : fits (tyX4 1) v = true) (hl : 1 < fs.length) (hdg : decode cc pc = .ok (.putfield 82, 3)) (kk : ∀ (H1 : Heap) (locs1 : List Loc), b_at G a (.inr (4, fs.set 1 v)) H1 → b_Up a H H1 → va_S (b_A B0) s.heap H1 locs1 → W p l e R s m args below meth c H1 locs1 cells slots Q (F0 m (pc + 3) ls rest)) : W p l e R s m args below meth c H locs cells slots Q (F0 m pc ls (v :: .ref a :: rest)) := b_putN CX in_X4 tyX4 tyX4_ok rfl 1 (by decide) (by decide +kernel) q995 (Or.inl rfl) rfl hP hS ha hn hfit hl hdg kk
theorem gf_X2_93_4 {p : Program} {l : Launch} {e : Env} {R : Room} {s : State} {m : MethodId} {args : Array Value} {below : List Frame} {meth : Method} {c : Code} {H : Heap} {locs : List Loc} {cells slots : Nat} {Q : State → Prop} {cc : ByteArray} {pc nL a : Nat} {ls : Array Slot} {rest : List Value} {G : b_G} {B0 : Nat} (CX : b_Cx p s m args c cc nL RX2 G B0) {fs : List Value} (hP : b_at G a (.inr (4, fs)) H) {v : Value} (hv : fs[2]? = some v) (hdg : decode cc pc = .ok (.getfield 93, 3)) (kk : W p l e R s m args below meth c H locs cells slots Q (F0 m (pc + 3) ls (v :: rest))) : W p l e R s m args below meth c H locs cells slots Q (F0 m pc ls (.ref a :: rest)) := b_getN CX in_X4 rfl 2 (by decide) q998 (Or.inl rfl) hP hv hdg kk
theorem pf_X2_93_4 {p : Program} {l : Launch} {e : Env} {R : Room} {s : State} {m : MethodId} {args : Array Value} {below : List Frame} {meth : Method} {c : Code} {H : Heap} {locs : List Loc} {cells slots : Nat} {Q : State → Prop} {cc : ByteArray} {pc nL a : Nat} {ls : Array Slot} {rest : List Value} {G : b_G} {B0 : Nat} (CX : b_Cx p s m args c cc nL RX2 G B0) {fs : List Value} (hP : b_at G a (.inr (4, fs)) H) (hS : va_S (b_A B0) s.heap H locs) (ha : B0 ≤ a) {v : Value} (hn : narrow (tyX4 2) v = v) (hfit : fits (tyX4 2) v = true) (hl : 2 < fs.length) (hdg : decode cc pc = .ok (.putfield 93, 3)) (kk : ∀ (H1 : Heap) (locs1 : List Loc), b_at G a (.inr (4, fs.set 2 v)) H1 → b_Up a H H1 → va_S (b_A B0) s.heap H1 locs1 → W p l e R s m args below meth c H1 locs1 cells slots Q (F0 m (pc + 3) ls rest)) : W p l e R s m args below meth c H locs cells slots Q (F0 m pc ls (v :: .ref a :: rest)) := b_putN CX in_X4 tyX4 tyX4_ok rfl 2 (by decide) (by decide +kernel) q998 (Or.inl rfl) rfl hP hS ha hn hfit hl hdg kk
theorem gf_X2_96_4 {p : Program} {l : Launch} {e : Env} {R : Room} {s : State} {m : MethodId} {args : Array Value} {below : List Frame} {meth : Method} {c : Code} {H : Heap} {locs : List Loc} {cells slots : Nat} {Q : State → Prop} {cc : ByteArray} {pc nL a : Nat} {ls : Array Slot} {rest : List Value} {G : b_G} {B0 : Nat} (CX : b_Cx p s m args c cc nL RX2 G B0) {fs : List Value} (hP : b_at G a (.inr (4, fs)) H) {v : Value} (hv : fs[7]? = some v) (hdg : decode cc pc = .ok (.getfield 96, 3)) (kk : W p l e R s m args below meth c H locs cells slots Q (F0 m (pc + 3) ls (v :: rest))) : W p l e R s m args below meth c H locs cells slots Q (F0 m pc ls (.ref a :: rest)) := b_getN CX in_X4 rfl 7 (by decide) q1013 (Or.inl rfl) hP hv hdg kk
theorem pf_X2_96_4 {p : Program} {l : Launch} {e : Env} {R : Room} {s : State} {m : MethodId} {args : Array Value} {below : List Frame} {meth : Method} {c : Code} {H : Heap} {locs : List Loc} {cells slots : Nat} {Q : State → Prop} {cc : ByteArray} {pc nL a : Nat} {ls : Array Slot} {rest : List Value} {G : b_G} {B0 : Nat} (CX : b_Cx p s m args c cc nL RX2 G B0) {fs : List Value} (hP : b_at G a (.inr (4, fs)) H) (hS : va_S (b_A B0) s.heap H locs) (ha : B0 ≤ a) {v : Value} (hn : narrow (tyX4 7) v = v) (hfit : fits (tyX4 7) v = true) (hl : 7 < fs.length) (hdg : decode cc pc = .ok (.putfield 96, 3)) (kk : ∀ (H1 : Heap) (locs1 : List Loc), b_at G a (.inr (4, fs.set 7 v)) H1 → b_Up a H H1 → va_S (b_A B0) s.heap H1 locs1 → W p l e R s m args below meth c H1 locs1 cells slots Q (F0 m (pc + 3) ls rest)) : W p l e R s m args below meth c H locs cells slots Q (F0 m pc ls (v :: .ref a :: rest)) := b_putN CX in_X4 tyX4 tyX4_ok rfl 7 (by decide) (by decide +kernel) q1013 (Or.inl rfl) rfl hP hS ha hn hfit hl hdg kk
theorem pf_X2_79_4 {p : Program} {l : Launch} {e : Env} {R : Room} {s : State} {m : MethodId} {args : Array Value} {below : List Frame} {meth : Method} {c : Code} {H : Heap} {locs : List Loc} {cells slots : Nat} {Q : State → Prop} {cc : ByteArray} {pc nL a : Nat} {ls : Array Slot} {rest : List Value} {G : b_G} {B0 : Nat} (CX : b_Cx p s m args c cc nL RX2 G B0) {fs : List Value} (hP : b_at G a (.inr (4, fs)) H) (hS : va_S (b_A B0) s.heap H locs) (ha : B0 ≤ a) {v : Value} (hn : narrow (tyX4 8) v = v) (hfit : fits (tyX4 8) v = true) (hl : 8 < fs.length) (hdg : decode cc pc = .ok (.putfield 79, 3)) (kk : ∀ (H1 : Heap) (locs1 : List Loc), b_at G a (.inr (4, fs.set 8 v)) H1 → b_Up a H H1 → va_S (b_A B0) s.heap H1 locs1 → W p l e R s m args below meth c H1 locs1 cells slots Q (F0 m (pc + 3) ls rest)) : W p l e R s m args below meth c H locs cells slots Q (F0 m pc ls (v :: .ref a :: rest)) := b_putN CX in_X4 tyX4 tyX4_ok rfl 8 (by decide) (by decide +kernel) q1016 (Or.inl rfl) rfl hP hS ha hn hfit hl hdg kk
set_option maxHeartbeats 2000000 in
set_option maxRecDepth 100000 in
theorem m_X2_fill (l : Launch) {G : b_G} {B0 : Nat} {H : Heap} {τ : b_T} {id : Nat} {F : Nat → Nat} {M : Nat → Int32} {E : Nat → Bool} {S : b_St} {Z : Nat → Nat → Int32} {b : Nat} {n_ : Int32} (hL : LR G B0 τ id F M E H S Z) (hW : b_WF S) (hb : b < nb S) : Met l yX2_fill (ws_ yX2_fill cX2_fill 4 (Option.some Jvm.ClassFile.FieldType.int)) ({ frames := 1, cells := 0, slots := 0, locals := 22 } : Room) (b_Pc G B0 H [.ref ((F 0)), .ref ((F (20 + b))), .int n_]) (b_Qi B0 (fun r H1 => r = p_full S b n_ ∧ b_Fr τ (fun t => 1000 * id ≤ t ∧ t < 1000 * id + 1000) H H1 ∧ LR G B0 τ id F M E H1 ((s_fill S b n_)) Z)) 0 0 (b_A B0) := by
  refine b_of (by decide) (Nat.le_of_ble_eq_true rfl) ?_
  intro p e s m below meth c CX hr hlk hnm hS ls hl
  have CX : b_Cx p s m _ c cX2_fill 4 RX2 G B0 := CX
  have hx := CX.hx
  have hb := CX.hb
  have hl : lv_has ls 4 [(0, .ref ((F 0))), (1, .ref ((F (20 + b)))), (2, .int n_)] := hl
  generalize hQ : MQ below (b_Qi B0 (fun r H1 => r = p_full S b n_ ∧ b_Fr τ (fun t => 1000 * id ≤ t ∧ t < 1000 * id + 1000) H H1 ∧ LR G B0 τ id F M E H1 ((s_fill S b n_)) Z)) ([.ref ((F 0)), .ref ((F (20 + b))), .int n_] : List Value).toArray s 0 0 (b_A B0) = Q
  have hF : b_Fr τ (fun t => 1000 * id ≤ t ∧ t < 1000 * id + 1000) H H := b_Fr.rf
  have hA : b_Ag τ τ H := b_Ag.rf
  have hnb : nb S = nb S := rfl
  have hns : ns S = ns S := rfl
  have hn8 := hL.2.2.2.1
  have hn6 := hL.2.2.2.2
  refine lv_aload_n hx hb dX2_fill_0 rfl (lv_at hl 0 rfl) ?_
  refine lv_aload_n hx hb dX2_fill_1 rfl (lv_at hl 1 rfl) ?_
  refine lv_iload_n hx hb dX2_fill_2 rfl (lv_at hl 2 rfl) ?_
  refine b_ci0 (cs_X2_89 (rest := []) CX hl.1 (m_X2_wornBy l (b := b) (n_ := n_) hL hW (by omega)) rfl rfl rfl hL.loop.at hS rfl ⟨rfl, rfl, Nat.le_of_ble_eq_true rfl, Nat.le_of_ble_eq_true rfl⟩ (Nat.le_of_ble_eq_true rfl) dX2_fill_3 ⟨Nat.le_of_ble_eq_true rfl, Nat.le_of_ble_eq_true rfl⟩) hS (fun locs hS => ?_)
  refine lv_istore_n (lv' := [(3, .int ((S 1 b 8 + n_) / S 0 0 12 - S 1 b 8 / S 0 0 12)), (0, .ref ((F 0))), (1, .ref ((F (20 + b)))), (2, .int n_)]) hx hb dX2_fill_6 rfl hl (Nat.le_of_ble_eq_true rfl) rfl (fun ls hl => ?_)
  refine lv_aload_n hx hb dX2_fill_7 rfl (lv_at hl 2 rfl) ?_
  refine lv_dup hx hb dX2_fill_8 rfl ?_
  refine gf_X2_82_4 CX (hL.brand (k := b) (by omega)).at rfl dX2_fill_9 ?_
  refine lv_iload_n hx hb dX2_fill_12 rfl (lv_at hl 3 rfl) ?_
  refine lv_isub hx hb dX2_fill_13 ?_
  refine pf_X2_82_4 CX (hL.brand (k := b) (by omega)).at hS (hL.brand (k := b) (by omega)).B rfl rfl (Nat.le_of_ble_eq_true rfl) dX2_fill_14 (fun H1 locs hat hu hS => ?_)
  have hF := hF.up hA hu (hL.brand (k := b) (by omega)).tag (fun _ => show 1000 * id ≤ (1000 * id + (20 + b)) ∧ (1000 * id + (20 + b)) < 1000 * id + 1000 by omega)
  have hL : LR G B0 τ id F M E H1 ((u3 S 1 b 1 ((S 1 b 1) - n_))) Z := hL.set1 (k := b) (w := 1) (by omega) hat hu (by simp [u3])
  have hnb : nb ((u3 S 1 b 1 ((S 1 b 1) - n_))) = nb S := (nb_u (by omega)).trans hnb
  have hns : ns ((u3 S 1 b 1 ((S 1 b 1) - n_))) = ns S := (ns_u (by omega)).trans hns
  refine lv_aload_n hx hb dX2_fill_17 rfl (lv_at hl 2 rfl) ?_
  refine lv_dup hx hb dX2_fill_18 rfl ?_
  refine gf_X2_93_4 CX (hL.brand (k := b) (by omega)).at (v := .int (S 1 b 2)) (congrArg (fun q => some (Value.int q)) (by simp [u3])) dX2_fill_19 ?_
  refine lv_iload_n hx hb dX2_fill_22 rfl (lv_at hl 3 rfl) ?_
  refine lv_iload_n hx hb dX2_fill_23 rfl (lv_at hl 0 rfl) ?_
  refine lv_isub hx hb dX2_fill_24 ?_
  refine lv_iadd hx hb dX2_fill_25 ?_
  refine pf_X2_93_4 CX (hL.brand (k := b) (by omega)).at hS (hL.brand (k := b) (by omega)).B rfl rfl (Nat.le_of_ble_eq_true rfl) dX2_fill_26 (fun H2 locs hat hu hS => ?_)
  have hF := hF.up hA hu (hL.brand (k := b) (by omega)).tag (fun _ => show 1000 * id ≤ (1000 * id + (20 + b)) ∧ (1000 * id + (20 + b)) < 1000 * id + 1000 by omega)
  have hL : LR G B0 τ id F M E H2 ((u3 (u3 S 1 b 1 ((S 1 b 1) - n_)) 1 b 2 ((S 1 b 2) + (n_ - ((S 1 b 8 + n_) / S 0 0 12 - S 1 b 8 / S 0 0 12))))) Z := hL.set1 (k := b) (w := 2) (by omega) hat hu (by simp [u3])
  have hnb : nb ((u3 (u3 S 1 b 1 ((S 1 b 1) - n_)) 1 b 2 ((S 1 b 2) + (n_ - ((S 1 b 8 + n_) / S 0 0 12 - S 1 b 8 / S 0 0 12))))) = nb S := (nb_u (by omega)).trans hnb
  have hns : ns ((u3 (u3 S 1 b 1 ((S 1 b 1) - n_)) 1 b 2 ((S 1 b 2) + (n_ - ((S 1 b 8 + n_) / S 0 0 12 - S 1 b 8 / S 0 0 12))))) = ns S := (ns_u (by omega)).trans hns
  refine lv_aload_n hx hb dX2_fill_29 rfl (lv_at hl 2 rfl) ?_
  refine lv_dup hx hb dX2_fill_30 rfl ?_
  refine gf_X2_96_4 CX (hL.brand (k := b) (by omega)).at (v := .int (S 1 b 7)) (congrArg (fun q => some (Value.int q)) (by simp [u3])) dX2_fill_31 ?_
  refine lv_iload_n hx hb dX2_fill_34 rfl (lv_at hl 0 rfl) ?_
  refine lv_iadd hx hb dX2_fill_35 ?_
  refine pf_X2_96_4 CX (hL.brand (k := b) (by omega)).at hS (hL.brand (k := b) (by omega)).B rfl rfl (Nat.le_of_ble_eq_true rfl) dX2_fill_36 (fun H3 locs hat hu hS => ?_)
  have hF := hF.up hA hu (hL.brand (k := b) (by omega)).tag (fun _ => show 1000 * id ≤ (1000 * id + (20 + b)) ∧ (1000 * id + (20 + b)) < 1000 * id + 1000 by omega)
  have hL : LR G B0 τ id F M E H3 ((u3 (u3 (u3 S 1 b 1 ((S 1 b 1) - n_)) 1 b 2 ((S 1 b 2) + (n_ - ((S 1 b 8 + n_) / S 0 0 12 - S 1 b 8 / S 0 0 12)))) 1 b 7 ((S 1 b 7) + ((S 1 b 8 + n_) / S 0 0 12 - S 1 b 8 / S 0 0 12)))) Z := hL.set1 (k := b) (w := 7) (by omega) hat hu (by simp [u3])
  have hnb : nb ((u3 (u3 (u3 S 1 b 1 ((S 1 b 1) - n_)) 1 b 2 ((S 1 b 2) + (n_ - ((S 1 b 8 + n_) / S 0 0 12 - S 1 b 8 / S 0 0 12)))) 1 b 7 ((S 1 b 7) + ((S 1 b 8 + n_) / S 0 0 12 - S 1 b 8 / S 0 0 12)))) = nb S := (nb_u (by omega)).trans hnb
  have hns : ns ((u3 (u3 (u3 S 1 b 1 ((S 1 b 1) - n_)) 1 b 2 ((S 1 b 2) + (n_ - ((S 1 b 8 + n_) / S 0 0 12 - S 1 b 8 / S 0 0 12)))) 1 b 7 ((S 1 b 7) + ((S 1 b 8 + n_) / S 0 0 12 - S 1 b 8 / S 0 0 12)))) = ns S := (ns_u (by omega)).trans hns
  refine lv_aload_n hx hb dX2_fill_39 rfl (lv_at hl 2 rfl) ?_
  refine lv_dup hx hb dX2_fill_40 rfl ?_
  refine gf_X2_79_4 CX (hL.brand (k := b) (by omega)).at (v := .int (S 1 b 8)) (congrArg (fun q => some (Value.int q)) (by simp [u3])) dX2_fill_41 ?_
  refine lv_iload_n hx hb dX2_fill_44 rfl (lv_at hl 3 rfl) ?_
  refine lv_iadd hx hb dX2_fill_45 ?_
  refine pf_X2_79_4 CX (hL.brand (k := b) (by omega)).at hS (hL.brand (k := b) (by omega)).B rfl rfl (Nat.le_of_ble_eq_true rfl) dX2_fill_46 (fun H4 locs hat hu hS => ?_)
  have hF := hF.up hA hu (hL.brand (k := b) (by omega)).tag (fun _ => show 1000 * id ≤ (1000 * id + (20 + b)) ∧ (1000 * id + (20 + b)) < 1000 * id + 1000 by omega)
  have hL : LR G B0 τ id F M E H4 ((u3 (u3 (u3 (u3 S 1 b 1 ((S 1 b 1) - n_)) 1 b 2 ((S 1 b 2) + (n_ - ((S 1 b 8 + n_) / S 0 0 12 - S 1 b 8 / S 0 0 12)))) 1 b 7 ((S 1 b 7) + ((S 1 b 8 + n_) / S 0 0 12 - S 1 b 8 / S 0 0 12))) 1 b 8 ((S 1 b 8) + n_))) Z := hL.set1 (k := b) (w := 8) (by omega) hat hu (by simp [u3])
  have hnb : nb ((u3 (u3 (u3 (u3 S 1 b 1 ((S 1 b 1) - n_)) 1 b 2 ((S 1 b 2) + (n_ - ((S 1 b 8 + n_) / S 0 0 12 - S 1 b 8 / S 0 0 12)))) 1 b 7 ((S 1 b 7) + ((S 1 b 8 + n_) / S 0 0 12 - S 1 b 8 / S 0 0 12))) 1 b 8 ((S 1 b 8) + n_))) = nb S := (nb_u (by omega)).trans hnb
  have hns : ns ((u3 (u3 (u3 (u3 S 1 b 1 ((S 1 b 1) - n_)) 1 b 2 ((S 1 b 2) + (n_ - ((S 1 b 8 + n_) / S 0 0 12 - S 1 b 8 / S 0 0 12)))) 1 b 7 ((S 1 b 7) + ((S 1 b 8 + n_) / S 0 0 12 - S 1 b 8 / S 0 0 12))) 1 b 8 ((S 1 b 8) + n_))) = ns S := (ns_u (by omega)).trans hns
  refine lv_iload_n hx hb dX2_fill_49 rfl (lv_at hl 3 rfl) ?_
  refine lv_iload_n hx hb dX2_fill_50 rfl (lv_at hl 0 rfl) ?_
  refine lv_isub hx hb dX2_fill_51 ?_
  rw [← hQ]
  exact b_iret CX hr hlk hS (Nat.le_of_ble_eq_true rfl) (Nat.le_of_ble_eq_true rfl) dX2_fill_52 (⟨rfl, hF, (by have e9 : n_ - p_full S b n_ = ((S 1 b 8 + n_) / S 0 0 12 - S 1 b 8 / S 0 0 12) := (by unfold p_full; grind); unfold s_fill; rw [e9]; exact hL)⟩)
theorem gf_X2_118_5 {p : Program} {l : Launch} {e : Env} {R : Room} {s : State} {m : MethodId} {args : Array Value} {below : List Frame} {meth : Method} {c : Code} {H : Heap} {locs : List Loc} {cells slots : Nat} {Q : State → Prop} {cc : ByteArray} {pc nL a : Nat} {ls : Array Slot} {rest : List Value} {G : b_G} {B0 : Nat} (CX : b_Cx p s m args c cc nL RX2 G B0) {fs : List Value} (hP : b_at G a (.inr (5, fs)) H) {v : Value} (hv : fs[0]? = some v) (hdg : decode cc pc = .ok (.getfield 118, 3)) (kk : W p l e R s m args below meth c H locs cells slots Q (F0 m (pc + 3) ls (v :: rest))) : W p l e R s m args below meth c H locs cells slots Q (F0 m pc ls (.ref a :: rest)) := b_getN CX in_X5 rfl 0 (by decide) q1055 (Or.inl rfl) hP hv hdg kk
theorem gf_X2_60_1 {p : Program} {l : Launch} {e : Env} {R : Room} {s : State} {m : MethodId} {args : Array Value} {below : List Frame} {meth : Method} {c : Code} {H : Heap} {locs : List Loc} {cells slots : Nat} {Q : State → Prop} {cc : ByteArray} {pc nL a : Nat} {ls : Array Slot} {rest : List Value} {G : b_G} {B0 : Nat} (CX : b_Cx p s m args c cc nL RX2 G B0) {fs : List Value} (hP : b_at G a (.inr (1, fs)) H) {v : Value} (hv : fs[4]? = some v) (hdg : decode cc pc = .ok (.getfield 60, 3)) (kk : W p l e R s m args below meth c H locs cells slots Q (F0 m (pc + 3) ls (v :: rest))) : W p l e R s m args below meth c H locs cells slots Q (F0 m pc ls (.ref a :: rest)) := b_get CX in_X2 rfl 4 (by decide) q183 (Or.inl rfl) hP hv hdg kk
theorem pf_X2_60_1 {p : Program} {l : Launch} {e : Env} {R : Room} {s : State} {m : MethodId} {args : Array Value} {below : List Frame} {meth : Method} {c : Code} {H : Heap} {locs : List Loc} {cells slots : Nat} {Q : State → Prop} {cc : ByteArray} {pc nL a : Nat} {ls : Array Slot} {rest : List Value} {G : b_G} {B0 : Nat} (CX : b_Cx p s m args c cc nL RX2 G B0) {fs : List Value} (hP : b_at G a (.inr (1, fs)) H) (hS : va_S (b_A B0) s.heap H locs) (ha : B0 ≤ a) {v : Value} (hn : narrow (tyX2 4) v = v) (hfit : fits (tyX2 4) v = true) (hl : 4 < fs.length) (hdg : decode cc pc = .ok (.putfield 60, 3)) (kk : ∀ (H1 : Heap) (locs1 : List Loc), b_at G a (.inr (1, fs.set 4 v)) H1 → b_Up a H H1 → va_S (b_A B0) s.heap H1 locs1 → W p l e R s m args below meth c H1 locs1 cells slots Q (F0 m (pc + 3) ls rest)) : W p l e R s m args below meth c H locs cells slots Q (F0 m pc ls (v :: .ref a :: rest)) := b_put CX in_X2 tyX2 tyX2_ok rfl 4 (by decide) (by decide +kernel) q183 (Or.inl rfl) rfl hP hS ha hn hfit hl hdg kk
theorem gf_X2_120_5 {p : Program} {l : Launch} {e : Env} {R : Room} {s : State} {m : MethodId} {args : Array Value} {below : List Frame} {meth : Method} {c : Code} {H : Heap} {locs : List Loc} {cells slots : Nat} {Q : State → Prop} {cc : ByteArray} {pc nL a : Nat} {ls : Array Slot} {rest : List Value} {G : b_G} {B0 : Nat} (CX : b_Cx p s m args c cc nL RX2 G B0) {fs : List Value} (hP : b_at G a (.inr (5, fs)) H) {v : Value} (hv : fs[3]? = some v) (hdg : decode cc pc = .ok (.getfield 120, 3)) (kk : W p l e R s m args below meth c H locs cells slots Q (F0 m (pc + 3) ls (v :: rest))) : W p l e R s m args below meth c H locs cells slots Q (F0 m pc ls (.ref a :: rest)) := b_getN CX in_X5 rfl 3 (by decide) q1064 (Or.inl rfl) hP hv hdg kk
theorem pf_X2_120_5 {p : Program} {l : Launch} {e : Env} {R : Room} {s : State} {m : MethodId} {args : Array Value} {below : List Frame} {meth : Method} {c : Code} {H : Heap} {locs : List Loc} {cells slots : Nat} {Q : State → Prop} {cc : ByteArray} {pc nL a : Nat} {ls : Array Slot} {rest : List Value} {G : b_G} {B0 : Nat} (CX : b_Cx p s m args c cc nL RX2 G B0) {fs : List Value} (hP : b_at G a (.inr (5, fs)) H) (hS : va_S (b_A B0) s.heap H locs) (ha : B0 ≤ a) {v : Value} (hn : narrow (tyX5 3) v = v) (hfit : fits (tyX5 3) v = true) (hl : 3 < fs.length) (hdg : decode cc pc = .ok (.putfield 120, 3)) (kk : ∀ (H1 : Heap) (locs1 : List Loc), b_at G a (.inr (5, fs.set 3 v)) H1 → b_Up a H H1 → va_S (b_A B0) s.heap H1 locs1 → W p l e R s m args below meth c H1 locs1 cells slots Q (F0 m (pc + 3) ls rest)) : W p l e R s m args below meth c H locs cells slots Q (F0 m pc ls (v :: .ref a :: rest)) := b_putN CX in_X5 tyX5 tyX5_ok rfl 3 (by decide) (by decide +kernel) q1064 (Or.inl rfl) rfl hP hS ha hn hfit hl hdg kk
theorem gf_X2_109_5 {p : Program} {l : Launch} {e : Env} {R : Room} {s : State} {m : MethodId} {args : Array Value} {below : List Frame} {meth : Method} {c : Code} {H : Heap} {locs : List Loc} {cells slots : Nat} {Q : State → Prop} {cc : ByteArray} {pc nL a : Nat} {ls : Array Slot} {rest : List Value} {G : b_G} {B0 : Nat} (CX : b_Cx p s m args c cc nL RX2 G B0) {fs : List Value} (hP : b_at G a (.inr (5, fs)) H) {v : Value} (hv : fs[2]? = some v) (hdg : decode cc pc = .ok (.getfield 109, 3)) (kk : W p l e R s m args below meth c H locs cells slots Q (F0 m (pc + 3) ls (v :: rest))) : W p l e R s m args below meth c H locs cells slots Q (F0 m pc ls (.ref a :: rest)) := b_getN CX in_X5 rfl 2 (by decide) q1061 (Or.inl rfl) hP hv hdg kk
theorem pf_X2_109_5 {p : Program} {l : Launch} {e : Env} {R : Room} {s : State} {m : MethodId} {args : Array Value} {below : List Frame} {meth : Method} {c : Code} {H : Heap} {locs : List Loc} {cells slots : Nat} {Q : State → Prop} {cc : ByteArray} {pc nL a : Nat} {ls : Array Slot} {rest : List Value} {G : b_G} {B0 : Nat} (CX : b_Cx p s m args c cc nL RX2 G B0) {fs : List Value} (hP : b_at G a (.inr (5, fs)) H) (hS : va_S (b_A B0) s.heap H locs) (ha : B0 ≤ a) {v : Value} (hn : narrow (tyX5 2) v = v) (hfit : fits (tyX5 2) v = true) (hl : 2 < fs.length) (hdg : decode cc pc = .ok (.putfield 109, 3)) (kk : ∀ (H1 : Heap) (locs1 : List Loc), b_at G a (.inr (5, fs.set 2 v)) H1 → b_Up a H H1 → va_S (b_A B0) s.heap H1 locs1 → W p l e R s m args below meth c H1 locs1 cells slots Q (F0 m (pc + 3) ls rest)) : W p l e R s m args below meth c H locs cells slots Q (F0 m pc ls (v :: .ref a :: rest)) := b_putN CX in_X5 tyX5 tyX5_ok rfl 2 (by decide) (by decide +kernel) q1061 (Or.inl rfl) rfl hP hS ha hn hfit hl hdg kk
theorem gf_X2_123_5 {p : Program} {l : Launch} {e : Env} {R : Room} {s : State} {m : MethodId} {args : Array Value} {below : List Frame} {meth : Method} {c : Code} {H : Heap} {locs : List Loc} {cells slots : Nat} {Q : State → Prop} {cc : ByteArray} {pc nL a : Nat} {ls : Array Slot} {rest : List Value} {G : b_G} {B0 : Nat} (CX : b_Cx p s m args c cc nL RX2 G B0) {fs : List Value} (hP : b_at G a (.inr (5, fs)) H) {v : Value} (hv : fs[4]? = some v) (hdg : decode cc pc = .ok (.getfield 123, 3)) (kk : W p l e R s m args below meth c H locs cells slots Q (F0 m (pc + 3) ls (v :: rest))) : W p l e R s m args below meth c H locs cells slots Q (F0 m pc ls (.ref a :: rest)) := b_getN CX in_X5 rfl 4 (by decide) q1067 (Or.inl rfl) hP hv hdg kk
theorem pf_X2_123_5 {p : Program} {l : Launch} {e : Env} {R : Room} {s : State} {m : MethodId} {args : Array Value} {below : List Frame} {meth : Method} {c : Code} {H : Heap} {locs : List Loc} {cells slots : Nat} {Q : State → Prop} {cc : ByteArray} {pc nL a : Nat} {ls : Array Slot} {rest : List Value} {G : b_G} {B0 : Nat} (CX : b_Cx p s m args c cc nL RX2 G B0) {fs : List Value} (hP : b_at G a (.inr (5, fs)) H) (hS : va_S (b_A B0) s.heap H locs) (ha : B0 ≤ a) {v : Value} (hn : narrow (tyX5 4) v = v) (hfit : fits (tyX5 4) v = true) (hl : 4 < fs.length) (hdg : decode cc pc = .ok (.putfield 123, 3)) (kk : ∀ (H1 : Heap) (locs1 : List Loc), b_at G a (.inr (5, fs.set 4 v)) H1 → b_Up a H H1 → va_S (b_A B0) s.heap H1 locs1 → W p l e R s m args below meth c H1 locs1 cells slots Q (F0 m (pc + 3) ls rest)) : W p l e R s m args below meth c H locs cells slots Q (F0 m pc ls (v :: .ref a :: rest)) := b_putN CX in_X5 tyX5 tyX5_ok rfl 4 (by decide) (by decide +kernel) q1067 (Or.inl rfl) rfl hP hS ha hn hfit hl hdg kk
theorem gf_X2_126_5 {p : Program} {l : Launch} {e : Env} {R : Room} {s : State} {m : MethodId} {args : Array Value} {below : List Frame} {meth : Method} {c : Code} {H : Heap} {locs : List Loc} {cells slots : Nat} {Q : State → Prop} {cc : ByteArray} {pc nL a : Nat} {ls : Array Slot} {rest : List Value} {G : b_G} {B0 : Nat} (CX : b_Cx p s m args c cc nL RX2 G B0) {fs : List Value} (hP : b_at G a (.inr (5, fs)) H) {v : Value} (hv : fs[5]? = some v) (hdg : decode cc pc = .ok (.getfield 126, 3)) (kk : W p l e R s m args below meth c H locs cells slots Q (F0 m (pc + 3) ls (v :: rest))) : W p l e R s m args below meth c H locs cells slots Q (F0 m pc ls (.ref a :: rest)) := b_getN CX in_X5 rfl 5 (by decide) q1070 (Or.inl rfl) hP hv hdg kk
theorem pf_X2_126_5 {p : Program} {l : Launch} {e : Env} {R : Room} {s : State} {m : MethodId} {args : Array Value} {below : List Frame} {meth : Method} {c : Code} {H : Heap} {locs : List Loc} {cells slots : Nat} {Q : State → Prop} {cc : ByteArray} {pc nL a : Nat} {ls : Array Slot} {rest : List Value} {G : b_G} {B0 : Nat} (CX : b_Cx p s m args c cc nL RX2 G B0) {fs : List Value} (hP : b_at G a (.inr (5, fs)) H) (hS : va_S (b_A B0) s.heap H locs) (ha : B0 ≤ a) {v : Value} (hn : narrow (tyX5 5) v = v) (hfit : fits (tyX5 5) v = true) (hl : 5 < fs.length) (hdg : decode cc pc = .ok (.putfield 126, 3)) (kk : ∀ (H1 : Heap) (locs1 : List Loc), b_at G a (.inr (5, fs.set 5 v)) H1 → b_Up a H H1 → va_S (b_A B0) s.heap H1 locs1 → W p l e R s m args below meth c H1 locs1 cells slots Q (F0 m (pc + 3) ls rest)) : W p l e R s m args below meth c H locs cells slots Q (F0 m pc ls (v :: .ref a :: rest)) := b_putN CX in_X5 tyX5 tyX5_ok rfl 5 (by decide) (by decide +kernel) q1070 (Or.inl rfl) rfl hP hS ha hn hfit hl hdg kk
theorem gf_X2_64_1 {p : Program} {l : Launch} {e : Env} {R : Room} {s : State} {m : MethodId} {args : Array Value} {below : List Frame} {meth : Method} {c : Code} {H : Heap} {locs : List Loc} {cells slots : Nat} {Q : State → Prop} {cc : ByteArray} {pc nL a : Nat} {ls : Array Slot} {rest : List Value} {G : b_G} {B0 : Nat} (CX : b_Cx p s m args c cc nL RX2 G B0) {fs : List Value} (hP : b_at G a (.inr (1, fs)) H) {v : Value} (hv : fs[5]? = some v) (hdg : decode cc pc = .ok (.getfield 64, 3)) (kk : W p l e R s m args below meth c H locs cells slots Q (F0 m (pc + 3) ls (v :: rest))) : W p l e R s m args below meth c H locs cells slots Q (F0 m pc ls (.ref a :: rest)) := b_get CX in_X2 rfl 5 (by decide) q185 (Or.inl rfl) hP hv hdg kk
theorem pf_X2_64_1 {p : Program} {l : Launch} {e : Env} {R : Room} {s : State} {m : MethodId} {args : Array Value} {below : List Frame} {meth : Method} {c : Code} {H : Heap} {locs : List Loc} {cells slots : Nat} {Q : State → Prop} {cc : ByteArray} {pc nL a : Nat} {ls : Array Slot} {rest : List Value} {G : b_G} {B0 : Nat} (CX : b_Cx p s m args c cc nL RX2 G B0) {fs : List Value} (hP : b_at G a (.inr (1, fs)) H) (hS : va_S (b_A B0) s.heap H locs) (ha : B0 ≤ a) {v : Value} (hn : narrow (tyX2 5) v = v) (hfit : fits (tyX2 5) v = true) (hl : 5 < fs.length) (hdg : decode cc pc = .ok (.putfield 64, 3)) (kk : ∀ (H1 : Heap) (locs1 : List Loc), b_at G a (.inr (1, fs.set 5 v)) H1 → b_Up a H H1 → va_S (b_A B0) s.heap H1 locs1 → W p l e R s m args below meth c H1 locs1 cells slots Q (F0 m (pc + 3) ls rest)) : W p l e R s m args below meth c H locs cells slots Q (F0 m pc ls (v :: .ref a :: rest)) := b_put CX in_X2 tyX2 tyX2_ok rfl 5 (by decide) (by decide +kernel) q185 (Or.inl rfl) rfl hP hS ha hn hfit hl hdg kk
theorem gf_X2_70_1 {p : Program} {l : Launch} {e : Env} {R : Room} {s : State} {m : MethodId} {args : Array Value} {below : List Frame} {meth : Method} {c : Code} {H : Heap} {locs : List Loc} {cells slots : Nat} {Q : State → Prop} {cc : ByteArray} {pc nL a : Nat} {ls : Array Slot} {rest : List Value} {G : b_G} {B0 : Nat} (CX : b_Cx p s m args c cc nL RX2 G B0) {fs : List Value} (hP : b_at G a (.inr (1, fs)) H) {v : Value} (hv : fs[7]? = some v) (hdg : decode cc pc = .ok (.getfield 70, 3)) (kk : W p l e R s m args below meth c H locs cells slots Q (F0 m (pc + 3) ls (v :: rest))) : W p l e R s m args below meth c H locs cells slots Q (F0 m pc ls (.ref a :: rest)) := b_get CX in_X2 rfl 7 (by decide) q189 (Or.inl rfl) hP hv hdg kk
theorem pf_X2_70_1 {p : Program} {l : Launch} {e : Env} {R : Room} {s : State} {m : MethodId} {args : Array Value} {below : List Frame} {meth : Method} {c : Code} {H : Heap} {locs : List Loc} {cells slots : Nat} {Q : State → Prop} {cc : ByteArray} {pc nL a : Nat} {ls : Array Slot} {rest : List Value} {G : b_G} {B0 : Nat} (CX : b_Cx p s m args c cc nL RX2 G B0) {fs : List Value} (hP : b_at G a (.inr (1, fs)) H) (hS : va_S (b_A B0) s.heap H locs) (ha : B0 ≤ a) {v : Value} (hn : narrow (tyX2 7) v = v) (hfit : fits (tyX2 7) v = true) (hl : 7 < fs.length) (hdg : decode cc pc = .ok (.putfield 70, 3)) (kk : ∀ (H1 : Heap) (locs1 : List Loc), b_at G a (.inr (1, fs.set 7 v)) H1 → b_Up a H H1 → va_S (b_A B0) s.heap H1 locs1 → W p l e R s m args below meth c H1 locs1 cells slots Q (F0 m (pc + 3) ls rest)) : W p l e R s m args below meth c H locs cells slots Q (F0 m pc ls (v :: .ref a :: rest)) := b_put CX in_X2 tyX2 tyX2_ok rfl 7 (by decide) (by decide +kernel) q189 (Or.inl rfl) rfl hP hS ha hn hfit hl hdg kk
set_option maxHeartbeats 2000000 in
set_option maxRecDepth 100000 in
theorem m_X2_deliver (l : Launch) {G : b_G} {B0 : Nat} {H : Heap} {τ : b_T} {id : Nat} {F : Nat → Nat} {M : Nat → Int32} {E : Nat → Bool} {S : b_St} {Z : Nat → Nat → Int32} {b : Nat} {s_ : Nat} {c_ : Int32} (hL : LR G B0 τ id F M E H S Z) (hW : b_WF S) (hb : b < nb S) (hs : s_ < ns S) : Met l yX2_deliver (ws_ yX2_deliver cX2_deliver 7 (Option.some Jvm.ClassFile.FieldType.int)) ({ frames := 3, cells := 0, slots := 0, locals := 64 } : Room) (b_Pc G B0 H [.ref ((F 0)), .int (nI b), .ref ((F (30 + s_))), .int c_]) (b_Qi B0 (fun r H1 => r = p_price S b c_ ∧ b_Fr τ (fun t => 1000 * id ≤ t ∧ t < 1000 * id + 1000) H H1 ∧ LR G B0 τ id F M E H1 ((s_deliver S b s_ c_)) Z)) 0 0 (b_A B0) := by
  refine b_of (by decide) (Nat.le_of_ble_eq_true rfl) ?_
  intro p e s m below meth c CX hr hlk hnm hS ls hl
  have CX : b_Cx p s m _ c cX2_deliver 7 RX2 G B0 := CX
  have hx := CX.hx
  have hb := CX.hb
  have hl : lv_has ls 7 [(0, .ref ((F 0))), (1, .int (nI b)), (2, .ref ((F (30 + s_)))), (3, .int c_)] := hl
  generalize hQ : MQ below (b_Qi B0 (fun r H1 => r = p_price S b c_ ∧ b_Fr τ (fun t => 1000 * id ≤ t ∧ t < 1000 * id + 1000) H H1 ∧ LR G B0 τ id F M E H1 ((s_deliver S b s_ c_)) Z)) ([.ref ((F 0)), .int (nI b), .ref ((F (30 + s_))), .int c_] : List Value).toArray s 0 0 (b_A B0) = Q
  have hF : b_Fr τ (fun t => 1000 * id ≤ t ∧ t < 1000 * id + 1000) H H := b_Fr.rf
  have hA : b_Ag τ τ H := b_Ag.rf
  have hnb : nb S = nb S := rfl
  have hns : ns S = ns S := rfl
  have hn8 := hL.2.2.2.1
  have hn6 := hL.2.2.2.2
  refine lv_aload_n hx hb dX2_deliver_0 rfl (lv_at hl 0 rfl) ?_
  refine gf_X2_12_1 CX hL.loop.at rfl dX2_deliver_1 ?_
  refine lv_iload_n hx hb dX2_deliver_4 rfl (lv_at hl 1 rfl) ?_
  refine b_cq0 (cs_X2_35 (rest := []) CX hl.1 (m_J2_get l (a := (F 1)) (ta := 1000 * id + 1) (mc := M 1) (ra := (F 2)) (tr := 1000 * id + 2) (f := (fun j => F (20 + j))) (n := nb S) (i := b) (hL.alg1 hW (by omega)) (hL.arg2 (by omega)) (by omega) (by omega)) rfl rfl rfl (hL.alg1 hW (by omega)).at hS rfl ⟨rfl, rfl, Nat.le_of_ble_eq_true rfl, Nat.le_of_ble_eq_true rfl⟩ (Nat.le_of_ble_eq_true rfl) dX2_deliver_5 ⟨Nat.le_of_ble_eq_true rfl, Nat.le_of_ble_eq_true rfl⟩) hS (fun locs hS => ?_)
  refine b_cast CX (ci := 4) rfl (hL.brand (k := b) (by omega)).at q897 dX2_deliver_8 ?_
  refine lv_astore (lv' := [(4, .ref ((F (20 + b)))), (0, .ref ((F 0))), (1, .int (nI b)), (2, .ref ((F (30 + s_)))), (3, .int c_)]) hx hb dX2_deliver_11 hl (Nat.le_of_ble_eq_true rfl) rfl (fun ls hl => ?_)
  refine lv_aload_n hx hb dX2_deliver_13 rfl (lv_at hl 1 rfl) ?_
  refine lv_aload hx hb dX2_deliver_14 (lv_at hl 0 rfl) ?_
  refine lv_iload_n hx hb dX2_deliver_16 rfl (lv_at hl 4 rfl) ?_
  refine b_ci0 (cs_X2_103 (rest := []) CX hl.1 (m_X2_depositsOf l (b := b) (c_ := c_) hL hW (by omega)) rfl rfl rfl hL.loop.at hS rfl ⟨rfl, rfl, Nat.le_of_ble_eq_true rfl, Nat.le_of_ble_eq_true rfl⟩ (Nat.le_of_ble_eq_true rfl) dX2_deliver_17 ⟨Nat.le_of_ble_eq_true rfl, Nat.le_of_ble_eq_true rfl⟩) hS (fun locs hS => ?_)
  refine lv_istore (lv' := [(5, .int (p_deps S (kd S b) c_)), (4, .ref ((F (20 + b)))), (0, .ref ((F 0))), (1, .int (nI b)), (2, .ref ((F (30 + s_)))), (3, .int c_)]) hx hb dX2_deliver_20 hl (Nat.le_of_ble_eq_true rfl) rfl (fun ls hl => ?_)
  refine lv_iload_n hx hb dX2_deliver_22 rfl (lv_at hl 5 rfl) ?_
  refine lv_aload_n hx hb dX2_deliver_23 rfl (lv_at hl 2 rfl) ?_
  refine gf_X2_21_1 CX hL.loop.at rfl dX2_deliver_24 ?_
  refine lv_iconst (v := nI 4) hx hb dX2_deliver_27 rfl ?_
  refine b_ild CX hL.sett.at (x := S 0 0 11) (vp_in_nI (by omega) (by omega)) (b_at_nI (f := (fun j => S 0 0 (7 + j))) (n := 4) (by omega) rfl) dX2_deliver_28 ?_
  refine lv_imul hx hb dX2_deliver_29 ?_
  refine lv_istore (lv' := [(6, .int (c_ * (S 0 0 11))), (5, .int (p_deps S (kd S b) c_)), (4, .ref ((F (20 + b)))), (0, .ref ((F 0))), (1, .int (nI b)), (2, .ref ((F (30 + s_)))), (3, .int c_)]) hx hb dX2_deliver_30 hl (Nat.le_of_ble_eq_true rfl) rfl (fun ls hl => ?_)
  refine lv_aload hx hb dX2_deliver_32 (lv_at hl 2 rfl) ?_
  refine lv_dup hx hb dX2_deliver_34 rfl ?_
  refine gf_X2_93_4 CX (hL.brand (k := b) (by omega)).at rfl dX2_deliver_35 ?_
  refine lv_bipush (v := nI 12) hx hb dX2_deliver_38 rfl ?_
  refine lv_iload_n hx hb dX2_deliver_40 rfl (lv_at hl 6 rfl) ?_
  refine lv_imul hx hb dX2_deliver_41 ?_
  refine lv_isub hx hb dX2_deliver_42 ?_
  refine pf_X2_93_4 CX (hL.brand (k := b) (by omega)).at hS (hL.brand (k := b) (by omega)).B rfl rfl (Nat.le_of_ble_eq_true rfl) dX2_deliver_43 (fun H1 locs hat hu hS => ?_)
  have hF := hF.up hA hu (hL.brand (k := b) (by omega)).tag (fun _ => show 1000 * id ≤ (1000 * id + (20 + b)) ∧ (1000 * id + (20 + b)) < 1000 * id + 1000 by omega)
  have hL : LR G B0 τ id F M E H1 ((u3 S 1 b 2 ((S 1 b 2) - ((nI 12) * c_)))) Z := hL.set1 (k := b) (w := 2) (by omega) hat hu (by simp [u3])
  have hnb : nb ((u3 S 1 b 2 ((S 1 b 2) - ((nI 12) * c_)))) = nb S := (nb_u (by omega)).trans hnb
  have hns : ns ((u3 S 1 b 2 ((S 1 b 2) - ((nI 12) * c_)))) = ns S := (ns_u (by omega)).trans hns
  refine lv_aload_n hx hb dX2_deliver_46 rfl (lv_at hl 5 rfl) ?_
  refine gf_X2_118_5 CX (hL.shop (k := s_) (by omega)).at rfl dX2_deliver_47 ?_
  refine lv_iload_n hx hb dX2_deliver_50 rfl (lv_at hl 4 rfl) ?_
  refine lv_dup2_11 hx hb dX2_deliver_51 rfl rfl ?_
  refine b_ild CX (hL.full (k := s_) (by omega)).at (x := S 4 s_ b) (vp_in_nI (by omega) (by omega)) (b_at_nI (f := (fun j => ((u3 S 1 b 2 ((S 1 b 2) - ((nI 12) * c_)))) 4 s_ j)) (n := b) (by omega) (by simp [u3])) dX2_deliver_52 ?_
  refine lv_bipush (v := nI 12) hx hb dX2_deliver_53 rfl ?_
  refine lv_iload_n hx hb dX2_deliver_55 rfl (lv_at hl 6 rfl) ?_
  refine lv_imul hx hb dX2_deliver_56 ?_
  refine lv_iadd hx hb dX2_deliver_57 ?_
  refine b_ist CX (hL.full (k := s_) (by omega)).at hS (hL.full (k := s_) (by omega)).B (vp_in_nI (by omega) (by omega)) dX2_deliver_58 (fun H2 locs hat hu hS => ?_)
  have hF := hF.up hA hu (hL.full (k := s_) (by omega)).tag (fun _ => show 1000 * id ≤ (1000 * id + (40 + s_)) ∧ (1000 * id + (40 + s_)) < 1000 * id + 1000 by omega)
  rw [nI_cl (by omega)] at hat
  have hL : LR G B0 τ id F M E H2 ((u3 (u3 S 1 b 2 ((S 1 b 2) - ((nI 12) * c_))) 4 s_ b ((S 4 s_ b) + ((nI 12) * c_)))) Z := hL.set4 (k := s_) (by omega) hat hu
  have hnb : nb ((u3 (u3 S 1 b 2 ((S 1 b 2) - ((nI 12) * c_))) 4 s_ b ((S 4 s_ b) + ((nI 12) * c_)))) = nb S := (nb_u (by omega)).trans hnb
  have hns : ns ((u3 (u3 S 1 b 2 ((S 1 b 2) - ((nI 12) * c_))) 4 s_ b ((S 4 s_ b) + ((nI 12) * c_)))) = ns S := (ns_u (by omega)).trans hns
  refine lv_aload_n hx hb dX2_deliver_59 rfl (lv_at hl 3 rfl) ?_
  refine lv_dup hx hb dX2_deliver_60 rfl ?_
  refine gf_X2_60_1 CX hL.loop.at (v := .int (S 0 0 2)) (congrArg (fun q => some (Value.int q)) (by simp [u3])) dX2_deliver_61 ?_
  refine lv_iload_n hx hb dX2_deliver_64 rfl (lv_at hl 6 rfl) ?_
  refine lv_isub hx hb dX2_deliver_65 ?_
  refine pf_X2_60_1 CX hL.loop.at hS hL.loop.B rfl rfl (Nat.le_of_ble_eq_true rfl) dX2_deliver_66 (fun H3 locs hat hu hS => ?_)
  have hF := hF.up hA hu hL.loop.tag (fun _ => show 1000 * id ≤ (1000 * id + 0) ∧ (1000 * id + 0) < 1000 * id + 1000 by omega)
  have hL : LR G B0 τ id F M E H3 ((u3 (u3 (u3 S 1 b 2 ((S 1 b 2) - ((nI 12) * c_))) 4 s_ b ((S 4 s_ b) + ((nI 12) * c_))) 0 0 2 ((S 0 0 2) - c_))) Z := hL.set0 (w := 2) (by decide) hat hu (by simp [l_cnt, u3])
  have hnb : nb ((u3 (u3 (u3 S 1 b 2 ((S 1 b 2) - ((nI 12) * c_))) 4 s_ b ((S 4 s_ b) + ((nI 12) * c_))) 0 0 2 ((S 0 0 2) - c_))) = nb S := (nb_u (by omega)).trans hnb
  have hns : ns ((u3 (u3 (u3 S 1 b 2 ((S 1 b 2) - ((nI 12) * c_))) 4 s_ b ((S 4 s_ b) + ((nI 12) * c_))) 0 0 2 ((S 0 0 2) - c_))) = ns S := (ns_u (by omega)).trans hns
  refine lv_aload_n hx hb dX2_deliver_69 rfl (lv_at hl 5 rfl) ?_
  refine lv_dup hx hb dX2_deliver_70 rfl ?_
  refine gf_X2_120_5 CX (hL.shop (k := s_) (by omega)).at (v := .int (S 2 s_ 1)) (congrArg (fun q => some (Value.int q)) (by simp [u3])) dX2_deliver_71 ?_
  refine lv_iload_n hx hb dX2_deliver_74 rfl (lv_at hl 6 rfl) ?_
  refine lv_iadd hx hb dX2_deliver_75 ?_
  refine pf_X2_120_5 CX (hL.shop (k := s_) (by omega)).at hS (hL.shop (k := s_) (by omega)).B rfl rfl (Nat.le_of_ble_eq_true rfl) dX2_deliver_76 (fun H4 locs hat hu hS => ?_)
  have hF := hF.up hA hu (hL.shop (k := s_) (by omega)).tag (fun _ => show 1000 * id ≤ (1000 * id + (30 + s_)) ∧ (1000 * id + (30 + s_)) < 1000 * id + 1000 by omega)
  have hL : LR G B0 τ id F M E H4 ((u3 (u3 (u3 (u3 S 1 b 2 ((S 1 b 2) - ((nI 12) * c_))) 4 s_ b ((S 4 s_ b) + ((nI 12) * c_))) 0 0 2 ((S 0 0 2) - c_)) 2 s_ 1 ((S 2 s_ 1) + c_))) Z := hL.set2 (k := s_) (w := 1) (by omega) hat hu (by simp [u3])
  have hnb : nb ((u3 (u3 (u3 (u3 S 1 b 2 ((S 1 b 2) - ((nI 12) * c_))) 4 s_ b ((S 4 s_ b) + ((nI 12) * c_))) 0 0 2 ((S 0 0 2) - c_)) 2 s_ 1 ((S 2 s_ 1) + c_))) = nb S := (nb_u (by omega)).trans hnb
  have hns : ns ((u3 (u3 (u3 (u3 S 1 b 2 ((S 1 b 2) - ((nI 12) * c_))) 4 s_ b ((S 4 s_ b) + ((nI 12) * c_))) 0 0 2 ((S 0 0 2) - c_)) 2 s_ 1 ((S 2 s_ 1) + c_))) = ns S := (ns_u (by omega)).trans hns
  refine lv_aload_n hx hb dX2_deliver_79 rfl (lv_at hl 5 rfl) ?_
  refine lv_dup hx hb dX2_deliver_80 rfl ?_
  refine gf_X2_109_5 CX (hL.shop (k := s_) (by omega)).at (v := .int (S 2 s_ 0)) (congrArg (fun q => some (Value.int q)) (by simp [u3])) dX2_deliver_81 ?_
  refine lv_iload hx hb dX2_deliver_84 (lv_at hl 1 rfl) ?_
  refine lv_iload hx hb dX2_deliver_86 (lv_at hl 0 rfl) ?_
  refine lv_iadd hx hb dX2_deliver_88 ?_
  refine lv_isub hx hb dX2_deliver_89 ?_
  refine pf_X2_109_5 CX (hL.shop (k := s_) (by omega)).at hS (hL.shop (k := s_) (by omega)).B rfl rfl (Nat.le_of_ble_eq_true rfl) dX2_deliver_90 (fun H5 locs hat hu hS => ?_)
  have hF := hF.up hA hu (hL.shop (k := s_) (by omega)).tag (fun _ => show 1000 * id ≤ (1000 * id + (30 + s_)) ∧ (1000 * id + (30 + s_)) < 1000 * id + 1000 by omega)
  have hL : LR G B0 τ id F M E H5 ((u3 (u3 (u3 (u3 (u3 S 1 b 2 ((S 1 b 2) - ((nI 12) * c_))) 4 s_ b ((S 4 s_ b) + ((nI 12) * c_))) 0 0 2 ((S 0 0 2) - c_)) 2 s_ 1 ((S 2 s_ 1) + c_)) 2 s_ 0 ((S 2 s_ 0) - ((p_deps S (kd S b) c_) + (c_ * (S 0 0 11)))))) Z := hL.set2 (k := s_) (w := 0) (by omega) hat hu (by simp [u3])
  have hnb : nb ((u3 (u3 (u3 (u3 (u3 S 1 b 2 ((S 1 b 2) - ((nI 12) * c_))) 4 s_ b ((S 4 s_ b) + ((nI 12) * c_))) 0 0 2 ((S 0 0 2) - c_)) 2 s_ 1 ((S 2 s_ 1) + c_)) 2 s_ 0 ((S 2 s_ 0) - ((p_deps S (kd S b) c_) + (c_ * (S 0 0 11)))))) = nb S := (nb_u (by omega)).trans hnb
  have hns : ns ((u3 (u3 (u3 (u3 (u3 S 1 b 2 ((S 1 b 2) - ((nI 12) * c_))) 4 s_ b ((S 4 s_ b) + ((nI 12) * c_))) 0 0 2 ((S 0 0 2) - c_)) 2 s_ 1 ((S 2 s_ 1) + c_)) 2 s_ 0 ((S 2 s_ 0) - ((p_deps S (kd S b) c_) + (c_ * (S 0 0 11)))))) = ns S := (ns_u (by omega)).trans hns
  refine lv_aload_n hx hb dX2_deliver_93 rfl (lv_at hl 5 rfl) ?_
  refine lv_dup hx hb dX2_deliver_94 rfl ?_
  refine gf_X2_123_5 CX (hL.shop (k := s_) (by omega)).at (v := .int (S 2 s_ 2)) (congrArg (fun q => some (Value.int q)) (by simp [u3])) dX2_deliver_95 ?_
  refine lv_iload hx hb dX2_deliver_98 (lv_at hl 1 rfl) ?_
  refine lv_iadd hx hb dX2_deliver_100 ?_
  refine pf_X2_123_5 CX (hL.shop (k := s_) (by omega)).at hS (hL.shop (k := s_) (by omega)).B rfl rfl (Nat.le_of_ble_eq_true rfl) dX2_deliver_101 (fun H6 locs hat hu hS => ?_)
  have hF := hF.up hA hu (hL.shop (k := s_) (by omega)).tag (fun _ => show 1000 * id ≤ (1000 * id + (30 + s_)) ∧ (1000 * id + (30 + s_)) < 1000 * id + 1000 by omega)
  have hL : LR G B0 τ id F M E H6 ((u3 (u3 (u3 (u3 (u3 (u3 S 1 b 2 ((S 1 b 2) - ((nI 12) * c_))) 4 s_ b ((S 4 s_ b) + ((nI 12) * c_))) 0 0 2 ((S 0 0 2) - c_)) 2 s_ 1 ((S 2 s_ 1) + c_)) 2 s_ 0 ((S 2 s_ 0) - ((p_deps S (kd S b) c_) + (c_ * (S 0 0 11))))) 2 s_ 2 ((S 2 s_ 2) + (p_deps S (kd S b) c_)))) Z := hL.set2 (k := s_) (w := 2) (by omega) hat hu (by simp [u3])
  have hnb : nb ((u3 (u3 (u3 (u3 (u3 (u3 S 1 b 2 ((S 1 b 2) - ((nI 12) * c_))) 4 s_ b ((S 4 s_ b) + ((nI 12) * c_))) 0 0 2 ((S 0 0 2) - c_)) 2 s_ 1 ((S 2 s_ 1) + c_)) 2 s_ 0 ((S 2 s_ 0) - ((p_deps S (kd S b) c_) + (c_ * (S 0 0 11))))) 2 s_ 2 ((S 2 s_ 2) + (p_deps S (kd S b) c_)))) = nb S := (nb_u (by omega)).trans hnb
  have hns : ns ((u3 (u3 (u3 (u3 (u3 (u3 S 1 b 2 ((S 1 b 2) - ((nI 12) * c_))) 4 s_ b ((S 4 s_ b) + ((nI 12) * c_))) 0 0 2 ((S 0 0 2) - c_)) 2 s_ 1 ((S 2 s_ 1) + c_)) 2 s_ 0 ((S 2 s_ 0) - ((p_deps S (kd S b) c_) + (c_ * (S 0 0 11))))) 2 s_ 2 ((S 2 s_ 2) + (p_deps S (kd S b) c_)))) = ns S := (ns_u (by omega)).trans hns
  refine lv_aload_n hx hb dX2_deliver_104 rfl (lv_at hl 5 rfl) ?_
  refine lv_dup hx hb dX2_deliver_105 rfl ?_
  refine gf_X2_126_5 CX (hL.shop (k := s_) (by omega)).at (v := .int (S 2 s_ 3)) (congrArg (fun q => some (Value.int q)) (by simp [u3])) dX2_deliver_106 ?_
  refine lv_iload hx hb dX2_deliver_109 (lv_at hl 0 rfl) ?_
  refine lv_iadd hx hb dX2_deliver_111 ?_
  refine pf_X2_126_5 CX (hL.shop (k := s_) (by omega)).at hS (hL.shop (k := s_) (by omega)).B rfl rfl (Nat.le_of_ble_eq_true rfl) dX2_deliver_112 (fun H7 locs hat hu hS => ?_)
  have hF := hF.up hA hu (hL.shop (k := s_) (by omega)).tag (fun _ => show 1000 * id ≤ (1000 * id + (30 + s_)) ∧ (1000 * id + (30 + s_)) < 1000 * id + 1000 by omega)
  have hL : LR G B0 τ id F M E H7 ((u3 (u3 (u3 (u3 (u3 (u3 (u3 S 1 b 2 ((S 1 b 2) - ((nI 12) * c_))) 4 s_ b ((S 4 s_ b) + ((nI 12) * c_))) 0 0 2 ((S 0 0 2) - c_)) 2 s_ 1 ((S 2 s_ 1) + c_)) 2 s_ 0 ((S 2 s_ 0) - ((p_deps S (kd S b) c_) + (c_ * (S 0 0 11))))) 2 s_ 2 ((S 2 s_ 2) + (p_deps S (kd S b) c_))) 2 s_ 3 ((S 2 s_ 3) + (c_ * (S 0 0 11))))) Z := hL.set2 (k := s_) (w := 3) (by omega) hat hu (by simp [u3])
  have hnb : nb ((u3 (u3 (u3 (u3 (u3 (u3 (u3 S 1 b 2 ((S 1 b 2) - ((nI 12) * c_))) 4 s_ b ((S 4 s_ b) + ((nI 12) * c_))) 0 0 2 ((S 0 0 2) - c_)) 2 s_ 1 ((S 2 s_ 1) + c_)) 2 s_ 0 ((S 2 s_ 0) - ((p_deps S (kd S b) c_) + (c_ * (S 0 0 11))))) 2 s_ 2 ((S 2 s_ 2) + (p_deps S (kd S b) c_))) 2 s_ 3 ((S 2 s_ 3) + (c_ * (S 0 0 11))))) = nb S := (nb_u (by omega)).trans hnb
  have hns : ns ((u3 (u3 (u3 (u3 (u3 (u3 (u3 S 1 b 2 ((S 1 b 2) - ((nI 12) * c_))) 4 s_ b ((S 4 s_ b) + ((nI 12) * c_))) 0 0 2 ((S 0 0 2) - c_)) 2 s_ 1 ((S 2 s_ 1) + c_)) 2 s_ 0 ((S 2 s_ 0) - ((p_deps S (kd S b) c_) + (c_ * (S 0 0 11))))) 2 s_ 2 ((S 2 s_ 2) + (p_deps S (kd S b) c_))) 2 s_ 3 ((S 2 s_ 3) + (c_ * (S 0 0 11))))) = ns S := (ns_u (by omega)).trans hns
  refine lv_aload_n hx hb dX2_deliver_115 rfl (lv_at hl 3 rfl) ?_
  refine lv_dup hx hb dX2_deliver_116 rfl ?_
  refine gf_X2_64_1 CX hL.loop.at (v := .int (S 0 0 3)) (congrArg (fun q => some (Value.int q)) (by simp [u3])) dX2_deliver_117 ?_
  refine lv_iload hx hb dX2_deliver_120 (lv_at hl 1 rfl) ?_
  refine lv_iadd hx hb dX2_deliver_122 ?_
  refine pf_X2_64_1 CX hL.loop.at hS hL.loop.B rfl rfl (Nat.le_of_ble_eq_true rfl) dX2_deliver_123 (fun H8 locs hat hu hS => ?_)
  have hF := hF.up hA hu hL.loop.tag (fun _ => show 1000 * id ≤ (1000 * id + 0) ∧ (1000 * id + 0) < 1000 * id + 1000 by omega)
  have hL : LR G B0 τ id F M E H8 ((u3 (u3 (u3 (u3 (u3 (u3 (u3 (u3 S 1 b 2 ((S 1 b 2) - ((nI 12) * c_))) 4 s_ b ((S 4 s_ b) + ((nI 12) * c_))) 0 0 2 ((S 0 0 2) - c_)) 2 s_ 1 ((S 2 s_ 1) + c_)) 2 s_ 0 ((S 2 s_ 0) - ((p_deps S (kd S b) c_) + (c_ * (S 0 0 11))))) 2 s_ 2 ((S 2 s_ 2) + (p_deps S (kd S b) c_))) 2 s_ 3 ((S 2 s_ 3) + (c_ * (S 0 0 11)))) 0 0 3 ((S 0 0 3) + (p_deps S (kd S b) c_)))) Z := hL.set0 (w := 3) (by decide) hat hu (by simp [l_cnt, u3])
  have hnb : nb ((u3 (u3 (u3 (u3 (u3 (u3 (u3 (u3 S 1 b 2 ((S 1 b 2) - ((nI 12) * c_))) 4 s_ b ((S 4 s_ b) + ((nI 12) * c_))) 0 0 2 ((S 0 0 2) - c_)) 2 s_ 1 ((S 2 s_ 1) + c_)) 2 s_ 0 ((S 2 s_ 0) - ((p_deps S (kd S b) c_) + (c_ * (S 0 0 11))))) 2 s_ 2 ((S 2 s_ 2) + (p_deps S (kd S b) c_))) 2 s_ 3 ((S 2 s_ 3) + (c_ * (S 0 0 11)))) 0 0 3 ((S 0 0 3) + (p_deps S (kd S b) c_)))) = nb S := (nb_u (by omega)).trans hnb
  have hns : ns ((u3 (u3 (u3 (u3 (u3 (u3 (u3 (u3 S 1 b 2 ((S 1 b 2) - ((nI 12) * c_))) 4 s_ b ((S 4 s_ b) + ((nI 12) * c_))) 0 0 2 ((S 0 0 2) - c_)) 2 s_ 1 ((S 2 s_ 1) + c_)) 2 s_ 0 ((S 2 s_ 0) - ((p_deps S (kd S b) c_) + (c_ * (S 0 0 11))))) 2 s_ 2 ((S 2 s_ 2) + (p_deps S (kd S b) c_))) 2 s_ 3 ((S 2 s_ 3) + (c_ * (S 0 0 11)))) 0 0 3 ((S 0 0 3) + (p_deps S (kd S b) c_)))) = ns S := (ns_u (by omega)).trans hns
  refine lv_aload_n hx hb dX2_deliver_126 rfl (lv_at hl 3 rfl) ?_
  refine lv_dup hx hb dX2_deliver_127 rfl ?_
  refine gf_X2_70_1 CX hL.loop.at (v := .int (S 0 0 5)) (congrArg (fun q => some (Value.int q)) (by simp [u3])) dX2_deliver_128 ?_
  refine lv_iload hx hb dX2_deliver_131 (lv_at hl 0 rfl) ?_
  refine lv_iadd hx hb dX2_deliver_133 ?_
  refine pf_X2_70_1 CX hL.loop.at hS hL.loop.B rfl rfl (Nat.le_of_ble_eq_true rfl) dX2_deliver_134 (fun H9 locs hat hu hS => ?_)
  have hF := hF.up hA hu hL.loop.tag (fun _ => show 1000 * id ≤ (1000 * id + 0) ∧ (1000 * id + 0) < 1000 * id + 1000 by omega)
  have hL : LR G B0 τ id F M E H9 ((u3 (u3 (u3 (u3 (u3 (u3 (u3 (u3 (u3 S 1 b 2 ((S 1 b 2) - ((nI 12) * c_))) 4 s_ b ((S 4 s_ b) + ((nI 12) * c_))) 0 0 2 ((S 0 0 2) - c_)) 2 s_ 1 ((S 2 s_ 1) + c_)) 2 s_ 0 ((S 2 s_ 0) - ((p_deps S (kd S b) c_) + (c_ * (S 0 0 11))))) 2 s_ 2 ((S 2 s_ 2) + (p_deps S (kd S b) c_))) 2 s_ 3 ((S 2 s_ 3) + (c_ * (S 0 0 11)))) 0 0 3 ((S 0 0 3) + (p_deps S (kd S b) c_))) 0 0 5 ((S 0 0 5) + (c_ * (S 0 0 11))))) Z := hL.set0 (w := 5) (by decide) hat hu (by simp [l_cnt, u3])
  have hnb : nb ((u3 (u3 (u3 (u3 (u3 (u3 (u3 (u3 (u3 S 1 b 2 ((S 1 b 2) - ((nI 12) * c_))) 4 s_ b ((S 4 s_ b) + ((nI 12) * c_))) 0 0 2 ((S 0 0 2) - c_)) 2 s_ 1 ((S 2 s_ 1) + c_)) 2 s_ 0 ((S 2 s_ 0) - ((p_deps S (kd S b) c_) + (c_ * (S 0 0 11))))) 2 s_ 2 ((S 2 s_ 2) + (p_deps S (kd S b) c_))) 2 s_ 3 ((S 2 s_ 3) + (c_ * (S 0 0 11)))) 0 0 3 ((S 0 0 3) + (p_deps S (kd S b) c_))) 0 0 5 ((S 0 0 5) + (c_ * (S 0 0 11))))) = nb S := (nb_u (by omega)).trans hnb
  have hns : ns ((u3 (u3 (u3 (u3 (u3 (u3 (u3 (u3 (u3 S 1 b 2 ((S 1 b 2) - ((nI 12) * c_))) 4 s_ b ((S 4 s_ b) + ((nI 12) * c_))) 0 0 2 ((S 0 0 2) - c_)) 2 s_ 1 ((S 2 s_ 1) + c_)) 2 s_ 0 ((S 2 s_ 0) - ((p_deps S (kd S b) c_) + (c_ * (S 0 0 11))))) 2 s_ 2 ((S 2 s_ 2) + (p_deps S (kd S b) c_))) 2 s_ 3 ((S 2 s_ 3) + (c_ * (S 0 0 11)))) 0 0 3 ((S 0 0 3) + (p_deps S (kd S b) c_))) 0 0 5 ((S 0 0 5) + (c_ * (S 0 0 11))))) = ns S := (ns_u (by omega)).trans hns
  refine lv_iload hx hb dX2_deliver_137 (lv_at hl 1 rfl) ?_
  refine lv_iload hx hb dX2_deliver_139 (lv_at hl 0 rfl) ?_
  refine lv_iadd hx hb dX2_deliver_141 ?_
  rw [← hQ]
  exact b_iret CX hr hlk hS (Nat.le_of_ble_eq_true rfl) (Nat.le_of_ble_eq_true rfl) dX2_deliver_142 (⟨rfl, hF, hL⟩)
theorem gf_X2_129_4 {p : Program} {l : Launch} {e : Env} {R : Room} {s : State} {m : MethodId} {args : Array Value} {below : List Frame} {meth : Method} {c : Code} {H : Heap} {locs : List Loc} {cells slots : Nat} {Q : State → Prop} {cc : ByteArray} {pc nL a : Nat} {ls : Array Slot} {rest : List Value} {G : b_G} {B0 : Nat} (CX : b_Cx p s m args c cc nL RX2 G B0) {fs : List Value} (hP : b_at G a (.inr (4, fs)) H) {v : Value} (hv : fs[3]? = some v) (hdg : decode cc pc = .ok (.getfield 129, 3)) (kk : W p l e R s m args below meth c H locs cells slots Q (F0 m (pc + 3) ls (v :: rest))) : W p l e R s m args below meth c H locs cells slots Q (F0 m pc ls (.ref a :: rest)) := b_getN CX in_X4 rfl 3 (by decide) q1001 (Or.inl rfl) hP hv hdg kk
theorem pf_X2_129_4 {p : Program} {l : Launch} {e : Env} {R : Room} {s : State} {m : MethodId} {args : Array Value} {below : List Frame} {meth : Method} {c : Code} {H : Heap} {locs : List Loc} {cells slots : Nat} {Q : State → Prop} {cc : ByteArray} {pc nL a : Nat} {ls : Array Slot} {rest : List Value} {G : b_G} {B0 : Nat} (CX : b_Cx p s m args c cc nL RX2 G B0) {fs : List Value} (hP : b_at G a (.inr (4, fs)) H) (hS : va_S (b_A B0) s.heap H locs) (ha : B0 ≤ a) {v : Value} (hn : narrow (tyX4 3) v = v) (hfit : fits (tyX4 3) v = true) (hl : 3 < fs.length) (hdg : decode cc pc = .ok (.putfield 129, 3)) (kk : ∀ (H1 : Heap) (locs1 : List Loc), b_at G a (.inr (4, fs.set 3 v)) H1 → b_Up a H H1 → va_S (b_A B0) s.heap H1 locs1 → W p l e R s m args below meth c H1 locs1 cells slots Q (F0 m (pc + 3) ls rest)) : W p l e R s m args below meth c H locs cells slots Q (F0 m pc ls (v :: .ref a :: rest)) := b_putN CX in_X4 tyX4 tyX4_ok rfl 3 (by decide) (by decide +kernel) q1001 (Or.inl rfl) rfl hP hS ha hn hfit hl hdg kk
theorem gf_X2_132_5 {p : Program} {l : Launch} {e : Env} {R : Room} {s : State} {m : MethodId} {args : Array Value} {below : List Frame} {meth : Method} {c : Code} {H : Heap} {locs : List Loc} {cells slots : Nat} {Q : State → Prop} {cc : ByteArray} {pc nL a : Nat} {ls : Array Slot} {rest : List Value} {G : b_G} {B0 : Nat} (CX : b_Cx p s m args c cc nL RX2 G B0) {fs : List Value} (hP : b_at G a (.inr (5, fs)) H) {v : Value} (hv : fs[6]? = some v) (hdg : decode cc pc = .ok (.getfield 132, 3)) (kk : W p l e R s m args below meth c H locs cells slots Q (F0 m (pc + 3) ls (v :: rest))) : W p l e R s m args below meth c H locs cells slots Q (F0 m pc ls (.ref a :: rest)) := b_getN CX in_X5 rfl 6 (by decide) q1073 (Or.inl rfl) hP hv hdg kk
theorem pf_X2_132_5 {p : Program} {l : Launch} {e : Env} {R : Room} {s : State} {m : MethodId} {args : Array Value} {below : List Frame} {meth : Method} {c : Code} {H : Heap} {locs : List Loc} {cells slots : Nat} {Q : State → Prop} {cc : ByteArray} {pc nL a : Nat} {ls : Array Slot} {rest : List Value} {G : b_G} {B0 : Nat} (CX : b_Cx p s m args c cc nL RX2 G B0) {fs : List Value} (hP : b_at G a (.inr (5, fs)) H) (hS : va_S (b_A B0) s.heap H locs) (ha : B0 ≤ a) {v : Value} (hn : narrow (tyX5 6) v = v) (hfit : fits (tyX5 6) v = true) (hl : 6 < fs.length) (hdg : decode cc pc = .ok (.putfield 132, 3)) (kk : ∀ (H1 : Heap) (locs1 : List Loc), b_at G a (.inr (5, fs.set 6 v)) H1 → b_Up a H H1 → va_S (b_A B0) s.heap H1 locs1 → W p l e R s m args below meth c H1 locs1 cells slots Q (F0 m (pc + 3) ls rest)) : W p l e R s m args below meth c H locs cells slots Q (F0 m pc ls (v :: .ref a :: rest)) := b_putN CX in_X5 tyX5 tyX5_ok rfl 6 (by decide) (by decide +kernel) q1073 (Or.inl rfl) rfl hP hS ha hn hfit hl hdg kk
set_option maxHeartbeats 2000000 in
set_option maxRecDepth 100000 in
theorem m_X2_sell (l : Launch) {G : b_G} {B0 : Nat} {H : Heap} {τ : b_T} {id : Nat} {F : Nat → Nat} {M : Nat → Int32} {E : Nat → Bool} {S : b_St} {Z : Nat → Nat → Int32} {b : Nat} {s_ : Nat} {n_ : Int32} (hL : LR G B0 τ id F M E H S Z) (hW : b_WF S) (hb : b < nb S) (hs : s_ < ns S) : Met l yX2_sell (ws_ yX2_sell cX2_sell 4 (Option.some Jvm.ClassFile.FieldType.int)) ({ frames := 3, cells := 0, slots := 0, locals := 64 } : Room) (b_Pc G B0 H [.ref ((F 0)), .int (nI b), .ref ((F (30 + s_))), .int n_]) (b_Qi B0 (fun r H1 => r = S 2 s_ 0 + n_ * p_dep S b ∧ b_Fr τ (fun t => 1000 * id ≤ t ∧ t < 1000 * id + 1000) H H1 ∧ LR G B0 τ id F M E H1 ((s_sell S s_ b n_)) Z)) 0 0 (b_A B0) := by
  refine b_of (by decide) (Nat.le_of_ble_eq_true rfl) ?_
  intro p e s m below meth c CX hr hlk hnm hS ls hl
  have CX : b_Cx p s m _ c cX2_sell 4 RX2 G B0 := CX
  have hx := CX.hx
  have hb := CX.hb
  have hl : lv_has ls 4 [(0, .ref ((F 0))), (1, .int (nI b)), (2, .ref ((F (30 + s_)))), (3, .int n_)] := hl
  generalize hQ : MQ below (b_Qi B0 (fun r H1 => r = S 2 s_ 0 + n_ * p_dep S b ∧ b_Fr τ (fun t => 1000 * id ≤ t ∧ t < 1000 * id + 1000) H H1 ∧ LR G B0 τ id F M E H1 ((s_sell S s_ b n_)) Z)) ([.ref ((F 0)), .int (nI b), .ref ((F (30 + s_))), .int n_] : List Value).toArray s 0 0 (b_A B0) = Q
  have hF : b_Fr τ (fun t => 1000 * id ≤ t ∧ t < 1000 * id + 1000) H H := b_Fr.rf
  have hA : b_Ag τ τ H := b_Ag.rf
  have hnb : nb S = nb S := rfl
  have hns : ns S = ns S := rfl
  have hn8 := hL.2.2.2.1
  have hn6 := hL.2.2.2.2
  refine lv_aload_n hx hb dX2_sell_0 rfl (lv_at hl 2 rfl) ?_
  refine gf_X2_118_5 CX (hL.shop (k := s_) (by omega)).at rfl dX2_sell_1 ?_
  refine lv_iload_n hx hb dX2_sell_4 rfl (lv_at hl 1 rfl) ?_
  refine lv_dup2_11 hx hb dX2_sell_5 rfl rfl ?_
  refine b_ild CX (hL.full (k := s_) (by omega)).at (x := S 4 s_ b) (vp_in_nI (by omega) (by omega)) (b_at_nI (f := (fun j => S 4 s_ j)) (n := b) (by omega) rfl) dX2_sell_6 ?_
  refine lv_iload_n hx hb dX2_sell_7 rfl (lv_at hl 3 rfl) ?_
  refine lv_isub hx hb dX2_sell_8 ?_
  refine b_ist CX (hL.full (k := s_) (by omega)).at hS (hL.full (k := s_) (by omega)).B (vp_in_nI (by omega) (by omega)) dX2_sell_9 (fun H1 locs hat hu hS => ?_)
  have hF := hF.up hA hu (hL.full (k := s_) (by omega)).tag (fun _ => show 1000 * id ≤ (1000 * id + (40 + s_)) ∧ (1000 * id + (40 + s_)) < 1000 * id + 1000 by omega)
  rw [nI_cl (by omega)] at hat
  have hL : LR G B0 τ id F M E H1 ((u3 S 4 s_ b ((S 4 s_ b) - n_))) Z := hL.set4 (k := s_) (by omega) hat hu
  have hnb : nb ((u3 S 4 s_ b ((S 4 s_ b) - n_))) = nb S := (nb_u (by omega)).trans hnb
  have hns : ns ((u3 S 4 s_ b ((S 4 s_ b) - n_))) = ns S := (ns_u (by omega)).trans hns
  refine lv_aload_n hx hb dX2_sell_10 rfl (lv_at hl 0 rfl) ?_
  refine gf_X2_12_1 CX hL.loop.at rfl dX2_sell_11 ?_
  refine lv_iload_n hx hb dX2_sell_14 rfl (lv_at hl 1 rfl) ?_
  refine b_cq0 (cs_X2_35 (rest := []) CX hl.1 (m_J2_get l (a := (F 1)) (ta := 1000 * id + 1) (mc := M 1) (ra := (F 2)) (tr := 1000 * id + 2) (f := (fun j => F (20 + j))) (n := nb ((u3 S 4 s_ b ((S 4 s_ b) - n_)))) (i := b) (hL.alg1 (hW.up (by omega) (by omega)) (by omega)) (hL.arg2 (by omega)) (by omega) (by omega)) rfl rfl rfl (hL.alg1 (hW.up (by omega) (by omega)) (by omega)).at hS rfl ⟨rfl, rfl, Nat.le_of_ble_eq_true rfl, Nat.le_of_ble_eq_true rfl⟩ (Nat.le_of_ble_eq_true rfl) dX2_sell_15 ⟨Nat.le_of_ble_eq_true rfl, Nat.le_of_ble_eq_true rfl⟩) hS (fun locs hS => ?_)
  refine b_cast CX (ci := 4) rfl (hL.brand (k := b) (by omega)).at q897 dX2_sell_18 ?_
  refine lv_dup hx hb dX2_sell_21 rfl ?_
  refine gf_X2_129_4 CX (hL.brand (k := b) (by omega)).at (v := .int (S 1 b 3)) (congrArg (fun q => some (Value.int q)) (by simp [u3])) dX2_sell_22 ?_
  refine lv_iload_n hx hb dX2_sell_25 rfl (lv_at hl 3 rfl) ?_
  refine lv_iadd hx hb dX2_sell_26 ?_
  refine pf_X2_129_4 CX (hL.brand (k := b) (by omega)).at hS (hL.brand (k := b) (by omega)).B rfl rfl (Nat.le_of_ble_eq_true rfl) dX2_sell_27 (fun H2 locs hat hu hS => ?_)
  have hF := hF.up hA hu (hL.brand (k := b) (by omega)).tag (fun _ => show 1000 * id ≤ (1000 * id + (20 + b)) ∧ (1000 * id + (20 + b)) < 1000 * id + 1000 by omega)
  have hL : LR G B0 τ id F M E H2 ((u3 (u3 S 4 s_ b ((S 4 s_ b) - n_)) 1 b 3 ((S 1 b 3) + n_))) Z := hL.set1 (k := b) (w := 3) (by omega) hat hu (by simp [u3])
  have hnb : nb ((u3 (u3 S 4 s_ b ((S 4 s_ b) - n_)) 1 b 3 ((S 1 b 3) + n_))) = nb S := (nb_u (by omega)).trans hnb
  have hns : ns ((u3 (u3 S 4 s_ b ((S 4 s_ b) - n_)) 1 b 3 ((S 1 b 3) + n_))) = ns S := (ns_u (by omega)).trans hns
  refine lv_aload_n hx hb dX2_sell_30 rfl (lv_at hl 2 rfl) ?_
  refine lv_dup hx hb dX2_sell_31 rfl ?_
  refine gf_X2_109_5 CX (hL.shop (k := s_) (by omega)).at (v := .int (S 2 s_ 0)) (congrArg (fun q => some (Value.int q)) (by simp [u3])) dX2_sell_32 ?_
  refine lv_iload_n hx hb dX2_sell_35 rfl (lv_at hl 3 rfl) ?_
  refine lv_aload_n hx hb dX2_sell_36 rfl (lv_at hl 0 rfl) ?_
  refine lv_aload_n hx hb dX2_sell_37 rfl (lv_at hl 0 rfl) ?_
  refine gf_X2_12_1 CX hL.loop.at rfl dX2_sell_38 ?_
  refine lv_iload_n hx hb dX2_sell_41 rfl (lv_at hl 1 rfl) ?_
  refine b_cq0 (cs_X2_35 (rest := [.ref ((F 0)), .int n_, .int (S 2 s_ 0), .ref ((F (30 + s_)))]) CX hl.1 (m_J2_get l (a := (F 1)) (ta := 1000 * id + 1) (mc := M 1) (ra := (F 2)) (tr := 1000 * id + 2) (f := (fun j => F (20 + j))) (n := nb ((u3 (u3 S 4 s_ b ((S 4 s_ b) - n_)) 1 b 3 ((S 1 b 3) + n_)))) (i := b) (hL.alg1 ((hW.up (by omega) (by omega)).up (by omega) (by omega)) (by omega)) (hL.arg2 (by omega)) (by omega) (by omega)) rfl rfl rfl (hL.alg1 ((hW.up (by omega) (by omega)).up (by omega) (by omega)) (by omega)).at hS rfl ⟨rfl, rfl, Nat.le_of_ble_eq_true rfl, Nat.le_of_ble_eq_true rfl⟩ (Nat.le_of_ble_eq_true rfl) dX2_sell_42 ⟨Nat.le_of_ble_eq_true rfl, Nat.le_of_ble_eq_true rfl⟩) hS (fun locs hS => ?_)
  refine b_cast CX (ci := 4) rfl (hL.brand (k := b) (by omega)).at q897 dX2_sell_45 ?_
  refine b_ci0 (cs_X2_99 (rest := [.int n_, .int (S 2 s_ 0), .ref ((F (30 + s_)))]) CX hl.1 (m_X2_deposit l (b := b) hL ((hW.up (by omega) (by omega)).up (by omega) (by omega)) (by omega)) rfl rfl rfl hL.loop.at hS rfl ⟨rfl, rfl, Nat.le_of_ble_eq_true rfl, Nat.le_of_ble_eq_true rfl⟩ (Nat.le_of_ble_eq_true rfl) dX2_sell_48 ⟨Nat.le_of_ble_eq_true rfl, Nat.le_of_ble_eq_true rfl⟩) hS (fun locs hS => ?_)
  refine b_top (x := p_dep ((u3 (u3 S 4 s_ b ((S 4 s_ b) - n_)) 1 b 3 ((S 1 b 3) + n_))) b) (y := p_dep S b) (by simp [u3, p_dep, kd]) ?_
  refine lv_imul hx hb dX2_sell_51 ?_
  refine lv_iadd hx hb dX2_sell_52 ?_
  refine pf_X2_109_5 CX (hL.shop (k := s_) (by omega)).at hS (hL.shop (k := s_) (by omega)).B rfl rfl (Nat.le_of_ble_eq_true rfl) dX2_sell_53 (fun H3 locs hat hu hS => ?_)
  have hF := hF.up hA hu (hL.shop (k := s_) (by omega)).tag (fun _ => show 1000 * id ≤ (1000 * id + (30 + s_)) ∧ (1000 * id + (30 + s_)) < 1000 * id + 1000 by omega)
  have hL : LR G B0 τ id F M E H3 ((u3 (u3 (u3 S 4 s_ b ((S 4 s_ b) - n_)) 1 b 3 ((S 1 b 3) + n_)) 2 s_ 0 ((S 2 s_ 0) + (n_ * (p_dep S b))))) Z := hL.set2 (k := s_) (w := 0) (by omega) hat hu (by simp [u3])
  have hnb : nb ((u3 (u3 (u3 S 4 s_ b ((S 4 s_ b) - n_)) 1 b 3 ((S 1 b 3) + n_)) 2 s_ 0 ((S 2 s_ 0) + (n_ * (p_dep S b))))) = nb S := (nb_u (by omega)).trans hnb
  have hns : ns ((u3 (u3 (u3 S 4 s_ b ((S 4 s_ b) - n_)) 1 b 3 ((S 1 b 3) + n_)) 2 s_ 0 ((S 2 s_ 0) + (n_ * (p_dep S b))))) = ns S := (ns_u (by omega)).trans hns
  refine lv_aload_n hx hb dX2_sell_56 rfl (lv_at hl 2 rfl) ?_
  refine lv_dup hx hb dX2_sell_57 rfl ?_
  refine gf_X2_132_5 CX (hL.shop (k := s_) (by omega)).at (v := .int (S 2 s_ 4)) (congrArg (fun q => some (Value.int q)) (by simp [u3])) dX2_sell_58 ?_
  refine lv_iload_n hx hb dX2_sell_61 rfl (lv_at hl 3 rfl) ?_
  refine lv_iadd hx hb dX2_sell_62 ?_
  refine pf_X2_132_5 CX (hL.shop (k := s_) (by omega)).at hS (hL.shop (k := s_) (by omega)).B rfl rfl (Nat.le_of_ble_eq_true rfl) dX2_sell_63 (fun H4 locs hat hu hS => ?_)
  have hF := hF.up hA hu (hL.shop (k := s_) (by omega)).tag (fun _ => show 1000 * id ≤ (1000 * id + (30 + s_)) ∧ (1000 * id + (30 + s_)) < 1000 * id + 1000 by omega)
  have hL : LR G B0 τ id F M E H4 ((u3 (u3 (u3 (u3 S 4 s_ b ((S 4 s_ b) - n_)) 1 b 3 ((S 1 b 3) + n_)) 2 s_ 0 ((S 2 s_ 0) + (n_ * (p_dep S b)))) 2 s_ 4 ((S 2 s_ 4) + n_))) Z := hL.set2 (k := s_) (w := 4) (by omega) hat hu (by simp [u3])
  have hnb : nb ((u3 (u3 (u3 (u3 S 4 s_ b ((S 4 s_ b) - n_)) 1 b 3 ((S 1 b 3) + n_)) 2 s_ 0 ((S 2 s_ 0) + (n_ * (p_dep S b)))) 2 s_ 4 ((S 2 s_ 4) + n_))) = nb S := (nb_u (by omega)).trans hnb
  have hns : ns ((u3 (u3 (u3 (u3 S 4 s_ b ((S 4 s_ b) - n_)) 1 b 3 ((S 1 b 3) + n_)) 2 s_ 0 ((S 2 s_ 0) + (n_ * (p_dep S b)))) 2 s_ 4 ((S 2 s_ 4) + n_))) = ns S := (ns_u (by omega)).trans hns
  refine lv_aload_n hx hb dX2_sell_66 rfl (lv_at hl 2 rfl) ?_
  refine gf_X2_109_5 CX (hL.shop (k := s_) (by omega)).at (v := .int ((S 2 s_ 0) + (n_ * (p_dep S b)))) (congrArg (fun q => some (Value.int q)) (by simp [u3])) dX2_sell_67 ?_
  rw [← hQ]
  exact b_iret CX hr hlk hS (Nat.le_of_ble_eq_true rfl) (Nat.le_of_ble_eq_true rfl) dX2_sell_70 (⟨rfl, hF, (by unfold s_sell; rw [u3_c _ _ _ (by omega)]; exact hL)⟩)
set_option maxHeartbeats 2000000 in
set_option maxRecDepth 100000 in
theorem m_X2_take (l : Launch) {G : b_G} {B0 : Nat} {H : Heap} {τ : b_T} {id : Nat} {F : Nat → Nat} {M : Nat → Int32} {E : Nat → Bool} {S : b_St} {Z : Nat → Nat → Int32} {b : Nat} {s_ : Nat} {n_ : Int32} (hL : LR G B0 τ id F M E H S Z) (hW : b_WF S) (hb : b < nb S) (hs : s_ < ns S) : Met l yX2_take (ws_ yX2_take cX2_take 4 (Option.some Jvm.ClassFile.FieldType.int)) ({ frames := 3, cells := 0, slots := 0, locals := 64 } : Room) (b_Pc G B0 H [.ref ((F 0)), .int (nI b), .ref ((F (30 + s_))), .int n_]) (b_Qi B0 (fun r H1 => r = S 2 s_ 0 - n_ * p_dep S b ∧ b_Fr τ (fun t => 1000 * id ≤ t ∧ t < 1000 * id + 1000) H H1 ∧ LR G B0 τ id F M E H1 ((s_take S s_ b n_)) Z)) 0 0 (b_A B0) := by
  refine b_of (by decide) (Nat.le_of_ble_eq_true rfl) ?_
  intro p e s m below meth c CX hr hlk hnm hS ls hl
  have CX : b_Cx p s m _ c cX2_take 4 RX2 G B0 := CX
  have hx := CX.hx
  have hb := CX.hb
  have hl : lv_has ls 4 [(0, .ref ((F 0))), (1, .int (nI b)), (2, .ref ((F (30 + s_)))), (3, .int n_)] := hl
  generalize hQ : MQ below (b_Qi B0 (fun r H1 => r = S 2 s_ 0 - n_ * p_dep S b ∧ b_Fr τ (fun t => 1000 * id ≤ t ∧ t < 1000 * id + 1000) H H1 ∧ LR G B0 τ id F M E H1 ((s_take S s_ b n_)) Z)) ([.ref ((F 0)), .int (nI b), .ref ((F (30 + s_))), .int n_] : List Value).toArray s 0 0 (b_A B0) = Q
  have hF : b_Fr τ (fun t => 1000 * id ≤ t ∧ t < 1000 * id + 1000) H H := b_Fr.rf
  have hA : b_Ag τ τ H := b_Ag.rf
  have hnb : nb S = nb S := rfl
  have hns : ns S = ns S := rfl
  have hn8 := hL.2.2.2.1
  have hn6 := hL.2.2.2.2
  refine lv_aload_n hx hb dX2_take_0 rfl (lv_at hl 0 rfl) ?_
  refine gf_X2_12_1 CX hL.loop.at rfl dX2_take_1 ?_
  refine lv_iload_n hx hb dX2_take_4 rfl (lv_at hl 1 rfl) ?_
  refine b_cq0 (cs_X2_35 (rest := []) CX hl.1 (m_J2_get l (a := (F 1)) (ta := 1000 * id + 1) (mc := M 1) (ra := (F 2)) (tr := 1000 * id + 2) (f := (fun j => F (20 + j))) (n := nb S) (i := b) (hL.alg1 hW (by omega)) (hL.arg2 (by omega)) (by omega) (by omega)) rfl rfl rfl (hL.alg1 hW (by omega)).at hS rfl ⟨rfl, rfl, Nat.le_of_ble_eq_true rfl, Nat.le_of_ble_eq_true rfl⟩ (Nat.le_of_ble_eq_true rfl) dX2_take_5 ⟨Nat.le_of_ble_eq_true rfl, Nat.le_of_ble_eq_true rfl⟩) hS (fun locs hS => ?_)
  refine b_cast CX (ci := 4) rfl (hL.brand (k := b) (by omega)).at q897 dX2_take_8 ?_
  refine lv_dup hx hb dX2_take_11 rfl ?_
  refine gf_X2_129_4 CX (hL.brand (k := b) (by omega)).at rfl dX2_take_12 ?_
  refine lv_iload_n hx hb dX2_take_15 rfl (lv_at hl 3 rfl) ?_
  refine lv_isub hx hb dX2_take_16 ?_
  refine pf_X2_129_4 CX (hL.brand (k := b) (by omega)).at hS (hL.brand (k := b) (by omega)).B rfl rfl (Nat.le_of_ble_eq_true rfl) dX2_take_17 (fun H1 locs hat hu hS => ?_)
  have hF := hF.up hA hu (hL.brand (k := b) (by omega)).tag (fun _ => show 1000 * id ≤ (1000 * id + (20 + b)) ∧ (1000 * id + (20 + b)) < 1000 * id + 1000 by omega)
  have hL : LR G B0 τ id F M E H1 ((u3 S 1 b 3 ((S 1 b 3) - n_))) Z := hL.set1 (k := b) (w := 3) (by omega) hat hu (by simp [u3])
  have hnb : nb ((u3 S 1 b 3 ((S 1 b 3) - n_))) = nb S := (nb_u (by omega)).trans hnb
  have hns : ns ((u3 S 1 b 3 ((S 1 b 3) - n_))) = ns S := (ns_u (by omega)).trans hns
  refine lv_aload_n hx hb dX2_take_20 rfl (lv_at hl 2 rfl) ?_
  refine gf_X2_135_5 CX (hL.shop (k := s_) (by omega)).at rfl dX2_take_21 ?_
  refine lv_iload_n hx hb dX2_take_24 rfl (lv_at hl 1 rfl) ?_
  refine lv_dup2_11 hx hb dX2_take_25 rfl rfl ?_
  refine b_ild CX (hL.empt (k := s_) (by omega)).at (x := S 5 s_ b) (vp_in_nI (by omega) (by omega)) (b_at_nI (f := (fun j => ((u3 S 1 b 3 ((S 1 b 3) - n_))) 5 s_ j)) (n := b) (by omega) (by simp [u3])) dX2_take_26 ?_
  refine lv_iload_n hx hb dX2_take_27 rfl (lv_at hl 3 rfl) ?_
  refine lv_iadd hx hb dX2_take_28 ?_
  refine b_ist CX (hL.empt (k := s_) (by omega)).at hS (hL.empt (k := s_) (by omega)).B (vp_in_nI (by omega) (by omega)) dX2_take_29 (fun H2 locs hat hu hS => ?_)
  have hF := hF.up hA hu (hL.empt (k := s_) (by omega)).tag (fun _ => show 1000 * id ≤ (1000 * id + (50 + s_)) ∧ (1000 * id + (50 + s_)) < 1000 * id + 1000 by omega)
  rw [nI_cl (by omega)] at hat
  have hL : LR G B0 τ id F M E H2 ((u3 (u3 S 1 b 3 ((S 1 b 3) - n_)) 5 s_ b ((S 5 s_ b) + n_))) Z := hL.set6 (k := s_) (by omega) hat hu
  have hnb : nb ((u3 (u3 S 1 b 3 ((S 1 b 3) - n_)) 5 s_ b ((S 5 s_ b) + n_))) = nb S := (nb_u (by omega)).trans hnb
  have hns : ns ((u3 (u3 S 1 b 3 ((S 1 b 3) - n_)) 5 s_ b ((S 5 s_ b) + n_))) = ns S := (ns_u (by omega)).trans hns
  refine lv_aload_n hx hb dX2_take_30 rfl (lv_at hl 2 rfl) ?_
  refine lv_dup hx hb dX2_take_31 rfl ?_
  refine gf_X2_109_5 CX (hL.shop (k := s_) (by omega)).at (v := .int (S 2 s_ 0)) (congrArg (fun q => some (Value.int q)) (by simp [u3])) dX2_take_32 ?_
  refine lv_iload_n hx hb dX2_take_35 rfl (lv_at hl 3 rfl) ?_
  refine lv_aload_n hx hb dX2_take_36 rfl (lv_at hl 0 rfl) ?_
  refine lv_aload_n hx hb dX2_take_37 rfl (lv_at hl 0 rfl) ?_
  refine gf_X2_12_1 CX hL.loop.at rfl dX2_take_38 ?_
  refine lv_iload_n hx hb dX2_take_41 rfl (lv_at hl 1 rfl) ?_
  refine b_cq0 (cs_X2_35 (rest := [.ref ((F 0)), .int n_, .int (S 2 s_ 0), .ref ((F (30 + s_)))]) CX hl.1 (m_J2_get l (a := (F 1)) (ta := 1000 * id + 1) (mc := M 1) (ra := (F 2)) (tr := 1000 * id + 2) (f := (fun j => F (20 + j))) (n := nb ((u3 (u3 S 1 b 3 ((S 1 b 3) - n_)) 5 s_ b ((S 5 s_ b) + n_)))) (i := b) (hL.alg1 ((hW.up (by omega) (by omega)).up (by omega) (by omega)) (by omega)) (hL.arg2 (by omega)) (by omega) (by omega)) rfl rfl rfl (hL.alg1 ((hW.up (by omega) (by omega)).up (by omega) (by omega)) (by omega)).at hS rfl ⟨rfl, rfl, Nat.le_of_ble_eq_true rfl, Nat.le_of_ble_eq_true rfl⟩ (Nat.le_of_ble_eq_true rfl) dX2_take_42 ⟨Nat.le_of_ble_eq_true rfl, Nat.le_of_ble_eq_true rfl⟩) hS (fun locs hS => ?_)
  refine b_cast CX (ci := 4) rfl (hL.brand (k := b) (by omega)).at q897 dX2_take_45 ?_
  refine b_ci0 (cs_X2_99 (rest := [.int n_, .int (S 2 s_ 0), .ref ((F (30 + s_)))]) CX hl.1 (m_X2_deposit l (b := b) hL ((hW.up (by omega) (by omega)).up (by omega) (by omega)) (by omega)) rfl rfl rfl hL.loop.at hS rfl ⟨rfl, rfl, Nat.le_of_ble_eq_true rfl, Nat.le_of_ble_eq_true rfl⟩ (Nat.le_of_ble_eq_true rfl) dX2_take_48 ⟨Nat.le_of_ble_eq_true rfl, Nat.le_of_ble_eq_true rfl⟩) hS (fun locs hS => ?_)
  refine b_top (x := p_dep ((u3 (u3 S 1 b 3 ((S 1 b 3) - n_)) 5 s_ b ((S 5 s_ b) + n_))) b) (y := p_dep S b) (by simp [u3, p_dep, kd]) ?_
  refine lv_imul hx hb dX2_take_51 ?_
  refine lv_isub hx hb dX2_take_52 ?_
  refine pf_X2_109_5 CX (hL.shop (k := s_) (by omega)).at hS (hL.shop (k := s_) (by omega)).B rfl rfl (Nat.le_of_ble_eq_true rfl) dX2_take_53 (fun H3 locs hat hu hS => ?_)
  have hF := hF.up hA hu (hL.shop (k := s_) (by omega)).tag (fun _ => show 1000 * id ≤ (1000 * id + (30 + s_)) ∧ (1000 * id + (30 + s_)) < 1000 * id + 1000 by omega)
  have hL : LR G B0 τ id F M E H3 ((u3 (u3 (u3 S 1 b 3 ((S 1 b 3) - n_)) 5 s_ b ((S 5 s_ b) + n_)) 2 s_ 0 ((S 2 s_ 0) - (n_ * (p_dep S b))))) Z := hL.set2 (k := s_) (w := 0) (by omega) hat hu (by simp [u3])
  have hnb : nb ((u3 (u3 (u3 S 1 b 3 ((S 1 b 3) - n_)) 5 s_ b ((S 5 s_ b) + n_)) 2 s_ 0 ((S 2 s_ 0) - (n_ * (p_dep S b))))) = nb S := (nb_u (by omega)).trans hnb
  have hns : ns ((u3 (u3 (u3 S 1 b 3 ((S 1 b 3) - n_)) 5 s_ b ((S 5 s_ b) + n_)) 2 s_ 0 ((S 2 s_ 0) - (n_ * (p_dep S b))))) = ns S := (ns_u (by omega)).trans hns
  refine lv_aload_n hx hb dX2_take_56 rfl (lv_at hl 2 rfl) ?_
  refine lv_dup hx hb dX2_take_57 rfl ?_
  refine gf_X2_132_5 CX (hL.shop (k := s_) (by omega)).at (v := .int (S 2 s_ 4)) (congrArg (fun q => some (Value.int q)) (by simp [u3])) dX2_take_58 ?_
  refine lv_iload_n hx hb dX2_take_61 rfl (lv_at hl 3 rfl) ?_
  refine lv_isub hx hb dX2_take_62 ?_
  refine pf_X2_132_5 CX (hL.shop (k := s_) (by omega)).at hS (hL.shop (k := s_) (by omega)).B rfl rfl (Nat.le_of_ble_eq_true rfl) dX2_take_63 (fun H4 locs hat hu hS => ?_)
  have hF := hF.up hA hu (hL.shop (k := s_) (by omega)).tag (fun _ => show 1000 * id ≤ (1000 * id + (30 + s_)) ∧ (1000 * id + (30 + s_)) < 1000 * id + 1000 by omega)
  have hL : LR G B0 τ id F M E H4 ((u3 (u3 (u3 (u3 S 1 b 3 ((S 1 b 3) - n_)) 5 s_ b ((S 5 s_ b) + n_)) 2 s_ 0 ((S 2 s_ 0) - (n_ * (p_dep S b)))) 2 s_ 4 ((S 2 s_ 4) - n_))) Z := hL.set2 (k := s_) (w := 4) (by omega) hat hu (by simp [u3])
  have hnb : nb ((u3 (u3 (u3 (u3 S 1 b 3 ((S 1 b 3) - n_)) 5 s_ b ((S 5 s_ b) + n_)) 2 s_ 0 ((S 2 s_ 0) - (n_ * (p_dep S b)))) 2 s_ 4 ((S 2 s_ 4) - n_))) = nb S := (nb_u (by omega)).trans hnb
  have hns : ns ((u3 (u3 (u3 (u3 S 1 b 3 ((S 1 b 3) - n_)) 5 s_ b ((S 5 s_ b) + n_)) 2 s_ 0 ((S 2 s_ 0) - (n_ * (p_dep S b)))) 2 s_ 4 ((S 2 s_ 4) - n_))) = ns S := (ns_u (by omega)).trans hns
  refine lv_aload_n hx hb dX2_take_66 rfl (lv_at hl 2 rfl) ?_
  refine gf_X2_109_5 CX (hL.shop (k := s_) (by omega)).at (v := .int ((S 2 s_ 0) - (n_ * (p_dep S b)))) (congrArg (fun q => some (Value.int q)) (by simp [u3])) dX2_take_67 ?_
  rw [← hQ]
  exact b_iret CX hr hlk hS (Nat.le_of_ble_eq_true rfl) (Nat.le_of_ble_eq_true rfl) dX2_take_70 (⟨rfl, hF, (by unfold s_take; rw [u3_c _ _ _ (by omega)]; exact hL)⟩)
theorem gf_X2_143_4 {p : Program} {l : Launch} {e : Env} {R : Room} {s : State} {m : MethodId} {args : Array Value} {below : List Frame} {meth : Method} {c : Code} {H : Heap} {locs : List Loc} {cells slots : Nat} {Q : State → Prop} {cc : ByteArray} {pc nL a : Nat} {ls : Array Slot} {rest : List Value} {G : b_G} {B0 : Nat} (CX : b_Cx p s m args c cc nL RX2 G B0) {fs : List Value} (hP : b_at G a (.inr (4, fs)) H) {v : Value} (hv : fs[5]? = some v) (hdg : decode cc pc = .ok (.getfield 143, 3)) (kk : W p l e R s m args below meth c H locs cells slots Q (F0 m (pc + 3) ls (v :: rest))) : W p l e R s m args below meth c H locs cells slots Q (F0 m pc ls (.ref a :: rest)) := b_getN CX in_X4 rfl 5 (by decide) q1007 (Or.inl rfl) hP hv hdg kk
theorem pf_X2_143_4 {p : Program} {l : Launch} {e : Env} {R : Room} {s : State} {m : MethodId} {args : Array Value} {below : List Frame} {meth : Method} {c : Code} {H : Heap} {locs : List Loc} {cells slots : Nat} {Q : State → Prop} {cc : ByteArray} {pc nL a : Nat} {ls : Array Slot} {rest : List Value} {G : b_G} {B0 : Nat} (CX : b_Cx p s m args c cc nL RX2 G B0) {fs : List Value} (hP : b_at G a (.inr (4, fs)) H) (hS : va_S (b_A B0) s.heap H locs) (ha : B0 ≤ a) {v : Value} (hn : narrow (tyX4 5) v = v) (hfit : fits (tyX4 5) v = true) (hl : 5 < fs.length) (hdg : decode cc pc = .ok (.putfield 143, 3)) (kk : ∀ (H1 : Heap) (locs1 : List Loc), b_at G a (.inr (4, fs.set 5 v)) H1 → b_Up a H H1 → va_S (b_A B0) s.heap H1 locs1 → W p l e R s m args below meth c H1 locs1 cells slots Q (F0 m (pc + 3) ls rest)) : W p l e R s m args below meth c H locs cells slots Q (F0 m pc ls (v :: .ref a :: rest)) := b_putN CX in_X4 tyX4 tyX4_ok rfl 5 (by decide) (by decide +kernel) q1007 (Or.inl rfl) rfl hP hS ha hn hfit hl hdg kk
theorem gf_X2_67_1 {p : Program} {l : Launch} {e : Env} {R : Room} {s : State} {m : MethodId} {args : Array Value} {below : List Frame} {meth : Method} {c : Code} {H : Heap} {locs : List Loc} {cells slots : Nat} {Q : State → Prop} {cc : ByteArray} {pc nL a : Nat} {ls : Array Slot} {rest : List Value} {G : b_G} {B0 : Nat} (CX : b_Cx p s m args c cc nL RX2 G B0) {fs : List Value} (hP : b_at G a (.inr (1, fs)) H) {v : Value} (hv : fs[6]? = some v) (hdg : decode cc pc = .ok (.getfield 67, 3)) (kk : W p l e R s m args below meth c H locs cells slots Q (F0 m (pc + 3) ls (v :: rest))) : W p l e R s m args below meth c H locs cells slots Q (F0 m pc ls (.ref a :: rest)) := b_get CX in_X2 rfl 6 (by decide) q187 (Or.inl rfl) hP hv hdg kk
theorem pf_X2_67_1 {p : Program} {l : Launch} {e : Env} {R : Room} {s : State} {m : MethodId} {args : Array Value} {below : List Frame} {meth : Method} {c : Code} {H : Heap} {locs : List Loc} {cells slots : Nat} {Q : State → Prop} {cc : ByteArray} {pc nL a : Nat} {ls : Array Slot} {rest : List Value} {G : b_G} {B0 : Nat} (CX : b_Cx p s m args c cc nL RX2 G B0) {fs : List Value} (hP : b_at G a (.inr (1, fs)) H) (hS : va_S (b_A B0) s.heap H locs) (ha : B0 ≤ a) {v : Value} (hn : narrow (tyX2 6) v = v) (hfit : fits (tyX2 6) v = true) (hl : 6 < fs.length) (hdg : decode cc pc = .ok (.putfield 67, 3)) (kk : ∀ (H1 : Heap) (locs1 : List Loc), b_at G a (.inr (1, fs.set 6 v)) H1 → b_Up a H H1 → va_S (b_A B0) s.heap H1 locs1 → W p l e R s m args below meth c H1 locs1 cells slots Q (F0 m (pc + 3) ls rest)) : W p l e R s m args below meth c H locs cells slots Q (F0 m pc ls (v :: .ref a :: rest)) := b_put CX in_X2 tyX2 tyX2_ok rfl 6 (by decide) (by decide +kernel) q187 (Or.inl rfl) rfl hP hS ha hn hfit hl hdg kk
set_option maxHeartbeats 2000000 in
set_option maxRecDepth 100000 in
theorem m_X2_breaks (l : Launch) {G : b_G} {B0 : Nat} {H : Heap} {τ : b_T} {id : Nat} {F : Nat → Nat} {M : Nat → Int32} {E : Nat → Bool} {S : b_St} {Z : Nat → Nat → Int32} {b : Nat} {s_ : Nat} {n_ : Int32} (hL : LR G B0 τ id F M E H S Z) (hW : b_WF S) (hb : b < nb S) (hs : s_ < ns S) : Met l yX2_breaks (ws_ yX2_breaks cX2_breaks 6 (Option.some Jvm.ClassFile.FieldType.int)) ({ frames := 3, cells := 0, slots := 0, locals := 64 } : Room) (b_Pc G B0 H [.ref ((F 0)), .int (nI b), .ref ((F (30 + s_))), .int n_]) (b_Qi B0 (fun r H1 => r = p_paid S b n_ ∧ b_Fr τ (fun t => 1000 * id ≤ t ∧ t < 1000 * id + 1000) H H1 ∧ LR G B0 τ id F M E H1 ((s_break S s_ b n_)) Z)) 0 0 (b_A B0) := by
  refine b_of (by decide) (Nat.le_of_ble_eq_true rfl) ?_
  intro p e s m below meth c CX hr hlk hnm hS ls hl
  have CX : b_Cx p s m _ c cX2_breaks 6 RX2 G B0 := CX
  have hx := CX.hx
  have hb := CX.hb
  have hl : lv_has ls 6 [(0, .ref ((F 0))), (1, .int (nI b)), (2, .ref ((F (30 + s_)))), (3, .int n_)] := hl
  generalize hQ : MQ below (b_Qi B0 (fun r H1 => r = p_paid S b n_ ∧ b_Fr τ (fun t => 1000 * id ≤ t ∧ t < 1000 * id + 1000) H H1 ∧ LR G B0 τ id F M E H1 ((s_break S s_ b n_)) Z)) ([.ref ((F 0)), .int (nI b), .ref ((F (30 + s_))), .int n_] : List Value).toArray s 0 0 (b_A B0) = Q
  have hF : b_Fr τ (fun t => 1000 * id ≤ t ∧ t < 1000 * id + 1000) H H := b_Fr.rf
  have hA : b_Ag τ τ H := b_Ag.rf
  have hnb : nb S = nb S := rfl
  have hns : ns S = ns S := rfl
  have hn8 := hL.2.2.2.1
  have hn6 := hL.2.2.2.2
  refine lv_iload_n hx hb dX2_breaks_0 rfl (lv_at hl 3 rfl) ?_
  refine lv_aload_n hx hb dX2_breaks_1 rfl (lv_at hl 0 rfl) ?_
  refine lv_aload_n hx hb dX2_breaks_2 rfl (lv_at hl 0 rfl) ?_
  refine gf_X2_12_1 CX hL.loop.at rfl dX2_breaks_3 ?_
  refine lv_iload_n hx hb dX2_breaks_6 rfl (lv_at hl 1 rfl) ?_
  refine b_cq0 (cs_X2_35 (rest := [.ref ((F 0)), .int n_]) CX hl.1 (m_J2_get l (a := (F 1)) (ta := 1000 * id + 1) (mc := M 1) (ra := (F 2)) (tr := 1000 * id + 2) (f := (fun j => F (20 + j))) (n := nb S) (i := b) (hL.alg1 hW (by omega)) (hL.arg2 (by omega)) (by omega) (by omega)) rfl rfl rfl (hL.alg1 hW (by omega)).at hS rfl ⟨rfl, rfl, Nat.le_of_ble_eq_true rfl, Nat.le_of_ble_eq_true rfl⟩ (Nat.le_of_ble_eq_true rfl) dX2_breaks_7 ⟨Nat.le_of_ble_eq_true rfl, Nat.le_of_ble_eq_true rfl⟩) hS (fun locs hS => ?_)
  refine b_cast CX (ci := 4) rfl (hL.brand (k := b) (by omega)).at q897 dX2_breaks_10 ?_
  refine b_ci0 (cs_X2_99 (rest := [.int n_]) CX hl.1 (m_X2_deposit l (b := b) hL hW (by omega)) rfl rfl rfl hL.loop.at hS rfl ⟨rfl, rfl, Nat.le_of_ble_eq_true rfl, Nat.le_of_ble_eq_true rfl⟩ (Nat.le_of_ble_eq_true rfl) dX2_breaks_13 ⟨Nat.le_of_ble_eq_true rfl, Nat.le_of_ble_eq_true rfl⟩) hS (fun locs hS => ?_)
  refine lv_imul hx hb dX2_breaks_16 ?_
  refine lv_istore (lv' := [(4, .int (n_ * (p_dep S b))), (0, .ref ((F 0))), (1, .int (nI b)), (2, .ref ((F (30 + s_)))), (3, .int n_)]) hx hb dX2_breaks_17 hl (Nat.le_of_ble_eq_true rfl) rfl (fun ls hl => ?_)
  refine lv_iload hx hb dX2_breaks_19 (lv_at hl 0 rfl) ?_
  refine lv_aload_n hx hb dX2_breaks_21 rfl (lv_at hl 1 rfl) ?_
  refine gf_X2_70_1 CX hL.loop.at rfl dX2_breaks_22 ?_
  refine va_mmin hx hb (by rw [CX.ml, hl.1]) CX.ow (CX.ts _ q1394) (CX.ts _ q344) (CX.ts _ q99) (CX.ts _ q345) (Nat.le_of_ble_eq_true rfl) (Nat.le_of_ble_eq_true rfl) (Nat.le_of_ble_eq_true rfl) (Nat.le_of_ble_eq_true rfl) dX2_breaks_25 ?_
  refine b_top (x := if (S 0 0 5) < (n_ * (p_dep S b)) then (S 0 0 5) else (n_ * (p_dep S b))) (y := p_least (n_ * (p_dep S b)) (S 0 0 5)) p_minE ?_
  refine lv_istore (lv' := [(5, .int (p_least (n_ * (p_dep S b)) (S 0 0 5))), (4, .int (n_ * (p_dep S b))), (0, .ref ((F 0))), (1, .int (nI b)), (2, .ref ((F (30 + s_)))), (3, .int n_)]) hx hb dX2_breaks_28 hl (Nat.le_of_ble_eq_true rfl) rfl (fun ls hl => ?_)
  refine lv_aload_n hx hb dX2_breaks_30 rfl (lv_at hl 4 rfl) ?_
  refine gf_X2_135_5 CX (hL.shop (k := s_) (by omega)).at rfl dX2_breaks_31 ?_
  refine lv_iload_n hx hb dX2_breaks_34 rfl (lv_at hl 3 rfl) ?_
  refine lv_dup2_11 hx hb dX2_breaks_35 rfl rfl ?_
  refine b_ild CX (hL.empt (k := s_) (by omega)).at (x := S 5 s_ b) (vp_in_nI (by omega) (by omega)) (b_at_nI (f := (fun j => S 5 s_ j)) (n := b) (by omega) rfl) dX2_breaks_36 ?_
  refine lv_iload_n hx hb dX2_breaks_37 rfl (lv_at hl 5 rfl) ?_
  refine lv_isub hx hb dX2_breaks_38 ?_
  refine b_ist CX (hL.empt (k := s_) (by omega)).at hS (hL.empt (k := s_) (by omega)).B (vp_in_nI (by omega) (by omega)) dX2_breaks_39 (fun H1 locs hat hu hS => ?_)
  have hF := hF.up hA hu (hL.empt (k := s_) (by omega)).tag (fun _ => show 1000 * id ≤ (1000 * id + (50 + s_)) ∧ (1000 * id + (50 + s_)) < 1000 * id + 1000 by omega)
  rw [nI_cl (by omega)] at hat
  have hL : LR G B0 τ id F M E H1 ((u3 S 5 s_ b ((S 5 s_ b) - n_))) Z := hL.set6 (k := s_) (by omega) hat hu
  have hnb : nb ((u3 S 5 s_ b ((S 5 s_ b) - n_))) = nb S := (nb_u (by omega)).trans hnb
  have hns : ns ((u3 S 5 s_ b ((S 5 s_ b) - n_))) = ns S := (ns_u (by omega)).trans hns
  refine lv_aload_n hx hb dX2_breaks_40 rfl (lv_at hl 2 rfl) ?_
  refine gf_X2_12_1 CX hL.loop.at rfl dX2_breaks_41 ?_
  refine lv_iload_n hx hb dX2_breaks_44 rfl (lv_at hl 3 rfl) ?_
  refine b_cq0 (cs_X2_35 (rest := []) CX hl.1 (m_J2_get l (a := (F 1)) (ta := 1000 * id + 1) (mc := M 1) (ra := (F 2)) (tr := 1000 * id + 2) (f := (fun j => F (20 + j))) (n := nb ((u3 S 5 s_ b ((S 5 s_ b) - n_)))) (i := b) (hL.alg1 (hW.up (by omega) (by omega)) (by omega)) (hL.arg2 (by omega)) (by omega) (by omega)) rfl rfl rfl (hL.alg1 (hW.up (by omega) (by omega)) (by omega)).at hS rfl ⟨rfl, rfl, Nat.le_of_ble_eq_true rfl, Nat.le_of_ble_eq_true rfl⟩ (Nat.le_of_ble_eq_true rfl) dX2_breaks_45 ⟨Nat.le_of_ble_eq_true rfl, Nat.le_of_ble_eq_true rfl⟩) hS (fun locs hS => ?_)
  refine b_cast CX (ci := 4) rfl (hL.brand (k := b) (by omega)).at q897 dX2_breaks_48 ?_
  refine lv_dup hx hb dX2_breaks_51 rfl ?_
  refine gf_X2_143_4 CX (hL.brand (k := b) (by omega)).at (v := .int (S 1 b 5)) (congrArg (fun q => some (Value.int q)) (by simp [u3])) dX2_breaks_52 ?_
  refine lv_iload_n hx hb dX2_breaks_55 rfl (lv_at hl 5 rfl) ?_
  refine lv_iadd hx hb dX2_breaks_56 ?_
  refine pf_X2_143_4 CX (hL.brand (k := b) (by omega)).at hS (hL.brand (k := b) (by omega)).B rfl rfl (Nat.le_of_ble_eq_true rfl) dX2_breaks_57 (fun H2 locs hat hu hS => ?_)
  have hF := hF.up hA hu (hL.brand (k := b) (by omega)).tag (fun _ => show 1000 * id ≤ (1000 * id + (20 + b)) ∧ (1000 * id + (20 + b)) < 1000 * id + 1000 by omega)
  have hL : LR G B0 τ id F M E H2 ((u3 (u3 S 5 s_ b ((S 5 s_ b) - n_)) 1 b 5 ((S 1 b 5) + n_))) Z := hL.set1 (k := b) (w := 5) (by omega) hat hu (by simp [u3])
  have hnb : nb ((u3 (u3 S 5 s_ b ((S 5 s_ b) - n_)) 1 b 5 ((S 1 b 5) + n_))) = nb S := (nb_u (by omega)).trans hnb
  have hns : ns ((u3 (u3 S 5 s_ b ((S 5 s_ b) - n_)) 1 b 5 ((S 1 b 5) + n_))) = ns S := (ns_u (by omega)).trans hns
  refine lv_aload_n hx hb dX2_breaks_60 rfl (lv_at hl 2 rfl) ?_
  refine lv_dup hx hb dX2_breaks_61 rfl ?_
  refine gf_X2_70_1 CX hL.loop.at (v := .int (S 0 0 5)) (congrArg (fun q => some (Value.int q)) (by simp [u3])) dX2_breaks_62 ?_
  refine lv_iload hx hb dX2_breaks_65 (lv_at hl 0 rfl) ?_
  refine lv_isub hx hb dX2_breaks_67 ?_
  refine pf_X2_70_1 CX hL.loop.at hS hL.loop.B rfl rfl (Nat.le_of_ble_eq_true rfl) dX2_breaks_68 (fun H3 locs hat hu hS => ?_)
  have hF := hF.up hA hu hL.loop.tag (fun _ => show 1000 * id ≤ (1000 * id + 0) ∧ (1000 * id + 0) < 1000 * id + 1000 by omega)
  have hL : LR G B0 τ id F M E H3 ((u3 (u3 (u3 S 5 s_ b ((S 5 s_ b) - n_)) 1 b 5 ((S 1 b 5) + n_)) 0 0 5 ((S 0 0 5) - (p_least (n_ * (p_dep S b)) (S 0 0 5))))) Z := hL.set0 (w := 5) (by decide) hat hu (by simp [l_cnt, u3])
  have hnb : nb ((u3 (u3 (u3 S 5 s_ b ((S 5 s_ b) - n_)) 1 b 5 ((S 1 b 5) + n_)) 0 0 5 ((S 0 0 5) - (p_least (n_ * (p_dep S b)) (S 0 0 5))))) = nb S := (nb_u (by omega)).trans hnb
  have hns : ns ((u3 (u3 (u3 S 5 s_ b ((S 5 s_ b) - n_)) 1 b 5 ((S 1 b 5) + n_)) 0 0 5 ((S 0 0 5) - (p_least (n_ * (p_dep S b)) (S 0 0 5))))) = ns S := (ns_u (by omega)).trans hns
  refine lv_aload_n hx hb dX2_breaks_71 rfl (lv_at hl 4 rfl) ?_
  refine lv_dup hx hb dX2_breaks_72 rfl ?_
  refine gf_X2_126_5 CX (hL.shop (k := s_) (by omega)).at (v := .int (S 2 s_ 3)) (congrArg (fun q => some (Value.int q)) (by simp [u3])) dX2_breaks_73 ?_
  refine lv_iload hx hb dX2_breaks_76 (lv_at hl 0 rfl) ?_
  refine lv_isub hx hb dX2_breaks_78 ?_
  refine pf_X2_126_5 CX (hL.shop (k := s_) (by omega)).at hS (hL.shop (k := s_) (by omega)).B rfl rfl (Nat.le_of_ble_eq_true rfl) dX2_breaks_79 (fun H4 locs hat hu hS => ?_)
  have hF := hF.up hA hu (hL.shop (k := s_) (by omega)).tag (fun _ => show 1000 * id ≤ (1000 * id + (30 + s_)) ∧ (1000 * id + (30 + s_)) < 1000 * id + 1000 by omega)
  have hL : LR G B0 τ id F M E H4 ((u3 (u3 (u3 (u3 S 5 s_ b ((S 5 s_ b) - n_)) 1 b 5 ((S 1 b 5) + n_)) 0 0 5 ((S 0 0 5) - (p_least (n_ * (p_dep S b)) (S 0 0 5)))) 2 s_ 3 ((S 2 s_ 3) - (p_least (n_ * (p_dep S b)) (S 0 0 5))))) Z := hL.set2 (k := s_) (w := 3) (by omega) hat hu (by simp [u3])
  have hnb : nb ((u3 (u3 (u3 (u3 S 5 s_ b ((S 5 s_ b) - n_)) 1 b 5 ((S 1 b 5) + n_)) 0 0 5 ((S 0 0 5) - (p_least (n_ * (p_dep S b)) (S 0 0 5)))) 2 s_ 3 ((S 2 s_ 3) - (p_least (n_ * (p_dep S b)) (S 0 0 5))))) = nb S := (nb_u (by omega)).trans hnb
  have hns : ns ((u3 (u3 (u3 (u3 S 5 s_ b ((S 5 s_ b) - n_)) 1 b 5 ((S 1 b 5) + n_)) 0 0 5 ((S 0 0 5) - (p_least (n_ * (p_dep S b)) (S 0 0 5)))) 2 s_ 3 ((S 2 s_ 3) - (p_least (n_ * (p_dep S b)) (S 0 0 5))))) = ns S := (ns_u (by omega)).trans hns
  refine lv_aload_n hx hb dX2_breaks_82 rfl (lv_at hl 4 rfl) ?_
  refine lv_dup hx hb dX2_breaks_83 rfl ?_
  refine gf_X2_109_5 CX (hL.shop (k := s_) (by omega)).at (v := .int (S 2 s_ 0)) (congrArg (fun q => some (Value.int q)) (by simp [u3])) dX2_breaks_84 ?_
  refine lv_iload hx hb dX2_breaks_87 (lv_at hl 0 rfl) ?_
  refine lv_iadd hx hb dX2_breaks_89 ?_
  refine pf_X2_109_5 CX (hL.shop (k := s_) (by omega)).at hS (hL.shop (k := s_) (by omega)).B rfl rfl (Nat.le_of_ble_eq_true rfl) dX2_breaks_90 (fun H5 locs hat hu hS => ?_)
  have hF := hF.up hA hu (hL.shop (k := s_) (by omega)).tag (fun _ => show 1000 * id ≤ (1000 * id + (30 + s_)) ∧ (1000 * id + (30 + s_)) < 1000 * id + 1000 by omega)
  have hL : LR G B0 τ id F M E H5 ((u3 (u3 (u3 (u3 (u3 S 5 s_ b ((S 5 s_ b) - n_)) 1 b 5 ((S 1 b 5) + n_)) 0 0 5 ((S 0 0 5) - (p_least (n_ * (p_dep S b)) (S 0 0 5)))) 2 s_ 3 ((S 2 s_ 3) - (p_least (n_ * (p_dep S b)) (S 0 0 5)))) 2 s_ 0 ((S 2 s_ 0) + (p_least (n_ * (p_dep S b)) (S 0 0 5))))) Z := hL.set2 (k := s_) (w := 0) (by omega) hat hu (by simp [u3])
  have hnb : nb ((u3 (u3 (u3 (u3 (u3 S 5 s_ b ((S 5 s_ b) - n_)) 1 b 5 ((S 1 b 5) + n_)) 0 0 5 ((S 0 0 5) - (p_least (n_ * (p_dep S b)) (S 0 0 5)))) 2 s_ 3 ((S 2 s_ 3) - (p_least (n_ * (p_dep S b)) (S 0 0 5)))) 2 s_ 0 ((S 2 s_ 0) + (p_least (n_ * (p_dep S b)) (S 0 0 5))))) = nb S := (nb_u (by omega)).trans hnb
  have hns : ns ((u3 (u3 (u3 (u3 (u3 S 5 s_ b ((S 5 s_ b) - n_)) 1 b 5 ((S 1 b 5) + n_)) 0 0 5 ((S 0 0 5) - (p_least (n_ * (p_dep S b)) (S 0 0 5)))) 2 s_ 3 ((S 2 s_ 3) - (p_least (n_ * (p_dep S b)) (S 0 0 5)))) 2 s_ 0 ((S 2 s_ 0) + (p_least (n_ * (p_dep S b)) (S 0 0 5))))) = ns S := (ns_u (by omega)).trans hns
  refine lv_aload_n hx hb dX2_breaks_93 rfl (lv_at hl 2 rfl) ?_
  refine lv_dup hx hb dX2_breaks_94 rfl ?_
  refine gf_X2_67_1 CX hL.loop.at (v := .int (S 0 0 4)) (congrArg (fun q => some (Value.int q)) (by simp [u3])) dX2_breaks_95 ?_
  refine lv_iload hx hb dX2_breaks_98 (lv_at hl 1 rfl) ?_
  refine lv_iadd hx hb dX2_breaks_100 ?_
  refine pf_X2_67_1 CX hL.loop.at hS hL.loop.B rfl rfl (Nat.le_of_ble_eq_true rfl) dX2_breaks_101 (fun H6 locs hat hu hS => ?_)
  have hF := hF.up hA hu hL.loop.tag (fun _ => show 1000 * id ≤ (1000 * id + 0) ∧ (1000 * id + 0) < 1000 * id + 1000 by omega)
  have hL : LR G B0 τ id F M E H6 ((u3 (u3 (u3 (u3 (u3 (u3 S 5 s_ b ((S 5 s_ b) - n_)) 1 b 5 ((S 1 b 5) + n_)) 0 0 5 ((S 0 0 5) - (p_least (n_ * (p_dep S b)) (S 0 0 5)))) 2 s_ 3 ((S 2 s_ 3) - (p_least (n_ * (p_dep S b)) (S 0 0 5)))) 2 s_ 0 ((S 2 s_ 0) + (p_least (n_ * (p_dep S b)) (S 0 0 5)))) 0 0 4 ((S 0 0 4) + (n_ * (p_dep S b))))) Z := hL.set0 (w := 4) (by decide) hat hu (by simp [l_cnt, u3])
  have hnb : nb ((u3 (u3 (u3 (u3 (u3 (u3 S 5 s_ b ((S 5 s_ b) - n_)) 1 b 5 ((S 1 b 5) + n_)) 0 0 5 ((S 0 0 5) - (p_least (n_ * (p_dep S b)) (S 0 0 5)))) 2 s_ 3 ((S 2 s_ 3) - (p_least (n_ * (p_dep S b)) (S 0 0 5)))) 2 s_ 0 ((S 2 s_ 0) + (p_least (n_ * (p_dep S b)) (S 0 0 5)))) 0 0 4 ((S 0 0 4) + (n_ * (p_dep S b))))) = nb S := (nb_u (by omega)).trans hnb
  have hns : ns ((u3 (u3 (u3 (u3 (u3 (u3 S 5 s_ b ((S 5 s_ b) - n_)) 1 b 5 ((S 1 b 5) + n_)) 0 0 5 ((S 0 0 5) - (p_least (n_ * (p_dep S b)) (S 0 0 5)))) 2 s_ 3 ((S 2 s_ 3) - (p_least (n_ * (p_dep S b)) (S 0 0 5)))) 2 s_ 0 ((S 2 s_ 0) + (p_least (n_ * (p_dep S b)) (S 0 0 5)))) 0 0 4 ((S 0 0 4) + (n_ * (p_dep S b))))) = ns S := (ns_u (by omega)).trans hns
  refine lv_iload hx hb dX2_breaks_104 (lv_at hl 0 rfl) ?_
  rw [← hQ]
  exact b_iret CX hr hlk hS (Nat.le_of_ble_eq_true rfl) (Nat.le_of_ble_eq_true rfl) dX2_breaks_106 (⟨rfl, hF, (by have e9 : (u3 (u3 (u3 (u3 (u3 (u3 S 5 s_ b ((S 5 s_ b) - n_)) 1 b 5 ((S 1 b 5) + n_)) 0 0 5 ((S 0 0 5) - (p_least (n_ * (p_dep S b)) (S 0 0 5)))) 2 s_ 3 ((S 2 s_ 3) - (p_least (n_ * (p_dep S b)) (S 0 0 5)))) 2 s_ 0 ((S 2 s_ 0) + (p_least (n_ * (p_dep S b)) (S 0 0 5)))) 0 0 4 ((S 0 0 4) + (n_ * (p_dep S b)))) = s_break S s_ b n_ := (by funext k i j; unfold s_break p_paid u3; grind); rw [← e9]; exact hL)⟩)
theorem gf_X2_146_4 {p : Program} {l : Launch} {e : Env} {R : Room} {s : State} {m : MethodId} {args : Array Value} {below : List Frame} {meth : Method} {c : Code} {H : Heap} {locs : List Loc} {cells slots : Nat} {Q : State → Prop} {cc : ByteArray} {pc nL a : Nat} {ls : Array Slot} {rest : List Value} {G : b_G} {B0 : Nat} (CX : b_Cx p s m args c cc nL RX2 G B0) {fs : List Value} (hP : b_at G a (.inr (4, fs)) H) {v : Value} (hv : fs[6]? = some v) (hdg : decode cc pc = .ok (.getfield 146, 3)) (kk : W p l e R s m args below meth c H locs cells slots Q (F0 m (pc + 3) ls (v :: rest))) : W p l e R s m args below meth c H locs cells slots Q (F0 m pc ls (.ref a :: rest)) := b_getN CX in_X4 rfl 6 (by decide) q1010 (Or.inl rfl) hP hv hdg kk
theorem pf_X2_146_4 {p : Program} {l : Launch} {e : Env} {R : Room} {s : State} {m : MethodId} {args : Array Value} {below : List Frame} {meth : Method} {c : Code} {H : Heap} {locs : List Loc} {cells slots : Nat} {Q : State → Prop} {cc : ByteArray} {pc nL a : Nat} {ls : Array Slot} {rest : List Value} {G : b_G} {B0 : Nat} (CX : b_Cx p s m args c cc nL RX2 G B0) {fs : List Value} (hP : b_at G a (.inr (4, fs)) H) (hS : va_S (b_A B0) s.heap H locs) (ha : B0 ≤ a) {v : Value} (hn : narrow (tyX4 6) v = v) (hfit : fits (tyX4 6) v = true) (hl : 6 < fs.length) (hdg : decode cc pc = .ok (.putfield 146, 3)) (kk : ∀ (H1 : Heap) (locs1 : List Loc), b_at G a (.inr (4, fs.set 6 v)) H1 → b_Up a H H1 → va_S (b_A B0) s.heap H1 locs1 → W p l e R s m args below meth c H1 locs1 cells slots Q (F0 m (pc + 3) ls rest)) : W p l e R s m args below meth c H locs cells slots Q (F0 m pc ls (v :: .ref a :: rest)) := b_putN CX in_X4 tyX4 tyX4_ok rfl 6 (by decide) (by decide +kernel) q1010 (Or.inl rfl) rfl hP hS ha hn hfit hl hdg kk
set_option maxHeartbeats 2000000 in
set_option maxRecDepth 100000 in
theorem m_X2_lose (l : Launch) {G : b_G} {B0 : Nat} {H : Heap} {τ : b_T} {id : Nat} {F : Nat → Nat} {M : Nat → Int32} {E : Nat → Bool} {S : b_St} {Z : Nat → Nat → Int32} {b : Nat} {n_ : Int32} (hL : LR G B0 τ id F M E H S Z) (hW : b_WF S) (hb : b < nb S) : Met l yX2_lose (ws_ yX2_lose cX2_lose 3 (Option.some Jvm.ClassFile.FieldType.int)) ({ frames := 1, cells := 0, slots := 0, locals := 21 } : Room) (b_Pc G B0 H [.ref ((F 0)), .ref ((F (20 + b))), .int n_]) (b_Qi B0 (fun r H1 => r = S 1 b 3 - n_ ∧ b_Fr τ (fun t => 1000 * id ≤ t ∧ t < 1000 * id + 1000) H H1 ∧ LR G B0 τ id F M E H1 ((s_lose S b n_)) Z)) 0 0 (b_A B0) := by
  refine b_of (by decide) (Nat.le_of_ble_eq_true rfl) ?_
  intro p e s m below meth c CX hr hlk hnm hS ls hl
  have CX : b_Cx p s m _ c cX2_lose 3 RX2 G B0 := CX
  have hx := CX.hx
  have hb := CX.hb
  have hl : lv_has ls 3 [(0, .ref ((F 0))), (1, .ref ((F (20 + b)))), (2, .int n_)] := hl
  generalize hQ : MQ below (b_Qi B0 (fun r H1 => r = S 1 b 3 - n_ ∧ b_Fr τ (fun t => 1000 * id ≤ t ∧ t < 1000 * id + 1000) H H1 ∧ LR G B0 τ id F M E H1 ((s_lose S b n_)) Z)) ([.ref ((F 0)), .ref ((F (20 + b))), .int n_] : List Value).toArray s 0 0 (b_A B0) = Q
  have hF : b_Fr τ (fun t => 1000 * id ≤ t ∧ t < 1000 * id + 1000) H H := b_Fr.rf
  have hA : b_Ag τ τ H := b_Ag.rf
  have hnb : nb S = nb S := rfl
  have hns : ns S = ns S := rfl
  have hn8 := hL.2.2.2.1
  have hn6 := hL.2.2.2.2
  refine lv_aload_n hx hb dX2_lose_0 rfl (lv_at hl 1 rfl) ?_
  refine lv_dup hx hb dX2_lose_1 rfl ?_
  refine gf_X2_129_4 CX (hL.brand (k := b) (by omega)).at rfl dX2_lose_2 ?_
  refine lv_iload_n hx hb dX2_lose_5 rfl (lv_at hl 2 rfl) ?_
  refine lv_isub hx hb dX2_lose_6 ?_
  refine pf_X2_129_4 CX (hL.brand (k := b) (by omega)).at hS (hL.brand (k := b) (by omega)).B rfl rfl (Nat.le_of_ble_eq_true rfl) dX2_lose_7 (fun H1 locs hat hu hS => ?_)
  have hF := hF.up hA hu (hL.brand (k := b) (by omega)).tag (fun _ => show 1000 * id ≤ (1000 * id + (20 + b)) ∧ (1000 * id + (20 + b)) < 1000 * id + 1000 by omega)
  have hL : LR G B0 τ id F M E H1 ((u3 S 1 b 3 ((S 1 b 3) - n_))) Z := hL.set1 (k := b) (w := 3) (by omega) hat hu (by simp [u3])
  have hnb : nb ((u3 S 1 b 3 ((S 1 b 3) - n_))) = nb S := (nb_u (by omega)).trans hnb
  have hns : ns ((u3 S 1 b 3 ((S 1 b 3) - n_))) = ns S := (ns_u (by omega)).trans hns
  refine lv_aload_n hx hb dX2_lose_10 rfl (lv_at hl 1 rfl) ?_
  refine lv_dup hx hb dX2_lose_11 rfl ?_
  refine gf_X2_146_4 CX (hL.brand (k := b) (by omega)).at (v := .int (S 1 b 6)) (congrArg (fun q => some (Value.int q)) (by simp [u3])) dX2_lose_12 ?_
  refine lv_iload_n hx hb dX2_lose_15 rfl (lv_at hl 2 rfl) ?_
  refine lv_iadd hx hb dX2_lose_16 ?_
  refine pf_X2_146_4 CX (hL.brand (k := b) (by omega)).at hS (hL.brand (k := b) (by omega)).B rfl rfl (Nat.le_of_ble_eq_true rfl) dX2_lose_17 (fun H2 locs hat hu hS => ?_)
  have hF := hF.up hA hu (hL.brand (k := b) (by omega)).tag (fun _ => show 1000 * id ≤ (1000 * id + (20 + b)) ∧ (1000 * id + (20 + b)) < 1000 * id + 1000 by omega)
  have hL : LR G B0 τ id F M E H2 ((u3 (u3 S 1 b 3 ((S 1 b 3) - n_)) 1 b 6 ((S 1 b 6) + n_))) Z := hL.set1 (k := b) (w := 6) (by omega) hat hu (by simp [u3])
  have hnb : nb ((u3 (u3 S 1 b 3 ((S 1 b 3) - n_)) 1 b 6 ((S 1 b 6) + n_))) = nb S := (nb_u (by omega)).trans hnb
  have hns : ns ((u3 (u3 S 1 b 3 ((S 1 b 3) - n_)) 1 b 6 ((S 1 b 6) + n_))) = ns S := (ns_u (by omega)).trans hns
  refine lv_aload_n hx hb dX2_lose_20 rfl (lv_at hl 0 rfl) ?_
  refine lv_dup hx hb dX2_lose_21 rfl ?_
  refine gf_X2_67_1 CX hL.loop.at (v := .int (S 0 0 4)) (congrArg (fun q => some (Value.int q)) (by simp [u3])) dX2_lose_22 ?_
  refine lv_iload_n hx hb dX2_lose_25 rfl (lv_at hl 2 rfl) ?_
  refine lv_aload_n hx hb dX2_lose_26 rfl (lv_at hl 0 rfl) ?_
  refine lv_aload_n hx hb dX2_lose_27 rfl (lv_at hl 1 rfl) ?_
  refine b_ci0 (cs_X2_99 (rest := [.int n_, .int (S 0 0 4), .ref ((F 0))]) CX hl.1 (m_X2_deposit l (b := b) hL ((hW.up (by omega) (by omega)).up (by omega) (by omega)) (by omega)) rfl rfl rfl hL.loop.at hS rfl ⟨rfl, rfl, Nat.le_of_ble_eq_true rfl, Nat.le_of_ble_eq_true rfl⟩ (Nat.le_of_ble_eq_true rfl) dX2_lose_28 ⟨Nat.le_of_ble_eq_true rfl, Nat.le_of_ble_eq_true rfl⟩) hS (fun locs hS => ?_)
  refine b_top (x := p_dep ((u3 (u3 S 1 b 3 ((S 1 b 3) - n_)) 1 b 6 ((S 1 b 6) + n_))) b) (y := p_dep S b) (by simp [u3, p_dep, kd]) ?_
  refine lv_imul hx hb dX2_lose_31 ?_
  refine lv_iadd hx hb dX2_lose_32 ?_
  refine pf_X2_67_1 CX hL.loop.at hS hL.loop.B rfl rfl (Nat.le_of_ble_eq_true rfl) dX2_lose_33 (fun H3 locs hat hu hS => ?_)
  have hF := hF.up hA hu hL.loop.tag (fun _ => show 1000 * id ≤ (1000 * id + 0) ∧ (1000 * id + 0) < 1000 * id + 1000 by omega)
  have hL : LR G B0 τ id F M E H3 ((u3 (u3 (u3 S 1 b 3 ((S 1 b 3) - n_)) 1 b 6 ((S 1 b 6) + n_)) 0 0 4 ((S 0 0 4) + (n_ * (p_dep S b))))) Z := hL.set0 (w := 4) (by decide) hat hu (by simp [l_cnt, u3])
  have hnb : nb ((u3 (u3 (u3 S 1 b 3 ((S 1 b 3) - n_)) 1 b 6 ((S 1 b 6) + n_)) 0 0 4 ((S 0 0 4) + (n_ * (p_dep S b))))) = nb S := (nb_u (by omega)).trans hnb
  have hns : ns ((u3 (u3 (u3 S 1 b 3 ((S 1 b 3) - n_)) 1 b 6 ((S 1 b 6) + n_)) 0 0 4 ((S 0 0 4) + (n_ * (p_dep S b))))) = ns S := (ns_u (by omega)).trans hns
  refine lv_aload_n hx hb dX2_lose_36 rfl (lv_at hl 1 rfl) ?_
  refine gf_X2_129_4 CX (hL.brand (k := b) (by omega)).at (v := .int ((S 1 b 3) - n_)) (congrArg (fun q => some (Value.int q)) (by simp [u3])) dX2_lose_37 ?_
  rw [← hQ]
  exact b_iret CX hr hlk hS (Nat.le_of_ble_eq_true rfl) (Nat.le_of_ble_eq_true rfl) dX2_lose_40 (⟨rfl, hF, hL⟩)
theorem gf_X2_164_4 {p : Program} {l : Launch} {e : Env} {R : Room} {s : State} {m : MethodId} {args : Array Value} {below : List Frame} {meth : Method} {c : Code} {H : Heap} {locs : List Loc} {cells slots : Nat} {Q : State → Prop} {cc : ByteArray} {pc nL a : Nat} {ls : Array Slot} {rest : List Value} {G : b_G} {B0 : Nat} (CX : b_Cx p s m args c cc nL RX2 G B0) {fs : List Value} (hP : b_at G a (.inr (4, fs)) H) {v : Value} (hv : fs[9]? = some v) (hdg : decode cc pc = .ok (.getfield 164, 3)) (kk : W p l e R s m args below meth c H locs cells slots Q (F0 m (pc + 3) ls (v :: rest))) : W p l e R s m args below meth c H locs cells slots Q (F0 m pc ls (.ref a :: rest)) := b_getN CX in_X4 rfl 9 (by decide) q1019 (Or.inl rfl) hP hv hdg kk
theorem pf_X2_164_4 {p : Program} {l : Launch} {e : Env} {R : Room} {s : State} {m : MethodId} {args : Array Value} {below : List Frame} {meth : Method} {c : Code} {H : Heap} {locs : List Loc} {cells slots : Nat} {Q : State → Prop} {cc : ByteArray} {pc nL a : Nat} {ls : Array Slot} {rest : List Value} {G : b_G} {B0 : Nat} (CX : b_Cx p s m args c cc nL RX2 G B0) {fs : List Value} (hP : b_at G a (.inr (4, fs)) H) (hS : va_S (b_A B0) s.heap H locs) (ha : B0 ≤ a) {v : Value} (hn : narrow (tyX4 9) v = v) (hfit : fits (tyX4 9) v = true) (hl : 9 < fs.length) (hdg : decode cc pc = .ok (.putfield 164, 3)) (kk : ∀ (H1 : Heap) (locs1 : List Loc), b_at G a (.inr (4, fs.set 9 v)) H1 → b_Up a H H1 → va_S (b_A B0) s.heap H1 locs1 → W p l e R s m args below meth c H1 locs1 cells slots Q (F0 m (pc + 3) ls rest)) : W p l e R s m args below meth c H locs cells slots Q (F0 m pc ls (v :: .ref a :: rest)) := b_putN CX in_X4 tyX4 tyX4_ok rfl 9 (by decide) (by decide +kernel) q1019 (Or.inl rfl) rfl hP hS ha hn hfit hl hdg kk
theorem gf_X2_27_1 {p : Program} {l : Launch} {e : Env} {R : Room} {s : State} {m : MethodId} {args : Array Value} {below : List Frame} {meth : Method} {c : Code} {H : Heap} {locs : List Loc} {cells slots : Nat} {Q : State → Prop} {cc : ByteArray} {pc nL a : Nat} {ls : Array Slot} {rest : List Value} {G : b_G} {B0 : Nat} (CX : b_Cx p s m args c cc nL RX2 G B0) {fs : List Value} (hP : b_at G a (.inr (1, fs)) H) {v : Value} (hv : fs[3]? = some v) (hdg : decode cc pc = .ok (.getfield 27, 3)) (kk : W p l e R s m args below meth c H locs cells slots Q (F0 m (pc + 3) ls (v :: rest))) : W p l e R s m args below meth c H locs cells slots Q (F0 m pc ls (.ref a :: rest)) := b_get CX in_X2 rfl 3 (by decide) q182 (Or.inl rfl) hP hv hdg kk
set_option maxHeartbeats 2000000 in
set_option maxRecDepth 100000 in
theorem m_X2_swap (l : Launch) {G : b_G} {B0 : Nat} {H : Heap} {τ : b_T} {id : Nat} {F : Nat → Nat} {M : Nat → Int32} {E : Nat → Bool} {S : b_St} {Z : Nat → Nat → Int32} {x : Nat} {y : Nat} {c_ : Int32} (hL : LR G B0 τ id F M E H S Z) (hW : b_WF S) (hx9 : x < nb S) (hy9 : y < nb S) (hne : ¬ x = y) : Met l yX2_swap (ws_ yX2_swap cX2_swap 4 (Option.some Jvm.ClassFile.FieldType.int)) ({ frames := 3, cells := 0, slots := 0, locals := 64 } : Room) (b_Pc G B0 H [.ref ((F 0)), .int (nI x), .int (nI y), .int c_]) (b_Qi B0 (fun r H1 => r = Z x y + c_ ∧ b_Fr τ (fun t => 1000 * id ≤ t ∧ t < 1000 * id + 1000) H H1 ∧ LR G B0 τ id F M E H1 ((s_swap S x y c_)) ((s_swZ Z x y c_)))) 0 0 (b_A B0) := by
  refine b_of (by decide) (Nat.le_of_ble_eq_true rfl) ?_
  intro p e s m below meth c CX hr hlk hnm hS ls hl
  have CX : b_Cx p s m _ c cX2_swap 4 RX2 G B0 := CX
  have hx := CX.hx
  have hb := CX.hb
  have hl : lv_has ls 4 [(0, .ref ((F 0))), (1, .int (nI x)), (2, .int (nI y)), (3, .int c_)] := hl
  generalize hQ : MQ below (b_Qi B0 (fun r H1 => r = Z x y + c_ ∧ b_Fr τ (fun t => 1000 * id ≤ t ∧ t < 1000 * id + 1000) H H1 ∧ LR G B0 τ id F M E H1 ((s_swap S x y c_)) ((s_swZ Z x y c_)))) ([.ref ((F 0)), .int (nI x), .int (nI y), .int c_] : List Value).toArray s 0 0 (b_A B0) = Q
  have hF : b_Fr τ (fun t => 1000 * id ≤ t ∧ t < 1000 * id + 1000) H H := b_Fr.rf
  have hA : b_Ag τ τ H := b_Ag.rf
  have hnb : nb S = nb S := rfl
  have hns : ns S = ns S := rfl
  have hn8 := hL.2.2.2.1
  have hn6 := hL.2.2.2.2
  have hne2 : ¬ y = x := fun q => hne q.symm
  refine lv_aload_n hx hb dX2_swap_0 rfl (lv_at hl 0 rfl) ?_
  refine gf_X2_12_1 CX hL.loop.at rfl dX2_swap_1 ?_
  refine lv_iload_n hx hb dX2_swap_4 rfl (lv_at hl 1 rfl) ?_
  refine b_cq0 (cs_X2_35 (rest := []) CX hl.1 (m_J2_get l (a := (F 1)) (ta := 1000 * id + 1) (mc := M 1) (ra := (F 2)) (tr := 1000 * id + 2) (f := (fun j => F (20 + j))) (n := nb S) (i := x) (hL.alg1 hW (by omega)) (hL.arg2 (by omega)) (by omega) (by omega)) rfl rfl rfl (hL.alg1 hW (by omega)).at hS rfl ⟨rfl, rfl, Nat.le_of_ble_eq_true rfl, Nat.le_of_ble_eq_true rfl⟩ (Nat.le_of_ble_eq_true rfl) dX2_swap_5 ⟨Nat.le_of_ble_eq_true rfl, Nat.le_of_ble_eq_true rfl⟩) hS (fun locs hS => ?_)
  refine b_cast CX (ci := 4) rfl (hL.brand (k := x) (by omega)).at q897 dX2_swap_8 ?_
  refine lv_dup hx hb dX2_swap_11 rfl ?_
  refine gf_X2_82_4 CX (hL.brand (k := x) (by omega)).at rfl dX2_swap_12 ?_
  refine lv_iload_n hx hb dX2_swap_15 rfl (lv_at hl 3 rfl) ?_
  refine lv_isub hx hb dX2_swap_16 ?_
  refine pf_X2_82_4 CX (hL.brand (k := x) (by omega)).at hS (hL.brand (k := x) (by omega)).B rfl rfl (Nat.le_of_ble_eq_true rfl) dX2_swap_17 (fun H1 locs hat hu hS => ?_)
  have hF := hF.up hA hu (hL.brand (k := x) (by omega)).tag (fun _ => show 1000 * id ≤ (1000 * id + (20 + x)) ∧ (1000 * id + (20 + x)) < 1000 * id + 1000 by omega)
  have hL : LR G B0 τ id F M E H1 ((u3 S 1 x 1 ((S 1 x 1) - c_))) Z := hL.set1 (k := x) (w := 1) (by omega) hat hu (by simp [u3])
  have hnb : nb ((u3 S 1 x 1 ((S 1 x 1) - c_))) = nb S := (nb_u (by omega)).trans hnb
  have hns : ns ((u3 S 1 x 1 ((S 1 x 1) - c_))) = ns S := (ns_u (by omega)).trans hns
  refine lv_aload_n hx hb dX2_swap_20 rfl (lv_at hl 0 rfl) ?_
  refine gf_X2_12_1 CX hL.loop.at rfl dX2_swap_21 ?_
  refine lv_iload_n hx hb dX2_swap_24 rfl (lv_at hl 2 rfl) ?_
  refine b_cq0 (cs_X2_35 (rest := []) CX hl.1 (m_J2_get l (a := (F 1)) (ta := 1000 * id + 1) (mc := M 1) (ra := (F 2)) (tr := 1000 * id + 2) (f := (fun j => F (20 + j))) (n := nb ((u3 S 1 x 1 ((S 1 x 1) - c_)))) (i := y) (hL.alg1 (hW.up (by omega) (by omega)) (by omega)) (hL.arg2 (by omega)) (by omega) (by omega)) rfl rfl rfl (hL.alg1 (hW.up (by omega) (by omega)) (by omega)).at hS rfl ⟨rfl, rfl, Nat.le_of_ble_eq_true rfl, Nat.le_of_ble_eq_true rfl⟩ (Nat.le_of_ble_eq_true rfl) dX2_swap_25 ⟨Nat.le_of_ble_eq_true rfl, Nat.le_of_ble_eq_true rfl⟩) hS (fun locs hS => ?_)
  refine b_cast CX (ci := 4) rfl (hL.brand (k := y) (by omega)).at q897 dX2_swap_28 ?_
  refine lv_dup hx hb dX2_swap_31 rfl ?_
  refine gf_X2_82_4 CX (hL.brand (k := y) (by omega)).at (v := .int (S 1 y 1)) (congrArg (fun q => some (Value.int q)) (by simp [u3, *])) dX2_swap_32 ?_
  refine lv_iload_n hx hb dX2_swap_35 rfl (lv_at hl 3 rfl) ?_
  refine lv_iadd hx hb dX2_swap_36 ?_
  refine pf_X2_82_4 CX (hL.brand (k := y) (by omega)).at hS (hL.brand (k := y) (by omega)).B rfl rfl (Nat.le_of_ble_eq_true rfl) dX2_swap_37 (fun H2 locs hat hu hS => ?_)
  have hF := hF.up hA hu (hL.brand (k := y) (by omega)).tag (fun _ => show 1000 * id ≤ (1000 * id + (20 + y)) ∧ (1000 * id + (20 + y)) < 1000 * id + 1000 by omega)
  have hL : LR G B0 τ id F M E H2 ((u3 (u3 S 1 x 1 ((S 1 x 1) - c_)) 1 y 1 ((S 1 y 1) + c_))) Z := hL.set1 (k := y) (w := 1) (by omega) hat hu (by simp [u3])
  have hnb : nb ((u3 (u3 S 1 x 1 ((S 1 x 1) - c_)) 1 y 1 ((S 1 y 1) + c_))) = nb S := (nb_u (by omega)).trans hnb
  have hns : ns ((u3 (u3 S 1 x 1 ((S 1 x 1) - c_)) 1 y 1 ((S 1 y 1) + c_))) = ns S := (ns_u (by omega)).trans hns
  refine lv_aload_n hx hb dX2_swap_40 rfl (lv_at hl 0 rfl) ?_
  refine gf_X2_12_1 CX hL.loop.at rfl dX2_swap_41 ?_
  refine lv_iload_n hx hb dX2_swap_44 rfl (lv_at hl 1 rfl) ?_
  refine b_cq0 (cs_X2_35 (rest := []) CX hl.1 (m_J2_get l (a := (F 1)) (ta := 1000 * id + 1) (mc := M 1) (ra := (F 2)) (tr := 1000 * id + 2) (f := (fun j => F (20 + j))) (n := nb ((u3 (u3 S 1 x 1 ((S 1 x 1) - c_)) 1 y 1 ((S 1 y 1) + c_)))) (i := x) (hL.alg1 ((hW.up (by omega) (by omega)).up (by omega) (by omega)) (by omega)) (hL.arg2 (by omega)) (by omega) (by omega)) rfl rfl rfl (hL.alg1 ((hW.up (by omega) (by omega)).up (by omega) (by omega)) (by omega)).at hS rfl ⟨rfl, rfl, Nat.le_of_ble_eq_true rfl, Nat.le_of_ble_eq_true rfl⟩ (Nat.le_of_ble_eq_true rfl) dX2_swap_45 ⟨Nat.le_of_ble_eq_true rfl, Nat.le_of_ble_eq_true rfl⟩) hS (fun locs hS => ?_)
  refine b_cast CX (ci := 4) rfl (hL.brand (k := x) (by omega)).at q897 dX2_swap_48 ?_
  refine lv_dup hx hb dX2_swap_51 rfl ?_
  refine gf_X2_164_4 CX (hL.brand (k := x) (by omega)).at (v := .int (S 1 x 9)) (congrArg (fun q => some (Value.int q)) (by simp [u3, *])) dX2_swap_52 ?_
  refine lv_iload_n hx hb dX2_swap_55 rfl (lv_at hl 3 rfl) ?_
  refine lv_iadd hx hb dX2_swap_56 ?_
  refine pf_X2_164_4 CX (hL.brand (k := x) (by omega)).at hS (hL.brand (k := x) (by omega)).B rfl rfl (Nat.le_of_ble_eq_true rfl) dX2_swap_57 (fun H3 locs hat hu hS => ?_)
  have hF := hF.up hA hu (hL.brand (k := x) (by omega)).tag (fun _ => show 1000 * id ≤ (1000 * id + (20 + x)) ∧ (1000 * id + (20 + x)) < 1000 * id + 1000 by omega)
  have hL : LR G B0 τ id F M E H3 ((u3 (u3 (u3 S 1 x 1 ((S 1 x 1) - c_)) 1 y 1 ((S 1 y 1) + c_)) 1 x 9 ((S 1 x 9) + c_))) Z := hL.set1 (k := x) (w := 9) (by omega) hat hu (by simp [u3])
  have hnb : nb ((u3 (u3 (u3 S 1 x 1 ((S 1 x 1) - c_)) 1 y 1 ((S 1 y 1) + c_)) 1 x 9 ((S 1 x 9) + c_))) = nb S := (nb_u (by omega)).trans hnb
  have hns : ns ((u3 (u3 (u3 S 1 x 1 ((S 1 x 1) - c_)) 1 y 1 ((S 1 y 1) + c_)) 1 x 9 ((S 1 x 9) + c_))) = ns S := (ns_u (by omega)).trans hns
  refine lv_aload_n hx hb dX2_swap_60 rfl (lv_at hl 0 rfl) ?_
  refine gf_X2_12_1 CX hL.loop.at rfl dX2_swap_61 ?_
  refine lv_iload_n hx hb dX2_swap_64 rfl (lv_at hl 2 rfl) ?_
  refine b_cq0 (cs_X2_35 (rest := []) CX hl.1 (m_J2_get l (a := (F 1)) (ta := 1000 * id + 1) (mc := M 1) (ra := (F 2)) (tr := 1000 * id + 2) (f := (fun j => F (20 + j))) (n := nb ((u3 (u3 (u3 S 1 x 1 ((S 1 x 1) - c_)) 1 y 1 ((S 1 y 1) + c_)) 1 x 9 ((S 1 x 9) + c_)))) (i := y) (hL.alg1 (((hW.up (by omega) (by omega)).up (by omega) (by omega)).up (by omega) (by omega)) (by omega)) (hL.arg2 (by omega)) (by omega) (by omega)) rfl rfl rfl (hL.alg1 (((hW.up (by omega) (by omega)).up (by omega) (by omega)).up (by omega) (by omega)) (by omega)).at hS rfl ⟨rfl, rfl, Nat.le_of_ble_eq_true rfl, Nat.le_of_ble_eq_true rfl⟩ (Nat.le_of_ble_eq_true rfl) dX2_swap_65 ⟨Nat.le_of_ble_eq_true rfl, Nat.le_of_ble_eq_true rfl⟩) hS (fun locs hS => ?_)
  refine b_cast CX (ci := 4) rfl (hL.brand (k := y) (by omega)).at q897 dX2_swap_68 ?_
  refine lv_dup hx hb dX2_swap_71 rfl ?_
  refine gf_X2_164_4 CX (hL.brand (k := y) (by omega)).at (v := .int (S 1 y 9)) (congrArg (fun q => some (Value.int q)) (by simp [u3, *])) dX2_swap_72 ?_
  refine lv_iload_n hx hb dX2_swap_75 rfl (lv_at hl 3 rfl) ?_
  refine lv_isub hx hb dX2_swap_76 ?_
  refine pf_X2_164_4 CX (hL.brand (k := y) (by omega)).at hS (hL.brand (k := y) (by omega)).B rfl rfl (Nat.le_of_ble_eq_true rfl) dX2_swap_77 (fun H4 locs hat hu hS => ?_)
  have hF := hF.up hA hu (hL.brand (k := y) (by omega)).tag (fun _ => show 1000 * id ≤ (1000 * id + (20 + y)) ∧ (1000 * id + (20 + y)) < 1000 * id + 1000 by omega)
  have hL : LR G B0 τ id F M E H4 ((u3 (u3 (u3 (u3 S 1 x 1 ((S 1 x 1) - c_)) 1 y 1 ((S 1 y 1) + c_)) 1 x 9 ((S 1 x 9) + c_)) 1 y 9 ((S 1 y 9) - c_))) Z := hL.set1 (k := y) (w := 9) (by omega) hat hu (by simp [u3])
  have hnb : nb ((u3 (u3 (u3 (u3 S 1 x 1 ((S 1 x 1) - c_)) 1 y 1 ((S 1 y 1) + c_)) 1 x 9 ((S 1 x 9) + c_)) 1 y 9 ((S 1 y 9) - c_))) = nb S := (nb_u (by omega)).trans hnb
  have hns : ns ((u3 (u3 (u3 (u3 S 1 x 1 ((S 1 x 1) - c_)) 1 y 1 ((S 1 y 1) + c_)) 1 x 9 ((S 1 x 9) + c_)) 1 y 9 ((S 1 y 9) - c_))) = ns S := (ns_u (by omega)).trans hns
  refine lv_aload_n hx hb dX2_swap_80 rfl (lv_at hl 0 rfl) ?_
  refine gf_X2_27_1 CX hL.loop.at rfl dX2_swap_81 ?_
  refine lv_iload_n hx hb dX2_swap_84 rfl (lv_at hl 1 rfl) ?_
  refine b_gld CX hL.rows.at (x := (F (10 + x))) (vp_in_nI (by omega) (by omega)) (b_at_nQ (f := fun j => some (F (10 + j))) (n := x) (by omega) rfl) dX2_swap_85 ?_
  refine lv_iload_n hx hb dX2_swap_86 rfl (lv_at hl 2 rfl) ?_
  refine lv_dup2_11 hx hb dX2_swap_87 rfl rfl ?_
  refine b_ild CX (hL.row (i := x) (by omega)).at (x := Z x y) (vp_in_nI (by omega) (by omega)) (b_at_nI (f := Z x) (n := y) (by omega) rfl) dX2_swap_88 ?_
  refine lv_iload_n hx hb dX2_swap_89 rfl (lv_at hl 3 rfl) ?_
  refine lv_iadd hx hb dX2_swap_90 ?_
  refine b_ist CX (hL.row (i := x) (by omega)).at hS (hL.row (i := x) (by omega)).B (vp_in_nI (by omega) (by omega)) dX2_swap_91 (fun H5 locs hat hu hS => ?_)
  have hF := hF.up hA hu (hL.row (i := x) (by omega)).tag (fun _ => show 1000 * id ≤ (1000 * id + (10 + x)) ∧ (1000 * id + (10 + x)) < 1000 * id + 1000 by omega)
  rw [nI_cl (by omega)] at hat
  have hL : LR G B0 τ id F M E H5 ((u3 (u3 (u3 (u3 S 1 x 1 ((S 1 x 1) - c_)) 1 y 1 ((S 1 y 1) + c_)) 1 x 9 ((S 1 x 9) + c_)) 1 y 9 ((S 1 y 9) - c_))) ((upZ Z x y ((Z x y) + c_))) := hL.setZ (i := x) (by omega) hat hu
  refine lv_aload_n hx hb dX2_swap_92 rfl (lv_at hl 0 rfl) ?_
  refine gf_X2_27_1 CX hL.loop.at rfl dX2_swap_93 ?_
  refine lv_iload_n hx hb dX2_swap_96 rfl (lv_at hl 2 rfl) ?_
  refine b_gld CX hL.rows.at (x := (F (10 + y))) (vp_in_nI (by omega) (by omega)) (b_at_nQ (f := fun j => some (F (10 + j))) (n := y) (by omega) rfl) dX2_swap_97 ?_
  refine lv_iload_n hx hb dX2_swap_98 rfl (lv_at hl 1 rfl) ?_
  refine lv_dup2_11 hx hb dX2_swap_99 rfl rfl ?_
  refine b_ild CX (hL.row (i := y) (by omega)).at (x := ((upZ Z x y ((Z x y) + c_))) y x) (vp_in_nI (by omega) (by omega)) (b_at_nI (f := ((upZ Z x y ((Z x y) + c_))) y) (n := x) (by omega) rfl) dX2_swap_100 ?_
  refine lv_iload_n hx hb dX2_swap_101 rfl (lv_at hl 3 rfl) ?_
  refine lv_isub hx hb dX2_swap_102 ?_
  refine b_ist CX (hL.row (i := y) (by omega)).at hS (hL.row (i := y) (by omega)).B (vp_in_nI (by omega) (by omega)) dX2_swap_103 (fun H6 locs hat hu hS => ?_)
  have hF := hF.up hA hu (hL.row (i := y) (by omega)).tag (fun _ => show 1000 * id ≤ (1000 * id + (10 + y)) ∧ (1000 * id + (10 + y)) < 1000 * id + 1000 by omega)
  rw [nI_cl (by omega)] at hat
  have hL : LR G B0 τ id F M E H6 ((u3 (u3 (u3 (u3 S 1 x 1 ((S 1 x 1) - c_)) 1 y 1 ((S 1 y 1) + c_)) 1 x 9 ((S 1 x 9) + c_)) 1 y 9 ((S 1 y 9) - c_))) ((upZ ((upZ Z x y ((Z x y) + c_))) y x ((((upZ Z x y ((Z x y) + c_))) y x) - c_))) := hL.setZ (i := y) (by omega) hat hu
  refine lv_aload_n hx hb dX2_swap_104 rfl (lv_at hl 0 rfl) ?_
  refine gf_X2_27_1 CX hL.loop.at rfl dX2_swap_105 ?_
  refine lv_iload_n hx hb dX2_swap_108 rfl (lv_at hl 1 rfl) ?_
  refine b_gld CX hL.rows.at (x := (F (10 + x))) (vp_in_nI (by omega) (by omega)) (b_at_nQ (f := fun j => some (F (10 + j))) (n := x) (by omega) rfl) dX2_swap_109 ?_
  refine lv_iload_n hx hb dX2_swap_110 rfl (lv_at hl 2 rfl) ?_
  refine b_ild CX (hL.row (i := x) (by omega)).at (x := ((upZ ((upZ Z x y ((Z x y) + c_))) y x ((((upZ Z x y ((Z x y) + c_))) y x) - c_))) x y) (vp_in_nI (by omega) (by omega)) (b_at_nI (f := ((upZ ((upZ Z x y ((Z x y) + c_))) y x ((((upZ Z x y ((Z x y) + c_))) y x) - c_))) x) (n := y) (by omega) rfl) dX2_swap_111 ?_
  rw [← hQ]
  exact b_iret CX hr hlk hS (Nat.le_of_ble_eq_true rfl) (Nat.le_of_ble_eq_true rfl) dX2_swap_112 (⟨(by rw [s_swZ_e hne]; exact if_pos ⟨rfl, rfl⟩), hF, (by have h9 := hL.k3 (i := x) (j := y) (x := S 3 x y + c_); rw [s_swZ_e hne] at h9; exact h9)⟩)
theorem cs_X2_160 {p : Program} {l : Launch} {e : Env} {R : Room} {s : State} {m : MethodId} {args : Array Value} {below : List Frame} {meth : Method} {c : Code} {H : Heap} {locs : List Loc} {cells slots : Nat} {cc : ByteArray} {pc nL a : Nat} {ls : Array Slot} {rest : List Value} {G : b_G} {B0 : Nat} (CX : b_Cx p s m args c cc nL RX2 G B0) (hls : ls.size = nL) {rm : Room} {mc ms : Nat} {As st0 : List Value} {Qc : Array Value → State → Outcome → State → Prop} (hM : Met l yX2_inYard (ws_ yX2_inYard cX2_inYard 4 (Option.some Jvm.ClassFile.FieldType.int)) rm (b_Pc G B0 H (.ref a :: As)) Qc mc ms (b_A B0)) (hn : As.length = 1) {fs : List Value} {ci : Nat} {qc : vw_C} (hc : b_cl[ci]? = some qc) (hq : qc.1 = RX2) (hP : b_at G a (.inr (ci, fs)) H) (hS : va_S (b_A B0) s.heap H locs) (hst : st0 = As.reverse ++ .ref a :: rest) (hr : rm.cells = mc ∧ rm.slots = ms ∧ rm.frames + 1 ≤ R.frames ∧ 8 + (4 + 11) + rm.locals ≤ R.locals) (hw : (rest.map fun v => v.category).sum ≤ 8) (hdg : decode cc pc = .ok (.invokevirtual 160, 3)) (hf : cells + mc ≤ R.cells ∧ slots + ms ≤ R.slots) : va_Run p l e R s m args below meth c H locs cells slots mc ms (F0 m pc ls st0) rest (Qc (Value.ref a :: As).toArray) (b_A B0) := va_runV CX.fix hM (cwV 1 CX.ts (lw_V q1336 q1337 q1338 q80 q1339) rfl hr.1 hr.2.1 (by decide +kernel) ⟨hr.2.2.1, hr.2.2.2⟩) ⟨b_blind G B0 H _, by have h9 := b_recv CX.K hc hP; rw [hq] at h9; exact h9, b_pre _ CX.K hS⟩ rfl hn hls hst (lv_room hw) hdg hf
theorem pf_X2_157_4 {p : Program} {l : Launch} {e : Env} {R : Room} {s : State} {m : MethodId} {args : Array Value} {below : List Frame} {meth : Method} {c : Code} {H : Heap} {locs : List Loc} {cells slots : Nat} {Q : State → Prop} {cc : ByteArray} {pc nL a : Nat} {ls : Array Slot} {rest : List Value} {G : b_G} {B0 : Nat} (CX : b_Cx p s m args c cc nL RX2 G B0) {fs : List Value} (hP : b_at G a (.inr (4, fs)) H) (hS : va_S (b_A B0) s.heap H locs) (ha : B0 ≤ a) {v : Value} (hn : narrow (tyX4 4) v = v) (hfit : fits (tyX4 4) v = true) (hl : 4 < fs.length) (hdg : decode cc pc = .ok (.putfield 157, 3)) (kk : ∀ (H1 : Heap) (locs1 : List Loc), b_at G a (.inr (4, fs.set 4 v)) H1 → b_Up a H H1 → va_S (b_A B0) s.heap H1 locs1 → W p l e R s m args below meth c H1 locs1 cells slots Q (F0 m (pc + 3) ls rest)) : W p l e R s m args below meth c H locs cells slots Q (F0 m pc ls (v :: .ref a :: rest)) := b_putN CX in_X4 tyX4 tyX4_ok rfl 4 (by decide) (by decide +kernel) q1004 (Or.inl rfl) rfl hP hS ha hn hfit hl hdg kk
set_option maxHeartbeats 2000000 in
set_option maxRecDepth 100000 in
theorem m_X2_sort (l : Launch) {G : b_G} {B0 : Nat} {H : Heap} {τ : b_T} {id : Nat} {F : Nat → Nat} {M : Nat → Int32} {E : Nat → Bool} {S : b_St} {Z : Nat → Nat → Int32} {k : Nat} {w_ : Int32} (hL : LR G B0 τ id F M E H S Z) (hW : b_WF S) (hk : k < 3) : Met l yX2_sort (ws_ yX2_sort cX2_sort 7 (Option.some Jvm.ClassFile.FieldType.int)) ({ frames := 4, cells := 0, slots := 0, locals := 87 } : Room) (b_Pc G B0 H [.ref ((F 0)), .int (nI k), .int w_]) (b_Qi B0 (fun r H1 => r = p_yard (s_sort S k w_) k ∧ b_Fr τ (fun t => 1000 * id ≤ t ∧ t < 1000 * id + 1000) H H1 ∧ LR G B0 τ id F M E H1 ((s_sort S k w_)) Z)) 0 0 (b_A B0) := by
  refine b_of (by decide) (Nat.le_of_ble_eq_true rfl) ?_
  intro p e s m below meth c CX hr hlk hnm hS ls hl
  have CX : b_Cx p s m _ c cX2_sort 7 RX2 G B0 := CX
  have hx := CX.hx
  have hb := CX.hb
  have hl : lv_has ls 7 [(0, .ref ((F 0))), (1, .int (nI k)), (2, .int w_)] := hl
  generalize hQ : MQ below (b_Qi B0 (fun r H1 => r = p_yard (s_sort S k w_) k ∧ b_Fr τ (fun t => 1000 * id ≤ t ∧ t < 1000 * id + 1000) H H1 ∧ LR G B0 τ id F M E H1 ((s_sort S k w_)) Z)) ([.ref ((F 0)), .int (nI k), .int w_] : List Value).toArray s 0 0 (b_A B0) = Q
  have hF : b_Fr τ (fun t => 1000 * id ≤ t ∧ t < 1000 * id + 1000) H H := b_Fr.rf
  have hA : b_Ag τ τ H := b_Ag.rf
  have hnb : nb S = nb S := rfl
  have hns : ns S = ns S := rfl
  have hn8 := hL.2.2.2.1
  have hn6 := hL.2.2.2.2
  refine lv_iload_n hx hb dX2_sort_0 rfl (lv_at hl 2 rfl) ?_
  refine lv_istore_n (lv' := [(3, .int w_), (0, .ref ((F 0))), (1, .int (nI k)), (2, .int w_)]) hx hb dX2_sort_1 rfl hl (Nat.le_of_ble_eq_true rfl) rfl (fun ls hl => ?_)
  refine lv_iconst (v := nI 0) hx hb dX2_sort_2 rfl ?_
  refine lv_istore (lv' := [(4, .int (nI 0)), (3, .int w_), (0, .ref ((F 0))), (1, .int (nI k)), (2, .int w_)]) hx hb dX2_sort_3 hl (Nat.le_of_ble_eq_true rfl) rfl (fun ls hl => ?_)
  have hL : LR G B0 τ id F M E H ((s_mv S (p_mvd S k w_ 0))) Z := by rw [s_mv_0]; exact hL
  have lp5_1 : ∀ (n_ : Nat) (i : Nat), i ≤ nb S → nb S - i < n_ → ∀ (H2 : Heap), LR G B0 τ id F M E H2 ((s_mv S (p_mvd S k w_ i))) Z → b_Fr τ (fun t => 1000 * id ≤ t ∧ t < 1000 * id + 1000) H H2 → ∀ (locs : List Loc), va_S (b_A B0) s.heap H2 locs → ∀ ls : Array Slot, lv_has ls 7 [(4, .int (nI i)), (3, .int (p_left S k w_ i)), (0, .ref ((F 0))), (1, .int (nI k)), (2, .int w_)] → W p l e ({ frames := 4, cells := 0, slots := 0, locals := 87 } : Room) s m ([.ref ((F 0)), .int (nI k), .int w_] : List Value).toArray below meth c H2 locs 0 0 Q (F0 m 5 ls []) := by
    intro n_
    induction n_ with
    | zero => intro i hi hlt H2 hL hF locs hS ls hl; exact absurd hlt (Nat.not_lt_zero _)
    | succ n_ ih5 =>
      intro i hi hlt H2 hL hF locs hS ls hl
      refine lv_iload hx hb dX2_sort_5 (lv_at hl 0 rfl) ?_
      refine lv_aload_n hx hb dX2_sort_7 rfl (lv_at hl 2 rfl) ?_
      refine gf_X2_12_1 CX hL.loop.at rfl dX2_sort_8 ?_
      refine b_ci0 (cs_X2_31 (rest := [.int (nI i)]) CX hl.1 (m_J2_size l (a := (F 1)) (ta := 1000 * id + 1) (mc := M 1) (ra := (if E 1 = true then F 2 else G.2.2 0)) (x := ((s_mv S (p_mvd S k w_ i))) 0 0 0) hL.al1) rfl rfl rfl hL.al1.at hS rfl ⟨rfl, rfl, Nat.le_of_ble_eq_true rfl, Nat.le_of_ble_eq_true rfl⟩ (Nat.le_of_ble_eq_true rfl) dX2_sort_11 ⟨Nat.le_of_ble_eq_true rfl, Nat.le_of_ble_eq_true rfl⟩) hS (fun locs hS => ?_)
      refine b_top (x := (((s_mv S (p_mvd S k w_ i))) 0 0 0)) (y := nI (nb ((s_mv S (p_mvd S k w_ i))))) ((hW.mv _).nbE) ?_
      refine b_top (x := nI (nb ((s_mv S (p_mvd S k w_ i))))) (y := nI (nb S)) (by simp [nb, ns, s_mv, s_coll]) ?_
      refine b_icmp_geN (tgt := 90) CX (by omega) (by omega) dX2_sort_14 (by decide) (fun c_14 => ?_) (fun c_14 => ?_)
      · obtain rfl : i = nb S := by omega
        have hnb : nb (s_mv S (p_mvd S k w_ (nb S))) = nb S := by simp [nb, ns, s_mv, s_coll]
        have hns : ns (s_mv S (p_mvd S k w_ (nb S))) = ns S := by simp [nb, ns, s_mv, s_coll]
        refine lv_aload_n hx hb dX2_sort_90 rfl (lv_at hl 2 rfl) ?_
        refine lv_iload_n hx hb dX2_sort_91 rfl (lv_at hl 3 rfl) ?_
        refine b_ci0 (cs_X2_160 (rest := []) CX hl.1 (m_X2_inYard l (k := k) hL (hW.mv _) (by omega)) rfl rfl rfl hL.loop.at hS rfl ⟨rfl, rfl, Nat.le_of_ble_eq_true rfl, Nat.le_of_ble_eq_true rfl⟩ (Nat.le_of_ble_eq_true rfl) dX2_sort_92 ⟨Nat.le_of_ble_eq_true rfl, Nat.le_of_ble_eq_true rfl⟩) hS (fun locs hS => ?_)
        rw [← hQ]
        exact b_iret CX hr hlk hS (Nat.le_of_ble_eq_true rfl) (Nat.le_of_ble_eq_true rfl) dX2_sort_95 (⟨rfl, hF, hL⟩)
      · have hkd := hW.kd3 (b := i) (by omega)
        have hnb : nb (s_mv S (p_mvd S k w_ i)) = nb S := by simp [nb, ns, s_mv, s_coll]
        have hns : ns (s_mv S (p_mvd S k w_ i)) = ns S := by simp [nb, ns, s_mv, s_coll]
        refine lv_aload_n hx hb dX2_sort_17 rfl (lv_at hl 2 rfl) ?_
        refine gf_X2_12_1 CX hL.loop.at rfl dX2_sort_18 ?_
        refine lv_iload hx hb dX2_sort_21 (lv_at hl 0 rfl) ?_
        refine b_cq0 (cs_X2_35 (rest := []) CX hl.1 (m_J2_get l (a := (F 1)) (ta := 1000 * id + 1) (mc := M 1) (ra := (F 2)) (tr := 1000 * id + 2) (f := (fun j => F (20 + j))) (n := nb ((s_mv S (p_mvd S k w_ i)))) (i := i) (hL.alg1 (hW.mv _) (by omega)) (hL.arg2 (by omega)) (by omega) (by omega)) rfl rfl rfl (hL.alg1 (hW.mv _) (by omega)).at hS rfl ⟨rfl, rfl, Nat.le_of_ble_eq_true rfl, Nat.le_of_ble_eq_true rfl⟩ (Nat.le_of_ble_eq_true rfl) dX2_sort_23 ⟨Nat.le_of_ble_eq_true rfl, Nat.le_of_ble_eq_true rfl⟩) hS (fun locs hS => ?_)
        refine b_cast CX (ci := 4) rfl (hL.brand (k := i) (by omega)).at q897 dX2_sort_26 ?_
        refine lv_astore (lv' := [(5, .ref ((F (20 + i)))), (4, .int (nI i)), (3, .int (p_left S k w_ i)), (0, .ref ((F 0))), (1, .int (nI k)), (2, .int w_)]) hx hb dX2_sort_29 hl (Nat.le_of_ble_eq_true rfl) rfl (fun ls hl => ?_)
        refine lv_aload hx hb dX2_sort_31 (lv_at hl 0 rfl) ?_
        refine gf_X2_76_4 CX (hL.brand (k := i) (by omega)).at (v := .int (nI (kd ((s_mv S (p_mvd S k w_ i))) i))) (congrArg (fun q => some (Value.int q)) ((hW.mv _).kdE (by omega))) dX2_sort_33 ?_
        refine b_top (x := nI (kd ((s_mv S (p_mvd S k w_ i))) i)) (y := nI (kd S i)) (by rw [kd_mv]) ?_
        refine lv_iload_n hx hb dX2_sort_36 rfl (lv_at hl 4 rfl) ?_
        refine b_icmp_neN (tgt := 52) CX (by omega) (by omega) dX2_sort_37 (by decide) (fun c_37 => ?_) (fun c_37 => ?_)
        · refine lv_iconst (v := nI 0) hx hb dX2_sort_52 rfl ?_
          refine b_top (x := nI 0) (y := p_mv S k w_ i) (by unfold p_mv; first | (rw [if_pos c_37, mv_4]) | (rw [if_neg c_37])) ?_
          refine lv_istore (lv' := [(6, .int (p_mv S k w_ i)), (5, .ref ((F (20 + i)))), (4, .int (nI i)), (3, .int (p_left S k w_ i)), (0, .ref ((F 0))), (1, .int (nI k)), (2, .int w_)]) hx hb dX2_sort_53 hl (Nat.le_of_ble_eq_true rfl) rfl (fun ls hl => ?_)
          refine lv_aload hx hb dX2_sort_55 (lv_at hl 1 rfl) ?_
          refine lv_dup hx hb dX2_sort_57 rfl ?_
          refine gf_X2_157_4 CX (hL.brand (k := i) (by omega)).at rfl dX2_sort_58 ?_
          refine lv_iload hx hb dX2_sort_61 (lv_at hl 0 rfl) ?_
          refine lv_isub hx hb dX2_sort_63 ?_
          refine pf_X2_157_4 CX (hL.brand (k := i) (by omega)).at hS (hL.brand (k := i) (by omega)).B rfl rfl (Nat.le_of_ble_eq_true rfl) dX2_sort_64 (fun H3 locs hat hu hS => ?_)
          have hF := hF.up hA hu (hL.brand (k := i) (by omega)).tag (fun _ => show 1000 * id ≤ (1000 * id + (20 + i)) ∧ (1000 * id + (20 + i)) < 1000 * id + 1000 by omega)
          have hL : LR G B0 τ id F M E H3 ((u3 (s_mv S (p_mvd S k w_ i)) 1 i 4 (((s_mv S (p_mvd S k w_ i)) 1 i 4) - (p_mv S k w_ i)))) Z := hL.set1 (k := i) (w := 4) (by omega) hat hu (by simp [u3])
          have hnb : nb ((u3 (s_mv S (p_mvd S k w_ i)) 1 i 4 (((s_mv S (p_mvd S k w_ i)) 1 i 4) - (p_mv S k w_ i)))) = nb S := (nb_u (by omega)).trans hnb
          have hns : ns ((u3 (s_mv S (p_mvd S k w_ i)) 1 i 4 (((s_mv S (p_mvd S k w_ i)) 1 i 4) - (p_mv S k w_ i)))) = ns S := (ns_u (by omega)).trans hns
          refine lv_aload hx hb dX2_sort_67 (lv_at hl 1 rfl) ?_
          refine lv_dup hx hb dX2_sort_69 rfl ?_
          refine gf_X2_82_4 CX (hL.brand (k := i) (by omega)).at (v := .int ((s_mv S (p_mvd S k w_ i)) 1 i 1)) (congrArg (fun q => some (Value.int q)) (by simp [u3])) dX2_sort_70 ?_
          refine lv_iload hx hb dX2_sort_73 (lv_at hl 0 rfl) ?_
          refine lv_iadd hx hb dX2_sort_75 ?_
          refine pf_X2_82_4 CX (hL.brand (k := i) (by omega)).at hS (hL.brand (k := i) (by omega)).B rfl rfl (Nat.le_of_ble_eq_true rfl) dX2_sort_76 (fun H4 locs hat hu hS => ?_)
          have hF := hF.up hA hu (hL.brand (k := i) (by omega)).tag (fun _ => show 1000 * id ≤ (1000 * id + (20 + i)) ∧ (1000 * id + (20 + i)) < 1000 * id + 1000 by omega)
          have hL : LR G B0 τ id F M E H4 ((u3 (u3 (s_mv S (p_mvd S k w_ i)) 1 i 4 (((s_mv S (p_mvd S k w_ i)) 1 i 4) - (p_mv S k w_ i))) 1 i 1 (((s_mv S (p_mvd S k w_ i)) 1 i 1) + (p_mv S k w_ i)))) Z := hL.set1 (k := i) (w := 1) (by omega) hat hu (by simp [u3])
          have hnb : nb ((u3 (u3 (s_mv S (p_mvd S k w_ i)) 1 i 4 (((s_mv S (p_mvd S k w_ i)) 1 i 4) - (p_mv S k w_ i))) 1 i 1 (((s_mv S (p_mvd S k w_ i)) 1 i 1) + (p_mv S k w_ i)))) = nb S := (nb_u (by omega)).trans hnb
          have hns : ns ((u3 (u3 (s_mv S (p_mvd S k w_ i)) 1 i 4 (((s_mv S (p_mvd S k w_ i)) 1 i 4) - (p_mv S k w_ i))) 1 i 1 (((s_mv S (p_mvd S k w_ i)) 1 i 1) + (p_mv S k w_ i)))) = ns S := (ns_u (by omega)).trans hns
          refine lv_iload_n hx hb dX2_sort_79 rfl (lv_at hl 3 rfl) ?_
          refine lv_iload hx hb dX2_sort_80 (lv_at hl 0 rfl) ?_
          refine lv_isub hx hb dX2_sort_82 ?_
          refine lv_istore_n (lv' := [(3, .int ((p_left S k w_ i) - (p_mv S k w_ i))), (6, .int (p_mv S k w_ i)), (5, .ref ((F (20 + i)))), (4, .int (nI i)), (0, .ref ((F 0))), (1, .int (nI k)), (2, .int w_)]) hx hb dX2_sort_83 rfl hl (Nat.le_of_ble_eq_true rfl) rfl (fun ls hl => ?_)
          refine lv_iinc (v := nI (i + 1)) (lv' := [(4, .int (nI (i + 1))), (3, .int ((p_left S k w_ i) - (p_mv S k w_ i))), (6, .int (p_mv S k w_ i)), (5, .ref ((F (20 + i)))), (0, .ref ((F 0))), (1, .int (nI k)), (2, .int w_)]) hx hb dX2_sort_84 hl (k := 3) rfl (nI_1 _) (Nat.le_of_ble_eq_true rfl) rfl (fun ls hl => ?_)
          refine lv_goto (tgt := 5) hx hb dX2_sort_87 (by decide) ?_
          have hL : LR G B0 τ id F M E H4 ((s_mv S (p_mvd S k w_ (i + 1)))) Z := by rw [← s_mv_s]; exact hL
          exact ih5 (i + 1) (by omega) (by omega) H4 hL hF _ hS ls (lv_sub hl [0, 1, 4, 5, 6] rfl)
        · refine lv_iload_n hx hb dX2_sort_40 rfl (lv_at hl 2 rfl) ?_
          refine lv_aload hx hb dX2_sort_41 (lv_at hl 0 rfl) ?_
          refine gf_X2_157_4 CX (hL.brand (k := i) (by omega)).at rfl dX2_sort_43 ?_
          refine va_mmin hx hb (by rw [CX.ml, hl.1]) CX.ow (CX.ts _ q1394) (CX.ts _ q344) (CX.ts _ q99) (CX.ts _ q345) (Nat.le_of_ble_eq_true rfl) (Nat.le_of_ble_eq_true rfl) (Nat.le_of_ble_eq_true rfl) (Nat.le_of_ble_eq_true rfl) dX2_sort_46 ?_
          refine b_top (x := if ((s_mv S (p_mvd S k w_ i)) 1 i 4) < (p_left S k w_ i) then ((s_mv S (p_mvd S k w_ i)) 1 i 4) else (p_left S k w_ i)) (y := p_least (p_left S k w_ i) ((s_mv S (p_mvd S k w_ i)) 1 i 4)) p_minE ?_
          refine lv_goto (tgt := 53) hx hb dX2_sort_49 (by decide) ?_
          refine b_top (x := p_least (p_left S k w_ i) ((s_mv S (p_mvd S k w_ i)) 1 i 4)) (y := p_mv S k w_ i) (by unfold p_mv; first | (rw [if_pos c_37, mv_4]) | (rw [if_neg c_37])) ?_
          refine lv_istore (lv' := [(6, .int (p_mv S k w_ i)), (5, .ref ((F (20 + i)))), (4, .int (nI i)), (3, .int (p_left S k w_ i)), (0, .ref ((F 0))), (1, .int (nI k)), (2, .int w_)]) hx hb dX2_sort_53 hl (Nat.le_of_ble_eq_true rfl) rfl (fun ls hl => ?_)
          refine lv_aload hx hb dX2_sort_55 (lv_at hl 1 rfl) ?_
          refine lv_dup hx hb dX2_sort_57 rfl ?_
          refine gf_X2_157_4 CX (hL.brand (k := i) (by omega)).at rfl dX2_sort_58 ?_
          refine lv_iload hx hb dX2_sort_61 (lv_at hl 0 rfl) ?_
          refine lv_isub hx hb dX2_sort_63 ?_
          refine pf_X2_157_4 CX (hL.brand (k := i) (by omega)).at hS (hL.brand (k := i) (by omega)).B rfl rfl (Nat.le_of_ble_eq_true rfl) dX2_sort_64 (fun H5 locs hat hu hS => ?_)
          have hF := hF.up hA hu (hL.brand (k := i) (by omega)).tag (fun _ => show 1000 * id ≤ (1000 * id + (20 + i)) ∧ (1000 * id + (20 + i)) < 1000 * id + 1000 by omega)
          have hL : LR G B0 τ id F M E H5 ((u3 (s_mv S (p_mvd S k w_ i)) 1 i 4 (((s_mv S (p_mvd S k w_ i)) 1 i 4) - (p_mv S k w_ i)))) Z := hL.set1 (k := i) (w := 4) (by omega) hat hu (by simp [u3])
          have hnb : nb ((u3 (s_mv S (p_mvd S k w_ i)) 1 i 4 (((s_mv S (p_mvd S k w_ i)) 1 i 4) - (p_mv S k w_ i)))) = nb S := (nb_u (by omega)).trans hnb
          have hns : ns ((u3 (s_mv S (p_mvd S k w_ i)) 1 i 4 (((s_mv S (p_mvd S k w_ i)) 1 i 4) - (p_mv S k w_ i)))) = ns S := (ns_u (by omega)).trans hns
          refine lv_aload hx hb dX2_sort_67 (lv_at hl 1 rfl) ?_
          refine lv_dup hx hb dX2_sort_69 rfl ?_
          refine gf_X2_82_4 CX (hL.brand (k := i) (by omega)).at (v := .int ((s_mv S (p_mvd S k w_ i)) 1 i 1)) (congrArg (fun q => some (Value.int q)) (by simp [u3])) dX2_sort_70 ?_
          refine lv_iload hx hb dX2_sort_73 (lv_at hl 0 rfl) ?_
          refine lv_iadd hx hb dX2_sort_75 ?_
          refine pf_X2_82_4 CX (hL.brand (k := i) (by omega)).at hS (hL.brand (k := i) (by omega)).B rfl rfl (Nat.le_of_ble_eq_true rfl) dX2_sort_76 (fun H6 locs hat hu hS => ?_)
          have hF := hF.up hA hu (hL.brand (k := i) (by omega)).tag (fun _ => show 1000 * id ≤ (1000 * id + (20 + i)) ∧ (1000 * id + (20 + i)) < 1000 * id + 1000 by omega)
          have hL : LR G B0 τ id F M E H6 ((u3 (u3 (s_mv S (p_mvd S k w_ i)) 1 i 4 (((s_mv S (p_mvd S k w_ i)) 1 i 4) - (p_mv S k w_ i))) 1 i 1 (((s_mv S (p_mvd S k w_ i)) 1 i 1) + (p_mv S k w_ i)))) Z := hL.set1 (k := i) (w := 1) (by omega) hat hu (by simp [u3])
          have hnb : nb ((u3 (u3 (s_mv S (p_mvd S k w_ i)) 1 i 4 (((s_mv S (p_mvd S k w_ i)) 1 i 4) - (p_mv S k w_ i))) 1 i 1 (((s_mv S (p_mvd S k w_ i)) 1 i 1) + (p_mv S k w_ i)))) = nb S := (nb_u (by omega)).trans hnb
          have hns : ns ((u3 (u3 (s_mv S (p_mvd S k w_ i)) 1 i 4 (((s_mv S (p_mvd S k w_ i)) 1 i 4) - (p_mv S k w_ i))) 1 i 1 (((s_mv S (p_mvd S k w_ i)) 1 i 1) + (p_mv S k w_ i)))) = ns S := (ns_u (by omega)).trans hns
          refine lv_iload_n hx hb dX2_sort_79 rfl (lv_at hl 3 rfl) ?_
          refine lv_iload hx hb dX2_sort_80 (lv_at hl 0 rfl) ?_
          refine lv_isub hx hb dX2_sort_82 ?_
          refine lv_istore_n (lv' := [(3, .int ((p_left S k w_ i) - (p_mv S k w_ i))), (6, .int (p_mv S k w_ i)), (5, .ref ((F (20 + i)))), (4, .int (nI i)), (0, .ref ((F 0))), (1, .int (nI k)), (2, .int w_)]) hx hb dX2_sort_83 rfl hl (Nat.le_of_ble_eq_true rfl) rfl (fun ls hl => ?_)
          refine lv_iinc (v := nI (i + 1)) (lv' := [(4, .int (nI (i + 1))), (3, .int ((p_left S k w_ i) - (p_mv S k w_ i))), (6, .int (p_mv S k w_ i)), (5, .ref ((F (20 + i)))), (0, .ref ((F 0))), (1, .int (nI k)), (2, .int w_)]) hx hb dX2_sort_84 hl (k := 3) rfl (nI_1 _) (Nat.le_of_ble_eq_true rfl) rfl (fun ls hl => ?_)
          refine lv_goto (tgt := 5) hx hb dX2_sort_87 (by decide) ?_
          have hL : LR G B0 τ id F M E H6 ((s_mv S (p_mvd S k w_ (i + 1)))) Z := by rw [← s_mv_s]; exact hL
          exact ih5 (i + 1) (by omega) (by omega) H6 hL hF _ hS ls (lv_sub hl [0, 1, 4, 5, 6] rfl)
  exact lp5_1 _ 0 (Nat.zero_le _) (Nat.lt_succ_self _) H hL hF _ hS ls (lv_sub hl [0, 1, 2, 3, 4] rfl)
set_option maxHeartbeats 2000000 in
set_option maxRecDepth 100000 in
theorem m_X2_layCollected (l : Launch) {G : b_G} {B0 : Nat} {H : Heap} {τ : b_T} {id : Nat} {F : Nat → Nat} {M : Nat → Int32} {E : Nat → Bool} {S : b_St} {Z : Nat → Nat → Int32} {s_ : Nat} {k : Nat} {c_ : Nat} {k0 : Nat} {tg : Nat} {f : Nat → Int32} (hc_tk : b_tt G B0 τ H k0 (tg) (.inl (G.2.1 0, 8, .inl f))) (hL : LR G B0 τ id F M E H S Z) (hW : b_WF S) (hs : s_ < ns S) (hk : k < 3) (hc : c_ ≤ 50) (hpk : p_picks S s_ k c_) (htg : tg < 1000 * id ∨ 1000 * id + 1000 ≤ tg) : Met l yX2_layCollected (ws_ yX2_layCollected cX2_layCollected 9 (Option.none)) ({ frames := 3, cells := 0, slots := 0, locals := 64 } : Room) (b_Pc G B0 H [.ref ((F 0)), .ref ((F (30 + s_))), .int (nI k), .int (nI c_), .ref k0]) (b_Qv B0 (fun H1 => b_Fr τ (fun t => t = tg) H H1 ∧ b_tt G B0 τ H1 k0 (tg) (.inl (G.2.1 0, 8, .inl ((fun q => nI (p_tk S s_ k (12 * c_) q))))))) 0 0 (b_A B0) := by
  refine b_of (by decide) (Nat.le_of_ble_eq_true rfl) ?_
  intro p e s m below meth c CX hr hlk hnm hS ls hl
  have CX : b_Cx p s m _ c cX2_layCollected 9 RX2 G B0 := CX
  have hx := CX.hx
  have hb := CX.hb
  have hl : lv_has ls 9 [(0, .ref ((F 0))), (1, .ref ((F (30 + s_)))), (2, .int (nI k)), (3, .int (nI c_)), (4, .ref k0)] := hl
  generalize hQ : MQ below (b_Qv B0 (fun H1 => b_Fr τ (fun t => t = tg) H H1 ∧ b_tt G B0 τ H1 k0 (tg) (.inl (G.2.1 0, 8, .inl ((fun q => nI (p_tk S s_ k (12 * c_) q))))))) ([.ref ((F 0)), .ref ((F (30 + s_))), .int (nI k), .int (nI c_), .ref k0] : List Value).toArray s 0 0 (b_A B0) = Q
  have hF : b_Fr τ (fun t => t = tg) H H := b_Fr.rf
  have hA : b_Ag τ τ H := b_Ag.rf
  have hnb : nb S = nb S := rfl
  have hns : ns S = ns S := rfl
  have hn8 := hL.2.2.2.1
  have hn6 := hL.2.2.2.2
  refine lv_iconst (v := nI 0) hx hb dX2_layCollected_0 rfl ?_
  refine lv_istore (lv' := [(5, .int (nI 0)), (0, .ref ((F 0))), (1, .ref ((F (30 + s_)))), (2, .int (nI k)), (3, .int (nI c_)), (4, .ref k0)]) hx hb dX2_layCollected_1 hl (Nat.le_of_ble_eq_true rfl) rfl (fun ls hl => ?_)
  have hc_tk : b_tt G B0 τ H k0 (tg) (.inl (G.2.1 0, 8, .inl ((fun j => if j < 0 then nI 0 else f j)))) := hc_tk.ci (fun j hj => (if_neg (Nat.not_lt_zero j)).symm)
  have lp3_1 : ∀ (n_ : Nat) (i : Nat), i ≤ 8 → 8 - i < n_ → ∀ (H2 : Heap), LR G B0 τ id F M E H2 S Z → b_Fr τ (fun t => t = tg) H H2 → b_tt G B0 τ H2 k0 (tg) (.inl (G.2.1 0, 8, .inl ((fun j => if j < i then nI 0 else f j)))) → ∀ (locs : List Loc), va_S (b_A B0) s.heap H2 locs → ∀ ls : Array Slot, lv_has ls 9 [(5, .int (nI i)), (0, .ref ((F 0))), (1, .ref ((F (30 + s_)))), (2, .int (nI k)), (3, .int (nI c_)), (4, .ref k0)] → W p l e ({ frames := 3, cells := 0, slots := 0, locals := 64 } : Room) s m ([.ref ((F 0)), .ref ((F (30 + s_))), .int (nI k), .int (nI c_), .ref k0] : List Value).toArray below meth c H2 locs 0 0 Q (F0 m 3 ls []) := by
    intro n_
    induction n_ with
    | zero => intro i hi hlt H2 hL hF hc_tk locs hS ls hl; exact absurd hlt (Nat.not_lt_zero _)
    | succ n_ ih3 =>
      intro i hi hlt H2 hL hF hc_tk locs hS ls hl
      refine lv_iload hx hb dX2_layCollected_3 (lv_at hl 0 rfl) ?_
      refine lv_bipush (v := nI 8) hx hb dX2_layCollected_5 rfl ?_
      refine b_icmp_geN (tgt := 22) CX (by omega) (by omega) dX2_layCollected_7 (by decide) (fun c_7 => ?_) (fun c_7 => ?_)
      · obtain rfl : i = 8 := by omega
        have hc_tk : b_tt G B0 τ H2 k0 (tg) (.inl (G.2.1 0, 8, .inl ((fun q => nI (p_tk S s_ k 0 q))))) := hc_tk.ci (fun j hj => if_pos hj)
        refine lv_iconst (v := nI 0) hx hb dX2_layCollected_22 rfl ?_
        refine lv_istore (lv' := [(5, .int (nI 0)), (0, .ref ((F 0))), (1, .ref ((F (30 + s_)))), (2, .int (nI k)), (3, .int (nI c_)), (4, .ref k0)]) hx hb dX2_layCollected_23 hl (Nat.le_of_ble_eq_true rfl) rfl (fun ls hl => ?_)
        have lp25_3 : ∀ (n_ : Nat) (u : Nat), u ≤ 12 * c_ → 12 * c_ - u < n_ → ∀ (H4 : Heap), LR G B0 τ id F M E H4 S Z → b_Fr τ (fun t => t = tg) H H4 → b_tt G B0 τ H4 k0 (tg) (.inl (G.2.1 0, 8, .inl ((fun q => nI (p_tk S s_ k u q))))) → ∀ (locs : List Loc), va_S (b_A B0) s.heap H4 locs → ∀ ls : Array Slot, lv_has ls 9 [(5, .int (nI u)), (0, .ref ((F 0))), (1, .ref ((F (30 + s_)))), (2, .int (nI k)), (3, .int (nI c_)), (4, .ref k0)] → W p l e ({ frames := 3, cells := 0, slots := 0, locals := 64 } : Room) s m ([.ref ((F 0)), .ref ((F (30 + s_))), .int (nI k), .int (nI c_), .ref k0] : List Value).toArray below meth c H4 locs 0 0 Q (F0 m 25 ls []) := by
          intro n_
          induction n_ with
          | zero => intro u hm hlt H4 hL hF hc_tk locs hS ls hl; exact absurd hlt (Nat.not_lt_zero _)
          | succ n_ ih25 =>
            intro u hm hlt H4 hL hF hc_tk locs hS ls hl
            refine lv_iload hx hb dX2_layCollected_25 (lv_at hl 0 rfl) ?_
            refine lv_bipush (v := nI 12) hx hb dX2_layCollected_27 rfl ?_
            refine lv_iload_n hx hb dX2_layCollected_29 rfl (lv_at hl 4 rfl) ?_
            refine b_imulN CX dX2_layCollected_30 ?_
            refine b_icmp_geN (tgt := 148) CX (by omega) (by omega) dX2_layCollected_31 (by decide) (fun c_31 => ?_) (fun c_31 => ?_)
            · obtain rfl : u = 12 * c_ := by omega
              rw [← hQ]
              exact b_vret CX hr hlk hS (Nat.le_of_ble_eq_true rfl) (Nat.le_of_ble_eq_true rfl) dX2_layCollected_148 (⟨hF, hc_tk⟩)
            · refine lv_iconst (v := -1) hx hb dX2_layCollected_34 rfl ?_
              refine lv_istore (lv' := [(6, .int (-1)), (5, .int (nI u)), (0, .ref ((F 0))), (1, .ref ((F (30 + s_)))), (2, .int (nI k)), (3, .int (nI c_)), (4, .ref k0)]) hx hb dX2_layCollected_35 hl (Nat.le_of_ble_eq_true rfl) rfl (fun ls hl => ?_)
              refine lv_iconst (v := nI 0) hx hb dX2_layCollected_37 rfl ?_
              refine lv_istore (lv' := [(7, .int (nI 0)), (6, .int (-1)), (5, .int (nI u)), (0, .ref ((F 0))), (1, .ref ((F (30 + s_)))), (2, .int (nI k)), (3, .int (nI c_)), (4, .ref k0)]) hx hb dX2_layCollected_38 hl (Nat.le_of_ble_eq_true rfl) rfl (fun ls hl => ?_)
              have lp40_5 : ∀ (n_ : Nat) (j : Nat), j ≤ nb S → nb S - j < n_ → ∀ (locs : List Loc), va_S (b_A B0) s.heap H4 locs → ∀ ls : Array Slot, lv_has ls 9 [(6, .int (oI (p_bst (kd S) k (fun b => S 5 s_ b - nI (p_tk S s_ k u b)) j))), (7, .int (nI j)), (5, .int (nI u)), (0, .ref ((F 0))), (1, .ref ((F (30 + s_)))), (2, .int (nI k)), (3, .int (nI c_)), (4, .ref k0)] → W p l e ({ frames := 3, cells := 0, slots := 0, locals := 64 } : Room) s m ([.ref ((F 0)), .ref ((F (30 + s_))), .int (nI k), .int (nI c_), .ref k0] : List Value).toArray below meth c H4 locs 0 0 Q (F0 m 40 ls []) := by
                intro n_
                induction n_ with
                | zero => intro j hj hlt locs hS ls hl; exact absurd hlt (Nat.not_lt_zero _)
                | succ n_ ih40 =>
                  intro j hj hlt locs hS ls hl
                  refine lv_iload hx hb dX2_layCollected_40 (lv_at hl 1 rfl) ?_
                  refine lv_aload_n hx hb dX2_layCollected_42 rfl (lv_at hl 3 rfl) ?_
                  refine gf_X2_12_1 CX hL.loop.at rfl dX2_layCollected_43 ?_
                  refine b_ci0 (cs_X2_31 (rest := [.int (nI j)]) CX hl.1 (m_J2_size l (a := (F 1)) (ta := 1000 * id + 1) (mc := M 1) (ra := (if E 1 = true then F 2 else G.2.2 0)) (x := S 0 0 0) hL.al1) rfl rfl rfl hL.al1.at hS rfl ⟨rfl, rfl, Nat.le_of_ble_eq_true rfl, Nat.le_of_ble_eq_true rfl⟩ (Nat.le_of_ble_eq_true rfl) dX2_layCollected_46 ⟨Nat.le_of_ble_eq_true rfl, Nat.le_of_ble_eq_true rfl⟩) hS (fun locs hS => ?_)
                  refine b_top (x := (S 0 0 0)) (y := nI (nb S)) (hW.nbE) ?_
                  refine b_icmp_geN (tgt := 133) CX (by omega) (by omega) dX2_layCollected_49 (by decide) (fun c_49 => ?_) (fun c_49 => ?_)
                  · obtain rfl : j = nb S := by omega
                    refine lv_aload hx hb dX2_layCollected_133 (lv_at hl 7 rfl) ?_
                    refine lv_iload hx hb dX2_layCollected_135 (lv_at hl 0 rfl) ?_
                    obtain ⟨bb, hbb⟩ := hpk u (by omega)
                    have hb8 := p_bst_lt hbb
                    refine b_top (x := oI (p_bst (kd S) k (fun b => S 5 s_ b - nI (p_tk S s_ k u b)) (nb S))) (y := nI bb) (by rw [hbb]; rfl) ?_
                    refine lv_dup2_11 hx hb dX2_layCollected_137 rfl rfl ?_
                    refine b_ild CX hc_tk.at (x := ((fun q => nI (p_tk S s_ k u q))) bb) (vp_in_nI (by omega) (by omega)) (b_at_nI (f := (fun q => nI (p_tk S s_ k u q))) (n := bb) (by omega) rfl) dX2_layCollected_138 ?_
                    refine b_top (x := ((fun q => nI (p_tk S s_ k u q))) bb) (y := nI (p_tk S s_ k u bb)) (rfl) ?_
                    refine lv_iconst (v := nI 1) hx hb dX2_layCollected_139 rfl ?_
                    refine b_iaddN CX dX2_layCollected_140 ?_
                    refine b_ist CX hc_tk.at hS hc_tk.B (vp_in_nI (by omega) (by omega)) dX2_layCollected_141 (fun H6 locs hat hu hS => ?_)
                    rw [b_up_nI (by omega) (tk_upd hbb)] at hat
                    have hL := hL.up hu hc_tk.tag (by omega)
                    have hF := hF.up hA hu hc_tk.tag (fun _ => show (tg) = tg by omega)
                    have hc_tk : b_tt G B0 τ H6 k0 (tg) (.inl (G.2.1 0, 8, .inl ((fun q => nI (p_tk S s_ k (u + 1) q))))) := hc_tk.set hat
                    refine lv_iinc (v := nI (u + 1)) (lv' := [(5, .int (nI (u + 1))), (6, .int (oI (p_bst (kd S) k (fun b => S 5 s_ b - nI (p_tk S s_ k u b)) (nb S)))), (7, .int (nI (nb S))), (0, .ref ((F 0))), (1, .ref ((F (30 + s_)))), (2, .int (nI k)), (3, .int (nI c_)), (4, .ref k0)]) hx hb dX2_layCollected_142 hl (k := 2) rfl (nI_1 _) (Nat.le_of_ble_eq_true rfl) rfl (fun ls hl => ?_)
                    refine lv_goto (tgt := 25) hx hb dX2_layCollected_145 (by decide) ?_
                    exact ih25 (u + 1) (by omega) (by omega) H6 hL hF hc_tk _ hS ls (lv_sub hl [0, 3, 4, 5, 6, 7] rfl)
                  · have hkd := hW.kd3 (b := j) (by omega)
                    refine lv_aload_n hx hb dX2_layCollected_52 rfl (lv_at hl 3 rfl) ?_
                    refine gf_X2_12_1 CX hL.loop.at rfl dX2_layCollected_53 ?_
                    refine lv_iload hx hb dX2_layCollected_56 (lv_at hl 1 rfl) ?_
                    refine b_cq0 (cs_X2_35 (rest := []) CX hl.1 (m_J2_get l (a := (F 1)) (ta := 1000 * id + 1) (mc := M 1) (ra := (F 2)) (tr := 1000 * id + 2) (f := (fun j => F (20 + j))) (n := nb S) (i := j) (hL.alg1 hW (by omega)) (hL.arg2 (by omega)) (by omega) (by omega)) rfl rfl rfl (hL.alg1 hW (by omega)).at hS rfl ⟨rfl, rfl, Nat.le_of_ble_eq_true rfl, Nat.le_of_ble_eq_true rfl⟩ (Nat.le_of_ble_eq_true rfl) dX2_layCollected_58 ⟨Nat.le_of_ble_eq_true rfl, Nat.le_of_ble_eq_true rfl⟩) hS (fun locs hS => ?_)
                    refine b_cast CX (ci := 4) rfl (hL.brand (k := j) (by omega)).at q897 dX2_layCollected_61 ?_
                    refine gf_X2_76_4 CX (hL.brand (k := j) (by omega)).at (v := .int (nI (kd S j))) (congrArg (fun q => some (Value.int q)) (hW.kdE (by omega))) dX2_layCollected_64 ?_
                    refine lv_iload_n hx hb dX2_layCollected_67 rfl (lv_at hl 5 rfl) ?_
                    refine b_icmp_neN (tgt := 75) CX (by omega) (by omega) dX2_layCollected_68 (by decide) (fun c_68 => ?_) (fun c_68 => ?_)
                    · refine lv_iconst (v := nI 0) hx hb dX2_layCollected_75 rfl ?_
                      refine lv_istore (lv' := [(8, .int (nI 0)), (6, .int (oI (p_bst (kd S) k (fun b => S 5 s_ b - nI (p_tk S s_ k u b)) j))), (7, .int (nI j)), (5, .int (nI u)), (0, .ref ((F 0))), (1, .ref ((F (30 + s_)))), (2, .int (nI k)), (3, .int (nI c_)), (4, .ref k0)]) hx hb dX2_layCollected_76 hl (Nat.le_of_ble_eq_true rfl) rfl (fun ls hl => ?_)
                      refine lv_iload hx hb dX2_layCollected_78 (lv_at hl 0 rfl) ?_
                      refine lv_if_eq (tgt := 123) hx hb dX2_layCollected_80 (by decide) (fun c_80 => ?_) (fun c_80 => ?_)
                      · refine lv_iload hx hb dX2_layCollected_123 (lv_at hl 1 rfl) ?_
                        refine b_top (x := oI (p_bst (kd S) k (fun b => S 5 s_ b - nI (p_tk S s_ k u b)) j)) (y := oI (p_bst (kd S) k (fun b => S 5 s_ b - nI (p_tk S s_ k u b)) (j + 1))) (by first | (rw [p_bst_n c_68]) | (rw [p_bst_0 c_68 h0]; rfl) | (rw [p_bst_2 c_68 ha (Int32.not_lt.mpr c_115)]; rfl) | (rw [p_bst_1 c_68 ha (Int32.not_le.mp c_115)]; rfl)) ?_
                        refine lv_istore (lv' := [(6, .int (oI (p_bst (kd S) k (fun b => S 5 s_ b - nI (p_tk S s_ k u b)) (j + 1)))), (8, .int (nI 0)), (7, .int (nI j)), (5, .int (nI u)), (0, .ref ((F 0))), (1, .ref ((F (30 + s_)))), (2, .int (nI k)), (3, .int (nI c_)), (4, .ref k0)]) hx hb dX2_layCollected_125 hl (Nat.le_of_ble_eq_true rfl) rfl (fun ls hl => ?_)
                        refine lv_iinc (v := nI (j + 1)) (lv' := [(7, .int (nI (j + 1))), (6, .int (oI (p_bst (kd S) k (fun b => S 5 s_ b - nI (p_tk S s_ k u b)) (j + 1)))), (8, .int (nI 0)), (5, .int (nI u)), (0, .ref ((F 0))), (1, .ref ((F (30 + s_)))), (2, .int (nI k)), (3, .int (nI c_)), (4, .ref k0)]) hx hb dX2_layCollected_127 hl (k := 2) rfl (nI_1 _) (Nat.le_of_ble_eq_true rfl) rfl (fun ls hl => ?_)
                        refine lv_goto (tgt := 40) hx hb dX2_layCollected_130 (by decide) ?_
                        exact ih40 (j + 1) (by omega) (by omega) _ hS ls (lv_sub hl [1, 0, 3, 4, 5, 6, 7, 8] rfl)
                      · exact absurd c_80 (by decide)
                    · refine lv_iconst (v := nI 1) hx hb dX2_layCollected_71 rfl ?_
                      refine lv_goto (tgt := 76) hx hb dX2_layCollected_72 (by decide) ?_
                      refine lv_istore (lv' := [(8, .int (nI 1)), (6, .int (oI (p_bst (kd S) k (fun b => S 5 s_ b - nI (p_tk S s_ k u b)) j))), (7, .int (nI j)), (5, .int (nI u)), (0, .ref ((F 0))), (1, .ref ((F (30 + s_)))), (2, .int (nI k)), (3, .int (nI c_)), (4, .ref k0)]) hx hb dX2_layCollected_76 hl (Nat.le_of_ble_eq_true rfl) rfl (fun ls hl => ?_)
                      refine lv_iload hx hb dX2_layCollected_78 (lv_at hl 0 rfl) ?_
                      refine lv_if_eq (tgt := 123) hx hb dX2_layCollected_80 (by decide) (fun c_80 => ?_) (fun c_80 => ?_)
                      · exact absurd c_80 (by decide)
                      · refine lv_iload hx hb dX2_layCollected_83 (lv_at hl 1 rfl) ?_
                        refine lv_iconst (v := -1) hx hb dX2_layCollected_85 rfl ?_
                        refine lv_icmp_eq (tgt := 118) hx hb dX2_layCollected_86 (by decide) (fun c_86 => ?_) (fun c_86 => ?_)
                        · have h0 := oI_m1 (fun a h => p_bst_lt h) (n := j) (by omega) c_86
                          refine lv_iload hx hb dX2_layCollected_118 (lv_at hl 2 rfl) ?_
                          refine lv_goto (tgt := 125) hx hb dX2_layCollected_120 (by decide) ?_
                          refine b_top (x := nI j) (y := oI (p_bst (kd S) k (fun b => S 5 s_ b - nI (p_tk S s_ k u b)) (j + 1))) (by first | (rw [p_bst_n c_68]) | (rw [p_bst_0 c_68 h0]; rfl) | (rw [p_bst_2 c_68 ha (Int32.not_lt.mpr c_115)]; rfl) | (rw [p_bst_1 c_68 ha (Int32.not_le.mp c_115)]; rfl)) ?_
                          refine lv_istore (lv' := [(6, .int (oI (p_bst (kd S) k (fun b => S 5 s_ b - nI (p_tk S s_ k u b)) (j + 1)))), (8, .int (nI 1)), (7, .int (nI j)), (5, .int (nI u)), (0, .ref ((F 0))), (1, .ref ((F (30 + s_)))), (2, .int (nI k)), (3, .int (nI c_)), (4, .ref k0)]) hx hb dX2_layCollected_125 hl (Nat.le_of_ble_eq_true rfl) rfl (fun ls hl => ?_)
                          refine lv_iinc (v := nI (j + 1)) (lv' := [(7, .int (nI (j + 1))), (6, .int (oI (p_bst (kd S) k (fun b => S 5 s_ b - nI (p_tk S s_ k u b)) (j + 1)))), (8, .int (nI 1)), (5, .int (nI u)), (0, .ref ((F 0))), (1, .ref ((F (30 + s_)))), (2, .int (nI k)), (3, .int (nI c_)), (4, .ref k0)]) hx hb dX2_layCollected_127 hl (k := 2) rfl (nI_1 _) (Nat.le_of_ble_eq_true rfl) rfl (fun ls hl => ?_)
                          refine lv_goto (tgt := 40) hx hb dX2_layCollected_130 (by decide) ?_
                          exact ih40 (j + 1) (by omega) (by omega) _ hS ls (lv_sub hl [1, 0, 3, 4, 5, 6, 7, 8] rfl)
                        · obtain ⟨a, ha⟩ := oI_m1n c_86
                          have ha8 := p_bst_lt ha
                          rw [show oI (p_bst (kd S) k (fun b => S 5 s_ b - nI (p_tk S s_ k u b)) j) = nI a by rw [ha]; rfl] at hl
                          refine lv_aload_n hx hb dX2_layCollected_89 rfl (lv_at hl 5 rfl) ?_
                          refine gf_X2_135_5 CX (hL.shop (k := s_) (by omega)).at rfl dX2_layCollected_90 ?_
                          refine lv_iload hx hb dX2_layCollected_93 (lv_at hl 2 rfl) ?_
                          refine b_ild CX (hL.empt (k := s_) (by omega)).at (x := S 5 s_ j) (vp_in_nI (by omega) (by omega)) (b_at_nI (f := (fun j => S 5 s_ j)) (n := j) (by omega) rfl) dX2_layCollected_95 ?_
                          refine lv_aload hx hb dX2_layCollected_96 (lv_at hl 8 rfl) ?_
                          refine lv_iload hx hb dX2_layCollected_98 (lv_at hl 2 rfl) ?_
                          refine b_ild CX hc_tk.at (x := ((fun q => nI (p_tk S s_ k u q))) j) (vp_in_nI (by omega) (by omega)) (b_at_nI (f := (fun q => nI (p_tk S s_ k u q))) (n := j) (by omega) rfl) dX2_layCollected_100 ?_
                          refine lv_isub hx hb dX2_layCollected_101 ?_
                          refine lv_aload_n hx hb dX2_layCollected_102 rfl (lv_at hl 5 rfl) ?_
                          refine gf_X2_135_5 CX (hL.shop (k := s_) (by omega)).at rfl dX2_layCollected_103 ?_
                          refine lv_iload hx hb dX2_layCollected_106 (lv_at hl 1 rfl) ?_
                          refine b_ild CX (hL.empt (k := s_) (by omega)).at (x := S 5 s_ a) (vp_in_nI (by omega) (by omega)) (b_at_nI (f := (fun j => S 5 s_ j)) (n := a) (by omega) rfl) dX2_layCollected_108 ?_
                          refine lv_aload hx hb dX2_layCollected_109 (lv_at hl 8 rfl) ?_
                          refine lv_iload hx hb dX2_layCollected_111 (lv_at hl 1 rfl) ?_
                          refine b_ild CX hc_tk.at (x := ((fun q => nI (p_tk S s_ k u q))) a) (vp_in_nI (by omega) (by omega)) (b_at_nI (f := (fun q => nI (p_tk S s_ k u q))) (n := a) (by omega) rfl) dX2_layCollected_113 ?_
                          refine lv_isub hx hb dX2_layCollected_114 ?_
                          refine lv_icmp_le (tgt := 123) hx hb dX2_layCollected_115 (by decide) (fun c_115 => ?_) (fun c_115 => ?_)
                          · refine lv_iload hx hb dX2_layCollected_123 (lv_at hl 1 rfl) ?_
                            refine b_top (x := nI a) (y := oI (p_bst (kd S) k (fun b => S 5 s_ b - nI (p_tk S s_ k u b)) (j + 1))) (by first | (rw [p_bst_n c_68]) | (rw [p_bst_0 c_68 h0]; rfl) | (rw [p_bst_2 c_68 ha (Int32.not_lt.mpr c_115)]; rfl) | (rw [p_bst_1 c_68 ha (Int32.not_le.mp c_115)]; rfl)) ?_
                            refine lv_istore (lv' := [(6, .int (oI (p_bst (kd S) k (fun b => S 5 s_ b - nI (p_tk S s_ k u b)) (j + 1)))), (8, .int (nI 1)), (7, .int (nI j)), (5, .int (nI u)), (0, .ref ((F 0))), (1, .ref ((F (30 + s_)))), (2, .int (nI k)), (3, .int (nI c_)), (4, .ref k0)]) hx hb dX2_layCollected_125 hl (Nat.le_of_ble_eq_true rfl) rfl (fun ls hl => ?_)
                            refine lv_iinc (v := nI (j + 1)) (lv' := [(7, .int (nI (j + 1))), (6, .int (oI (p_bst (kd S) k (fun b => S 5 s_ b - nI (p_tk S s_ k u b)) (j + 1)))), (8, .int (nI 1)), (5, .int (nI u)), (0, .ref ((F 0))), (1, .ref ((F (30 + s_)))), (2, .int (nI k)), (3, .int (nI c_)), (4, .ref k0)]) hx hb dX2_layCollected_127 hl (k := 2) rfl (nI_1 _) (Nat.le_of_ble_eq_true rfl) rfl (fun ls hl => ?_)
                            refine lv_goto (tgt := 40) hx hb dX2_layCollected_130 (by decide) ?_
                            exact ih40 (j + 1) (by omega) (by omega) _ hS ls (lv_sub hl [1, 0, 3, 4, 5, 6, 7, 8] rfl)
                          · refine lv_iload hx hb dX2_layCollected_118 (lv_at hl 2 rfl) ?_
                            refine lv_goto (tgt := 125) hx hb dX2_layCollected_120 (by decide) ?_
                            refine b_top (x := nI j) (y := oI (p_bst (kd S) k (fun b => S 5 s_ b - nI (p_tk S s_ k u b)) (j + 1))) (by first | (rw [p_bst_n c_68]) | (rw [p_bst_0 c_68 h0]; rfl) | (rw [p_bst_2 c_68 ha (Int32.not_lt.mpr c_115)]; rfl) | (rw [p_bst_1 c_68 ha (Int32.not_le.mp c_115)]; rfl)) ?_
                            refine lv_istore (lv' := [(6, .int (oI (p_bst (kd S) k (fun b => S 5 s_ b - nI (p_tk S s_ k u b)) (j + 1)))), (8, .int (nI 1)), (7, .int (nI j)), (5, .int (nI u)), (0, .ref ((F 0))), (1, .ref ((F (30 + s_)))), (2, .int (nI k)), (3, .int (nI c_)), (4, .ref k0)]) hx hb dX2_layCollected_125 hl (Nat.le_of_ble_eq_true rfl) rfl (fun ls hl => ?_)
                            refine lv_iinc (v := nI (j + 1)) (lv' := [(7, .int (nI (j + 1))), (6, .int (oI (p_bst (kd S) k (fun b => S 5 s_ b - nI (p_tk S s_ k u b)) (j + 1)))), (8, .int (nI 1)), (5, .int (nI u)), (0, .ref ((F 0))), (1, .ref ((F (30 + s_)))), (2, .int (nI k)), (3, .int (nI c_)), (4, .ref k0)]) hx hb dX2_layCollected_127 hl (k := 2) rfl (nI_1 _) (Nat.le_of_ble_eq_true rfl) rfl (fun ls hl => ?_)
                            refine lv_goto (tgt := 40) hx hb dX2_layCollected_130 (by decide) ?_
                            exact ih40 (j + 1) (by omega) (by omega) _ hS ls (lv_sub hl [1, 0, 3, 4, 5, 6, 7, 8] rfl)
              exact lp40_5 _ 0 (Nat.zero_le _) (Nat.lt_succ_self _) _ hS ls (lv_sub hl [1, 0, 2, 3, 4, 5, 6, 7] rfl)
        exact lp25_3 _ 0 (Nat.zero_le _) (Nat.lt_succ_self _) H2 hL hF hc_tk _ hS ls (lv_sub hl [0, 1, 2, 3, 4, 5] rfl)
      · refine lv_aload hx hb dX2_layCollected_10 (lv_at hl 5 rfl) ?_
        refine lv_iload hx hb dX2_layCollected_12 (lv_at hl 0 rfl) ?_
        refine lv_iconst (v := nI 0) hx hb dX2_layCollected_14 rfl ?_
        refine b_ist CX hc_tk.at hS hc_tk.B (vp_in_nI (by omega) (by omega)) dX2_layCollected_15 (fun H7 locs hat hu hS => ?_)
        rw [b_up_nI (by omega) (tk_zero _ _)] at hat
        have hL := hL.up hu hc_tk.tag (by omega)
        have hF := hF.up hA hu hc_tk.tag (fun _ => show (tg) = tg by omega)
        have hc_tk : b_tt G B0 τ H7 k0 (tg) (.inl (G.2.1 0, 8, .inl ((fun j => if j < i + 1 then nI 0 else f j)))) := hc_tk.set hat
        refine lv_iinc (v := nI (i + 1)) (lv' := [(5, .int (nI (i + 1))), (0, .ref ((F 0))), (1, .ref ((F (30 + s_)))), (2, .int (nI k)), (3, .int (nI c_)), (4, .ref k0)]) hx hb dX2_layCollected_16 hl (k := 0) rfl (nI_1 _) (Nat.le_of_ble_eq_true rfl) rfl (fun ls hl => ?_)
        refine lv_goto (tgt := 3) hx hb dX2_layCollected_19 (by decide) ?_
        exact ih3 (i + 1) (by omega) (by omega) H7 hL hF hc_tk _ hS ls (lv_sub hl [0, 1, 2, 3, 4, 5] rfl)
  exact lp3_1 _ 0 (Nat.zero_le _) (Nat.lt_succ_self _) H hL hF hc_tk _ hS ls (lv_sub hl [0, 1, 2, 3, 4, 5] rfl)
theorem cs_X2_153 {p : Program} {l : Launch} {e : Env} {R : Room} {s : State} {m : MethodId} {args : Array Value} {below : List Frame} {meth : Method} {c : Code} {H : Heap} {locs : List Loc} {cells slots : Nat} {cc : ByteArray} {pc nL a : Nat} {ls : Array Slot} {rest : List Value} {G : b_G} {B0 : Nat} (CX : b_Cx p s m args c cc nL RX2 G B0) (hls : ls.size = nL) {rm : Room} {mc ms : Nat} {As st0 : List Value} {Qc : Array Value → State → Outcome → State → Prop} (hM : Met l yX2_layCollected (ws_ yX2_layCollected cX2_layCollected 9 (Option.none)) rm (b_Pc G B0 H (.ref a :: As)) Qc mc ms (b_A B0)) (hn : As.length = 4) {fs : List Value} {ci : Nat} {qc : vw_C} (hc : b_cl[ci]? = some qc) (hq : qc.1 = RX2) (hP : b_at G a (.inr (ci, fs)) H) (hS : va_S (b_A B0) s.heap H locs) (hst : st0 = As.reverse ++ .ref a :: rest) (hr : rm.cells = mc ∧ rm.slots = ms ∧ rm.frames + 1 ≤ R.frames ∧ 8 + (9 + 11) + rm.locals ≤ R.locals) (hw : (rest.map fun v => v.category).sum ≤ 8) (hdg : decode cc pc = .ok (.invokevirtual 153, 3)) (hf : cells + mc ≤ R.cells ∧ slots + ms ≤ R.slots) : va_Run p l e R s m args below meth c H locs cells slots mc ms (F0 m pc ls st0) rest (Qc (Value.ref a :: As).toArray) (b_A B0) := va_runV CX.fix hM (cwV 4 CX.ts (lw_V q1402 q904 q905 q80 q906) rfl hr.1 hr.2.1 (by decide +kernel) ⟨hr.2.2.1, hr.2.2.2⟩) ⟨b_blind G B0 H _, by have h9 := b_recv CX.K hc hP; rw [hq] at h9; exact h9, b_pre _ CX.K hS⟩ rfl hn hls hst (lv_room hw) hdg hf
set_option maxHeartbeats 2000000 in
set_option maxRecDepth 100000 in
theorem m_X2_collect (l : Launch) {G : b_G} {B0 : Nat} {H : Heap} {τ : b_T} {id : Nat} {F : Nat → Nat} {M : Nat → Int32} {E : Nat → Bool} {S : b_St} {Z : Nat → Nat → Int32} {s_ : Nat} {k : Nat} {c_ : Nat} {k0 : Nat} {tg : Nat} {f : Nat → Int32} (hc_tk : b_tt G B0 τ H k0 (tg) (.inl (G.2.1 0, 8, .inl f))) (hL : LR G B0 τ id F M E H S Z) (hW : b_WF S) (hs : s_ < ns S) (hk : k < 3) (hc : c_ ≤ 50) (hpk : p_picks S s_ k c_) (htg : tg < 1000 * id ∨ 1000 * id + 1000 ≤ tg) : Met l yX2_collect (ws_ yX2_collect cX2_collect 6 (Option.some Jvm.ClassFile.FieldType.int)) ({ frames := 4, cells := 0, slots := 0, locals := 92 } : Room) (b_Pc G B0 H [.ref ((F 0)), .ref ((F (30 + s_))), .int (nI k), .int (nI c_), .ref k0]) (b_Qi B0 (fun r H1 => r = p_deps S k (nI c_) ∧ b_Fr τ (fun t => (1000 * id ≤ t ∧ t < 1000 * id + 1000) ∨ t = tg) H H1 ∧ b_tt G B0 τ H1 k0 (tg) (.inl (G.2.1 0, 8, .inl ((fun q => nI (p_tk S s_ k (12 * c_) q))))) ∧ LR G B0 τ id F M E H1 ((s_collect S s_ k c_)) Z)) 0 0 (b_A B0) := by
  refine b_of (by decide) (Nat.le_of_ble_eq_true rfl) ?_
  intro p e s m below meth c CX hr hlk hnm hS ls hl
  have CX : b_Cx p s m _ c cX2_collect 6 RX2 G B0 := CX
  have hx := CX.hx
  have hb := CX.hb
  have hl : lv_has ls 6 [(0, .ref ((F 0))), (1, .ref ((F (30 + s_)))), (2, .int (nI k)), (3, .int (nI c_)), (4, .ref k0)] := hl
  generalize hQ : MQ below (b_Qi B0 (fun r H1 => r = p_deps S k (nI c_) ∧ b_Fr τ (fun t => (1000 * id ≤ t ∧ t < 1000 * id + 1000) ∨ t = tg) H H1 ∧ b_tt G B0 τ H1 k0 (tg) (.inl (G.2.1 0, 8, .inl ((fun q => nI (p_tk S s_ k (12 * c_) q))))) ∧ LR G B0 τ id F M E H1 ((s_collect S s_ k c_)) Z)) ([.ref ((F 0)), .ref ((F (30 + s_))), .int (nI k), .int (nI c_), .ref k0] : List Value).toArray s 0 0 (b_A B0) = Q
  have hF : b_Fr τ (fun t => (1000 * id ≤ t ∧ t < 1000 * id + 1000) ∨ t = tg) H H := b_Fr.rf
  have hA : b_Ag τ τ H := b_Ag.rf
  have hnb : nb S = nb S := rfl
  have hns : ns S = ns S := rfl
  have hn8 := hL.2.2.2.1
  have hn6 := hL.2.2.2.2
  refine lv_aload_n hx hb dX2_collect_0 rfl (lv_at hl 0 rfl) ?_
  refine lv_aload_n hx hb dX2_collect_1 rfl (lv_at hl 1 rfl) ?_
  refine lv_iload_n hx hb dX2_collect_2 rfl (lv_at hl 2 rfl) ?_
  refine lv_iload_n hx hb dX2_collect_3 rfl (lv_at hl 3 rfl) ?_
  refine lv_aload hx hb dX2_collect_4 (lv_at hl 4 rfl) ?_
  refine b_cv (cs_X2_153 (rest := []) CX hl.1 (m_X2_layCollected l (s_ := s_) (k := k) (c_ := c_) (k0 := k0) (tg := tg) (f := f) hc_tk hL hW (by omega) (by omega) (by omega) hpk (by omega)) rfl rfl rfl hL.loop.at hS rfl ⟨rfl, rfl, Nat.le_of_ble_eq_true rfl, Nat.le_of_ble_eq_true rfl⟩ (Nat.le_of_ble_eq_true rfl) dX2_collect_6 ⟨Nat.le_of_ble_eq_true rfl, Nat.le_of_ble_eq_true rfl⟩) hS (fun H1 locs hp hS => ?_)
  obtain ⟨hF9, hx0⟩ := hp
  have hL := hL.fr hF9 (fun i9 hi9 => show ¬ ((1000 * id + i9) = tg) by omega)
  have hF := hF.tr hA hF9 (fun q9 hq9 x9 => by have x8 : τ q9 = tg := x9; show (1000 * id ≤ τ q9 ∧ τ q9 < 1000 * id + 1000) ∨ τ q9 = tg; omega)
  have hc_tk : b_tt G B0 τ H1 k0 (tg) (.inl (G.2.1 0, 8, .inl ((fun q => nI (p_tk S s_ k (12 * c_) q))))) := hx0
  refine lv_iconst (v := nI 0) hx hb dX2_collect_9 rfl ?_
  refine lv_istore (lv' := [(5, .int (nI 0)), (0, .ref ((F 0))), (1, .ref ((F (30 + s_)))), (2, .int (nI k)), (3, .int (nI c_)), (4, .ref k0)]) hx hb dX2_collect_10 hl (Nat.le_of_ble_eq_true rfl) rfl (fun ls hl => ?_)
  have hL : LR G B0 τ id F M E H1 ((s_coll S s_ (p_tki (p_tk S s_ k (12 * c_)) 0))) Z := by rw [p_tki_0, s_coll_0]; exact hL
  have lp12_2 : ∀ (n_ : Nat) (i : Nat), i ≤ nb S → nb S - i < n_ → ∀ (H3 : Heap), LR G B0 τ id F M E H3 ((s_coll S s_ (p_tki (p_tk S s_ k (12 * c_)) i))) Z → b_Fr τ (fun t => (1000 * id ≤ t ∧ t < 1000 * id + 1000) ∨ t = tg) H H3 → b_tt G B0 τ H3 k0 (tg) (.inl (G.2.1 0, 8, .inl ((fun q => nI (p_tk S s_ k (12 * c_) q))))) → ∀ (locs : List Loc), va_S (b_A B0) s.heap H3 locs → ∀ ls : Array Slot, lv_has ls 6 [(5, .int (nI i)), (0, .ref ((F 0))), (1, .ref ((F (30 + s_)))), (2, .int (nI k)), (3, .int (nI c_)), (4, .ref k0)] → W p l e ({ frames := 4, cells := 0, slots := 0, locals := 92 } : Room) s m ([.ref ((F 0)), .ref ((F (30 + s_))), .int (nI k), .int (nI c_), .ref k0] : List Value).toArray below meth c H3 locs 0 0 Q (F0 m 12 ls []) := by
    intro n_
    induction n_ with
    | zero => intro i hi hlt H3 hL hF hc_tk locs hS ls hl; exact absurd hlt (Nat.not_lt_zero _)
    | succ n_ ih12 =>
      intro i hi hlt H3 hL hF hc_tk locs hS ls hl
      refine lv_iload hx hb dX2_collect_12 (lv_at hl 0 rfl) ?_
      refine lv_aload_n hx hb dX2_collect_14 rfl (lv_at hl 1 rfl) ?_
      refine gf_X2_12_1 CX hL.loop.at rfl dX2_collect_15 ?_
      refine b_ci0 (cs_X2_31 (rest := [.int (nI i)]) CX hl.1 (m_J2_size l (a := (F 1)) (ta := 1000 * id + 1) (mc := M 1) (ra := (if E 1 = true then F 2 else G.2.2 0)) (x := ((s_coll S s_ (p_tki (p_tk S s_ k (12 * c_)) i))) 0 0 0) hL.al1) rfl rfl rfl hL.al1.at hS rfl ⟨rfl, rfl, Nat.le_of_ble_eq_true rfl, Nat.le_of_ble_eq_true rfl⟩ (Nat.le_of_ble_eq_true rfl) dX2_collect_18 ⟨Nat.le_of_ble_eq_true rfl, Nat.le_of_ble_eq_true rfl⟩) hS (fun locs hS => ?_)
      refine b_top (x := (((s_coll S s_ (p_tki (p_tk S s_ k (12 * c_)) i))) 0 0 0)) (y := nI (nb ((s_coll S s_ (p_tki (p_tk S s_ k (12 * c_)) i))))) ((hW.coll _ _).nbE) ?_
      refine b_top (x := nI (nb ((s_coll S s_ (p_tki (p_tk S s_ k (12 * c_)) i))))) (y := nI (nb S)) (by simp [nb, ns, s_mv, s_coll]) ?_
      refine b_icmp_geN (tgt := 70) CX (by omega) (by omega) dX2_collect_21 (by decide) (fun c_21 => ?_) (fun c_21 => ?_)
      · obtain rfl : i = nb S := by omega
        have hL : LR G B0 τ id F M E H3 ((s_coll S s_ (p_tk S s_ k (12 * c_)))) Z := by rw [p_tki_e] at hL; exact hL
        have hnb : nb (s_coll S s_ (p_tk S s_ k (12 * c_))) = nb S := by simp [nb, ns, s_mv, s_coll]
        have hns : ns (s_coll S s_ (p_tk S s_ k (12 * c_))) = ns S := by simp [nb, ns, s_mv, s_coll]
        refine lv_iload_n hx hb dX2_collect_70 rfl (lv_at hl 4 rfl) ?_
        refine lv_bipush (v := nI 12) hx hb dX2_collect_71 rfl ?_
        refine lv_aload_n hx hb dX2_collect_73 rfl (lv_at hl 1 rfl) ?_
        refine gf_X2_21_1 CX hL.loop.at rfl dX2_collect_74 ?_
        refine lv_iload_n hx hb dX2_collect_77 rfl (lv_at hl 3 rfl) ?_
        refine b_ild CX hL.sett.at (x := (s_coll S s_ (p_tk S s_ k (12 * c_))) 0 0 (7 + k)) (vp_in_nI (by omega) (by omega)) (b_at_nI (f := (fun j => ((s_coll S s_ (p_tk S s_ k (12 * c_)))) 0 0 (7 + j))) (n := k) (by omega) rfl) dX2_collect_78 ?_
        refine lv_imul hx hb dX2_collect_79 ?_
        refine lv_aload_n hx hb dX2_collect_80 rfl (lv_at hl 1 rfl) ?_
        refine gf_X2_21_1 CX hL.loop.at rfl dX2_collect_81 ?_
        refine lv_iconst (v := nI 3) hx hb dX2_collect_84 rfl ?_
        refine b_ild CX hL.sett.at (x := (s_coll S s_ (p_tk S s_ k (12 * c_))) 0 0 10) (vp_in_nI (by omega) (by omega)) (b_at_nI (f := (fun j => ((s_coll S s_ (p_tk S s_ k (12 * c_)))) 0 0 (7 + j))) (n := 3) (by omega) rfl) dX2_collect_85 ?_
        refine lv_iadd hx hb dX2_collect_86 ?_
        refine lv_imul hx hb dX2_collect_87 ?_
        refine lv_istore (lv' := [(5, .int ((nI c_) * (((nI 12) * ((s_coll S s_ (p_tk S s_ k (12 * c_))) 0 0 (7 + k))) + ((s_coll S s_ (p_tk S s_ k (12 * c_))) 0 0 10)))), (0, .ref ((F 0))), (1, .ref ((F (30 + s_)))), (2, .int (nI k)), (3, .int (nI c_)), (4, .ref k0)]) hx hb dX2_collect_88 hl (Nat.le_of_ble_eq_true rfl) rfl (fun ls hl => ?_)
        refine lv_aload_n hx hb dX2_collect_90 rfl (lv_at hl 2 rfl) ?_
        refine lv_dup hx hb dX2_collect_91 rfl ?_
        refine gf_X2_120_5 CX (hL.shop (k := s_) (by omega)).at rfl dX2_collect_92 ?_
        refine lv_iload_n hx hb dX2_collect_95 rfl (lv_at hl 4 rfl) ?_
        refine lv_isub hx hb dX2_collect_96 ?_
        refine pf_X2_120_5 CX (hL.shop (k := s_) (by omega)).at hS (hL.shop (k := s_) (by omega)).B rfl rfl (Nat.le_of_ble_eq_true rfl) dX2_collect_97 (fun H4 locs hat hu hS => ?_)
        have hc_tk := hc_tk.up hu (hL.shop (k := s_) (by omega)).tag (by omega)
        have hF := hF.up hA hu (hL.shop (k := s_) (by omega)).tag (fun _ => show (1000 * id ≤ (1000 * id + (30 + s_)) ∧ (1000 * id + (30 + s_)) < 1000 * id + 1000) ∨ (1000 * id + (30 + s_)) = tg by omega)
        have hL : LR G B0 τ id F M E H4 ((u3 (s_coll S s_ (p_tk S s_ k (12 * c_))) 2 s_ 1 (((s_coll S s_ (p_tk S s_ k (12 * c_))) 2 s_ 1) - (nI c_)))) Z := hL.set2 (k := s_) (w := 1) (by omega) hat hu (by simp [u3])
        have hnb : nb ((u3 (s_coll S s_ (p_tk S s_ k (12 * c_))) 2 s_ 1 (((s_coll S s_ (p_tk S s_ k (12 * c_))) 2 s_ 1) - (nI c_)))) = nb S := (nb_u (by omega)).trans hnb
        have hns : ns ((u3 (s_coll S s_ (p_tk S s_ k (12 * c_))) 2 s_ 1 (((s_coll S s_ (p_tk S s_ k (12 * c_))) 2 s_ 1) - (nI c_)))) = ns S := (ns_u (by omega)).trans hns
        refine lv_aload_n hx hb dX2_collect_100 rfl (lv_at hl 1 rfl) ?_
        refine lv_dup hx hb dX2_collect_101 rfl ?_
        refine gf_X2_60_1 CX hL.loop.at (v := .int ((s_coll S s_ (p_tk S s_ k (12 * c_))) 0 0 2)) (congrArg (fun q => some (Value.int q)) (by simp [u3])) dX2_collect_102 ?_
        refine lv_iload_n hx hb dX2_collect_105 rfl (lv_at hl 4 rfl) ?_
        refine lv_iadd hx hb dX2_collect_106 ?_
        refine pf_X2_60_1 CX hL.loop.at hS hL.loop.B rfl rfl (Nat.le_of_ble_eq_true rfl) dX2_collect_107 (fun H5 locs hat hu hS => ?_)
        have hc_tk := hc_tk.up hu hL.loop.tag (by omega)
        have hF := hF.up hA hu hL.loop.tag (fun _ => show (1000 * id ≤ (1000 * id + 0) ∧ (1000 * id + 0) < 1000 * id + 1000) ∨ (1000 * id + 0) = tg by omega)
        have hL : LR G B0 τ id F M E H5 ((u3 (u3 (s_coll S s_ (p_tk S s_ k (12 * c_))) 2 s_ 1 (((s_coll S s_ (p_tk S s_ k (12 * c_))) 2 s_ 1) - (nI c_))) 0 0 2 (((s_coll S s_ (p_tk S s_ k (12 * c_))) 0 0 2) + (nI c_)))) Z := hL.set0 (w := 2) (by decide) hat hu (by simp [l_cnt, u3])
        have hnb : nb ((u3 (u3 (s_coll S s_ (p_tk S s_ k (12 * c_))) 2 s_ 1 (((s_coll S s_ (p_tk S s_ k (12 * c_))) 2 s_ 1) - (nI c_))) 0 0 2 (((s_coll S s_ (p_tk S s_ k (12 * c_))) 0 0 2) + (nI c_)))) = nb S := (nb_u (by omega)).trans hnb
        have hns : ns ((u3 (u3 (s_coll S s_ (p_tk S s_ k (12 * c_))) 2 s_ 1 (((s_coll S s_ (p_tk S s_ k (12 * c_))) 2 s_ 1) - (nI c_))) 0 0 2 (((s_coll S s_ (p_tk S s_ k (12 * c_))) 0 0 2) + (nI c_)))) = ns S := (ns_u (by omega)).trans hns
        refine lv_aload_n hx hb dX2_collect_110 rfl (lv_at hl 2 rfl) ?_
        refine lv_dup hx hb dX2_collect_111 rfl ?_
        refine gf_X2_109_5 CX (hL.shop (k := s_) (by omega)).at (v := .int ((s_coll S s_ (p_tk S s_ k (12 * c_))) 2 s_ 0)) (congrArg (fun q => some (Value.int q)) (by simp [u3])) dX2_collect_112 ?_
        refine lv_iload hx hb dX2_collect_115 (lv_at hl 0 rfl) ?_
        refine lv_iadd hx hb dX2_collect_117 ?_
        refine pf_X2_109_5 CX (hL.shop (k := s_) (by omega)).at hS (hL.shop (k := s_) (by omega)).B rfl rfl (Nat.le_of_ble_eq_true rfl) dX2_collect_118 (fun H6 locs hat hu hS => ?_)
        have hc_tk := hc_tk.up hu (hL.shop (k := s_) (by omega)).tag (by omega)
        have hF := hF.up hA hu (hL.shop (k := s_) (by omega)).tag (fun _ => show (1000 * id ≤ (1000 * id + (30 + s_)) ∧ (1000 * id + (30 + s_)) < 1000 * id + 1000) ∨ (1000 * id + (30 + s_)) = tg by omega)
        have hL : LR G B0 τ id F M E H6 ((u3 (u3 (u3 (s_coll S s_ (p_tk S s_ k (12 * c_))) 2 s_ 1 (((s_coll S s_ (p_tk S s_ k (12 * c_))) 2 s_ 1) - (nI c_))) 0 0 2 (((s_coll S s_ (p_tk S s_ k (12 * c_))) 0 0 2) + (nI c_))) 2 s_ 0 (((s_coll S s_ (p_tk S s_ k (12 * c_))) 2 s_ 0) + ((nI c_) * (((nI 12) * ((s_coll S s_ (p_tk S s_ k (12 * c_))) 0 0 (7 + k))) + ((s_coll S s_ (p_tk S s_ k (12 * c_))) 0 0 10)))))) Z := hL.set2 (k := s_) (w := 0) (by omega) hat hu (by simp [u3])
        have hnb : nb ((u3 (u3 (u3 (s_coll S s_ (p_tk S s_ k (12 * c_))) 2 s_ 1 (((s_coll S s_ (p_tk S s_ k (12 * c_))) 2 s_ 1) - (nI c_))) 0 0 2 (((s_coll S s_ (p_tk S s_ k (12 * c_))) 0 0 2) + (nI c_))) 2 s_ 0 (((s_coll S s_ (p_tk S s_ k (12 * c_))) 2 s_ 0) + ((nI c_) * (((nI 12) * ((s_coll S s_ (p_tk S s_ k (12 * c_))) 0 0 (7 + k))) + ((s_coll S s_ (p_tk S s_ k (12 * c_))) 0 0 10)))))) = nb S := (nb_u (by omega)).trans hnb
        have hns : ns ((u3 (u3 (u3 (s_coll S s_ (p_tk S s_ k (12 * c_))) 2 s_ 1 (((s_coll S s_ (p_tk S s_ k (12 * c_))) 2 s_ 1) - (nI c_))) 0 0 2 (((s_coll S s_ (p_tk S s_ k (12 * c_))) 0 0 2) + (nI c_))) 2 s_ 0 (((s_coll S s_ (p_tk S s_ k (12 * c_))) 2 s_ 0) + ((nI c_) * (((nI 12) * ((s_coll S s_ (p_tk S s_ k (12 * c_))) 0 0 (7 + k))) + ((s_coll S s_ (p_tk S s_ k (12 * c_))) 0 0 10)))))) = ns S := (ns_u (by omega)).trans hns
        refine lv_aload_n hx hb dX2_collect_121 rfl (lv_at hl 2 rfl) ?_
        refine lv_dup hx hb dX2_collect_122 rfl ?_
        refine gf_X2_123_5 CX (hL.shop (k := s_) (by omega)).at (v := .int ((s_coll S s_ (p_tk S s_ k (12 * c_))) 2 s_ 2)) (congrArg (fun q => some (Value.int q)) (by simp [u3])) dX2_collect_123 ?_
        refine lv_iload hx hb dX2_collect_126 (lv_at hl 0 rfl) ?_
        refine lv_isub hx hb dX2_collect_128 ?_
        refine pf_X2_123_5 CX (hL.shop (k := s_) (by omega)).at hS (hL.shop (k := s_) (by omega)).B rfl rfl (Nat.le_of_ble_eq_true rfl) dX2_collect_129 (fun H7 locs hat hu hS => ?_)
        have hc_tk := hc_tk.up hu (hL.shop (k := s_) (by omega)).tag (by omega)
        have hF := hF.up hA hu (hL.shop (k := s_) (by omega)).tag (fun _ => show (1000 * id ≤ (1000 * id + (30 + s_)) ∧ (1000 * id + (30 + s_)) < 1000 * id + 1000) ∨ (1000 * id + (30 + s_)) = tg by omega)
        have hL : LR G B0 τ id F M E H7 ((u3 (u3 (u3 (u3 (s_coll S s_ (p_tk S s_ k (12 * c_))) 2 s_ 1 (((s_coll S s_ (p_tk S s_ k (12 * c_))) 2 s_ 1) - (nI c_))) 0 0 2 (((s_coll S s_ (p_tk S s_ k (12 * c_))) 0 0 2) + (nI c_))) 2 s_ 0 (((s_coll S s_ (p_tk S s_ k (12 * c_))) 2 s_ 0) + ((nI c_) * (((nI 12) * ((s_coll S s_ (p_tk S s_ k (12 * c_))) 0 0 (7 + k))) + ((s_coll S s_ (p_tk S s_ k (12 * c_))) 0 0 10))))) 2 s_ 2 (((s_coll S s_ (p_tk S s_ k (12 * c_))) 2 s_ 2) - ((nI c_) * (((nI 12) * ((s_coll S s_ (p_tk S s_ k (12 * c_))) 0 0 (7 + k))) + ((s_coll S s_ (p_tk S s_ k (12 * c_))) 0 0 10)))))) Z := hL.set2 (k := s_) (w := 2) (by omega) hat hu (by simp [u3])
        have hnb : nb ((u3 (u3 (u3 (u3 (s_coll S s_ (p_tk S s_ k (12 * c_))) 2 s_ 1 (((s_coll S s_ (p_tk S s_ k (12 * c_))) 2 s_ 1) - (nI c_))) 0 0 2 (((s_coll S s_ (p_tk S s_ k (12 * c_))) 0 0 2) + (nI c_))) 2 s_ 0 (((s_coll S s_ (p_tk S s_ k (12 * c_))) 2 s_ 0) + ((nI c_) * (((nI 12) * ((s_coll S s_ (p_tk S s_ k (12 * c_))) 0 0 (7 + k))) + ((s_coll S s_ (p_tk S s_ k (12 * c_))) 0 0 10))))) 2 s_ 2 (((s_coll S s_ (p_tk S s_ k (12 * c_))) 2 s_ 2) - ((nI c_) * (((nI 12) * ((s_coll S s_ (p_tk S s_ k (12 * c_))) 0 0 (7 + k))) + ((s_coll S s_ (p_tk S s_ k (12 * c_))) 0 0 10)))))) = nb S := (nb_u (by omega)).trans hnb
        have hns : ns ((u3 (u3 (u3 (u3 (s_coll S s_ (p_tk S s_ k (12 * c_))) 2 s_ 1 (((s_coll S s_ (p_tk S s_ k (12 * c_))) 2 s_ 1) - (nI c_))) 0 0 2 (((s_coll S s_ (p_tk S s_ k (12 * c_))) 0 0 2) + (nI c_))) 2 s_ 0 (((s_coll S s_ (p_tk S s_ k (12 * c_))) 2 s_ 0) + ((nI c_) * (((nI 12) * ((s_coll S s_ (p_tk S s_ k (12 * c_))) 0 0 (7 + k))) + ((s_coll S s_ (p_tk S s_ k (12 * c_))) 0 0 10))))) 2 s_ 2 (((s_coll S s_ (p_tk S s_ k (12 * c_))) 2 s_ 2) - ((nI c_) * (((nI 12) * ((s_coll S s_ (p_tk S s_ k (12 * c_))) 0 0 (7 + k))) + ((s_coll S s_ (p_tk S s_ k (12 * c_))) 0 0 10)))))) = ns S := (ns_u (by omega)).trans hns
        refine lv_aload_n hx hb dX2_collect_132 rfl (lv_at hl 1 rfl) ?_
        refine lv_dup hx hb dX2_collect_133 rfl ?_
        refine gf_X2_64_1 CX hL.loop.at (v := .int ((s_coll S s_ (p_tk S s_ k (12 * c_))) 0 0 3)) (congrArg (fun q => some (Value.int q)) (by simp [u3])) dX2_collect_134 ?_
        refine lv_iload hx hb dX2_collect_137 (lv_at hl 0 rfl) ?_
        refine lv_isub hx hb dX2_collect_139 ?_
        refine pf_X2_64_1 CX hL.loop.at hS hL.loop.B rfl rfl (Nat.le_of_ble_eq_true rfl) dX2_collect_140 (fun H8 locs hat hu hS => ?_)
        have hc_tk := hc_tk.up hu hL.loop.tag (by omega)
        have hF := hF.up hA hu hL.loop.tag (fun _ => show (1000 * id ≤ (1000 * id + 0) ∧ (1000 * id + 0) < 1000 * id + 1000) ∨ (1000 * id + 0) = tg by omega)
        have hL : LR G B0 τ id F M E H8 ((u3 (u3 (u3 (u3 (u3 (s_coll S s_ (p_tk S s_ k (12 * c_))) 2 s_ 1 (((s_coll S s_ (p_tk S s_ k (12 * c_))) 2 s_ 1) - (nI c_))) 0 0 2 (((s_coll S s_ (p_tk S s_ k (12 * c_))) 0 0 2) + (nI c_))) 2 s_ 0 (((s_coll S s_ (p_tk S s_ k (12 * c_))) 2 s_ 0) + ((nI c_) * (((nI 12) * ((s_coll S s_ (p_tk S s_ k (12 * c_))) 0 0 (7 + k))) + ((s_coll S s_ (p_tk S s_ k (12 * c_))) 0 0 10))))) 2 s_ 2 (((s_coll S s_ (p_tk S s_ k (12 * c_))) 2 s_ 2) - ((nI c_) * (((nI 12) * ((s_coll S s_ (p_tk S s_ k (12 * c_))) 0 0 (7 + k))) + ((s_coll S s_ (p_tk S s_ k (12 * c_))) 0 0 10))))) 0 0 3 (((s_coll S s_ (p_tk S s_ k (12 * c_))) 0 0 3) - ((nI c_) * (((nI 12) * ((s_coll S s_ (p_tk S s_ k (12 * c_))) 0 0 (7 + k))) + ((s_coll S s_ (p_tk S s_ k (12 * c_))) 0 0 10)))))) Z := hL.set0 (w := 3) (by decide) hat hu (by simp [l_cnt, u3])
        have hnb : nb ((u3 (u3 (u3 (u3 (u3 (s_coll S s_ (p_tk S s_ k (12 * c_))) 2 s_ 1 (((s_coll S s_ (p_tk S s_ k (12 * c_))) 2 s_ 1) - (nI c_))) 0 0 2 (((s_coll S s_ (p_tk S s_ k (12 * c_))) 0 0 2) + (nI c_))) 2 s_ 0 (((s_coll S s_ (p_tk S s_ k (12 * c_))) 2 s_ 0) + ((nI c_) * (((nI 12) * ((s_coll S s_ (p_tk S s_ k (12 * c_))) 0 0 (7 + k))) + ((s_coll S s_ (p_tk S s_ k (12 * c_))) 0 0 10))))) 2 s_ 2 (((s_coll S s_ (p_tk S s_ k (12 * c_))) 2 s_ 2) - ((nI c_) * (((nI 12) * ((s_coll S s_ (p_tk S s_ k (12 * c_))) 0 0 (7 + k))) + ((s_coll S s_ (p_tk S s_ k (12 * c_))) 0 0 10))))) 0 0 3 (((s_coll S s_ (p_tk S s_ k (12 * c_))) 0 0 3) - ((nI c_) * (((nI 12) * ((s_coll S s_ (p_tk S s_ k (12 * c_))) 0 0 (7 + k))) + ((s_coll S s_ (p_tk S s_ k (12 * c_))) 0 0 10)))))) = nb S := (nb_u (by omega)).trans hnb
        have hns : ns ((u3 (u3 (u3 (u3 (u3 (s_coll S s_ (p_tk S s_ k (12 * c_))) 2 s_ 1 (((s_coll S s_ (p_tk S s_ k (12 * c_))) 2 s_ 1) - (nI c_))) 0 0 2 (((s_coll S s_ (p_tk S s_ k (12 * c_))) 0 0 2) + (nI c_))) 2 s_ 0 (((s_coll S s_ (p_tk S s_ k (12 * c_))) 2 s_ 0) + ((nI c_) * (((nI 12) * ((s_coll S s_ (p_tk S s_ k (12 * c_))) 0 0 (7 + k))) + ((s_coll S s_ (p_tk S s_ k (12 * c_))) 0 0 10))))) 2 s_ 2 (((s_coll S s_ (p_tk S s_ k (12 * c_))) 2 s_ 2) - ((nI c_) * (((nI 12) * ((s_coll S s_ (p_tk S s_ k (12 * c_))) 0 0 (7 + k))) + ((s_coll S s_ (p_tk S s_ k (12 * c_))) 0 0 10))))) 0 0 3 (((s_coll S s_ (p_tk S s_ k (12 * c_))) 0 0 3) - ((nI c_) * (((nI 12) * ((s_coll S s_ (p_tk S s_ k (12 * c_))) 0 0 (7 + k))) + ((s_coll S s_ (p_tk S s_ k (12 * c_))) 0 0 10)))))) = ns S := (ns_u (by omega)).trans hns
        refine lv_iload hx hb dX2_collect_143 (lv_at hl 0 rfl) ?_
        rw [← hQ]
        exact b_iret CX hr hlk hS (Nat.le_of_ble_eq_true rfl) (Nat.le_of_ble_eq_true rfl) dX2_collect_145 (⟨(by simp [p_deps, s_coll]), hF, hc_tk, hL⟩)
      · have hnb : nb (s_coll S s_ (p_tki (p_tk S s_ k (12 * c_)) i)) = nb S := by simp [nb, ns, s_mv, s_coll]
        have hns : ns (s_coll S s_ (p_tki (p_tk S s_ k (12 * c_)) i)) = ns S := by simp [nb, ns, s_mv, s_coll]
        refine lv_aload_n hx hb dX2_collect_24 rfl (lv_at hl 2 rfl) ?_
        refine gf_X2_135_5 CX (hL.shop (k := s_) (by omega)).at rfl dX2_collect_25 ?_
        refine lv_iload hx hb dX2_collect_28 (lv_at hl 0 rfl) ?_
        refine lv_dup2_11 hx hb dX2_collect_30 rfl rfl ?_
        refine b_ild CX (hL.empt (k := s_) (by omega)).at (x := (s_coll S s_ (p_tki (p_tk S s_ k (12 * c_)) i)) 5 s_ i) (vp_in_nI (by omega) (by omega)) (b_at_nI (f := (fun j => ((s_coll S s_ (p_tki (p_tk S s_ k (12 * c_)) i))) 5 s_ j)) (n := i) (by omega) rfl) dX2_collect_31 ?_
        refine lv_aload hx hb dX2_collect_32 (lv_at hl 5 rfl) ?_
        refine lv_iload hx hb dX2_collect_34 (lv_at hl 0 rfl) ?_
        refine b_ild CX hc_tk.at (x := ((fun q => nI (p_tk S s_ k (12 * c_) q))) i) (vp_in_nI (by omega) (by omega)) (b_at_nI (f := (fun q => nI (p_tk S s_ k (12 * c_) q))) (n := i) (by omega) rfl) dX2_collect_36 ?_
        refine b_top (x := ((fun q => nI (p_tk S s_ k (12 * c_) q))) i) (y := nI (p_tk S s_ k (12 * c_) i)) (rfl) ?_
        refine lv_isub hx hb dX2_collect_37 ?_
        refine b_ist CX (hL.empt (k := s_) (by omega)).at hS (hL.empt (k := s_) (by omega)).B (vp_in_nI (by omega) (by omega)) dX2_collect_38 (fun H9 locs hat hu hS => ?_)
        have hc_tk := hc_tk.up hu (hL.empt (k := s_) (by omega)).tag (by omega)
        have hF := hF.up hA hu (hL.empt (k := s_) (by omega)).tag (fun _ => show (1000 * id ≤ (1000 * id + (50 + s_)) ∧ (1000 * id + (50 + s_)) < 1000 * id + 1000) ∨ (1000 * id + (50 + s_)) = tg by omega)
        rw [nI_cl (by omega)] at hat
        have hL : LR G B0 τ id F M E H9 ((u3 (s_coll S s_ (p_tki (p_tk S s_ k (12 * c_)) i)) 5 s_ i (((s_coll S s_ (p_tki (p_tk S s_ k (12 * c_)) i)) 5 s_ i) - (nI (p_tk S s_ k (12 * c_) i))))) Z := hL.set6 (k := s_) (by omega) hat hu
        have hnb : nb ((u3 (s_coll S s_ (p_tki (p_tk S s_ k (12 * c_)) i)) 5 s_ i (((s_coll S s_ (p_tki (p_tk S s_ k (12 * c_)) i)) 5 s_ i) - (nI (p_tk S s_ k (12 * c_) i))))) = nb S := (nb_u (by omega)).trans hnb
        have hns : ns ((u3 (s_coll S s_ (p_tki (p_tk S s_ k (12 * c_)) i)) 5 s_ i (((s_coll S s_ (p_tki (p_tk S s_ k (12 * c_)) i)) 5 s_ i) - (nI (p_tk S s_ k (12 * c_) i))))) = ns S := (ns_u (by omega)).trans hns
        refine lv_aload_n hx hb dX2_collect_39 rfl (lv_at hl 1 rfl) ?_
        refine gf_X2_12_1 CX hL.loop.at rfl dX2_collect_40 ?_
        refine lv_iload hx hb dX2_collect_43 (lv_at hl 0 rfl) ?_
        refine b_cq0 (cs_X2_35 (rest := []) CX hl.1 (m_J2_get l (a := (F 1)) (ta := 1000 * id + 1) (mc := M 1) (ra := (F 2)) (tr := 1000 * id + 2) (f := (fun j => F (20 + j))) (n := nb ((u3 (s_coll S s_ (p_tki (p_tk S s_ k (12 * c_)) i)) 5 s_ i (((s_coll S s_ (p_tki (p_tk S s_ k (12 * c_)) i)) 5 s_ i) - (nI (p_tk S s_ k (12 * c_) i)))))) (i := i) (hL.alg1 ((hW.coll _ _).up (by omega) (by omega)) (by omega)) (hL.arg2 (by omega)) (by omega) (by omega)) rfl rfl rfl (hL.alg1 ((hW.coll _ _).up (by omega) (by omega)) (by omega)).at hS rfl ⟨rfl, rfl, Nat.le_of_ble_eq_true rfl, Nat.le_of_ble_eq_true rfl⟩ (Nat.le_of_ble_eq_true rfl) dX2_collect_45 ⟨Nat.le_of_ble_eq_true rfl, Nat.le_of_ble_eq_true rfl⟩) hS (fun locs hS => ?_)
        refine b_cast CX (ci := 4) rfl (hL.brand (k := i) (by omega)).at q897 dX2_collect_48 ?_
        refine lv_dup hx hb dX2_collect_51 rfl ?_
        refine gf_X2_157_4 CX (hL.brand (k := i) (by omega)).at (v := .int ((s_coll S s_ (p_tki (p_tk S s_ k (12 * c_)) i)) 1 i 4)) (congrArg (fun q => some (Value.int q)) (by simp [u3])) dX2_collect_52 ?_
        refine lv_aload hx hb dX2_collect_55 (lv_at hl 5 rfl) ?_
        refine lv_iload hx hb dX2_collect_57 (lv_at hl 0 rfl) ?_
        refine b_ild CX hc_tk.at (x := ((fun q => nI (p_tk S s_ k (12 * c_) q))) i) (vp_in_nI (by omega) (by omega)) (b_at_nI (f := (fun q => nI (p_tk S s_ k (12 * c_) q))) (n := i) (by omega) rfl) dX2_collect_59 ?_
        refine b_top (x := ((fun q => nI (p_tk S s_ k (12 * c_) q))) i) (y := nI (p_tk S s_ k (12 * c_) i)) (rfl) ?_
        refine lv_iadd hx hb dX2_collect_60 ?_
        refine pf_X2_157_4 CX (hL.brand (k := i) (by omega)).at hS (hL.brand (k := i) (by omega)).B rfl rfl (Nat.le_of_ble_eq_true rfl) dX2_collect_61 (fun H10 locs hat hu hS => ?_)
        have hc_tk := hc_tk.up hu (hL.brand (k := i) (by omega)).tag (by omega)
        have hF := hF.up hA hu (hL.brand (k := i) (by omega)).tag (fun _ => show (1000 * id ≤ (1000 * id + (20 + i)) ∧ (1000 * id + (20 + i)) < 1000 * id + 1000) ∨ (1000 * id + (20 + i)) = tg by omega)
        have hL : LR G B0 τ id F M E H10 ((u3 (u3 (s_coll S s_ (p_tki (p_tk S s_ k (12 * c_)) i)) 5 s_ i (((s_coll S s_ (p_tki (p_tk S s_ k (12 * c_)) i)) 5 s_ i) - (nI (p_tk S s_ k (12 * c_) i)))) 1 i 4 (((s_coll S s_ (p_tki (p_tk S s_ k (12 * c_)) i)) 1 i 4) + (nI (p_tk S s_ k (12 * c_) i))))) Z := hL.set1 (k := i) (w := 4) (by omega) hat hu (by simp [u3])
        have hnb : nb ((u3 (u3 (s_coll S s_ (p_tki (p_tk S s_ k (12 * c_)) i)) 5 s_ i (((s_coll S s_ (p_tki (p_tk S s_ k (12 * c_)) i)) 5 s_ i) - (nI (p_tk S s_ k (12 * c_) i)))) 1 i 4 (((s_coll S s_ (p_tki (p_tk S s_ k (12 * c_)) i)) 1 i 4) + (nI (p_tk S s_ k (12 * c_) i))))) = nb S := (nb_u (by omega)).trans hnb
        have hns : ns ((u3 (u3 (s_coll S s_ (p_tki (p_tk S s_ k (12 * c_)) i)) 5 s_ i (((s_coll S s_ (p_tki (p_tk S s_ k (12 * c_)) i)) 5 s_ i) - (nI (p_tk S s_ k (12 * c_) i)))) 1 i 4 (((s_coll S s_ (p_tki (p_tk S s_ k (12 * c_)) i)) 1 i 4) + (nI (p_tk S s_ k (12 * c_) i))))) = ns S := (ns_u (by omega)).trans hns
        refine lv_iinc (v := nI (i + 1)) (lv' := [(5, .int (nI (i + 1))), (0, .ref ((F 0))), (1, .ref ((F (30 + s_)))), (2, .int (nI k)), (3, .int (nI c_)), (4, .ref k0)]) hx hb dX2_collect_64 hl (k := 0) rfl (nI_1 _) (Nat.le_of_ble_eq_true rfl) rfl (fun ls hl => ?_)
        refine lv_goto (tgt := 12) hx hb dX2_collect_67 (by decide) ?_
        have hL : LR G B0 τ id F M E H10 ((s_coll S s_ (p_tki (p_tk S s_ k (12 * c_)) (i + 1)))) Z := by have e9 := s_coll_a S s_ i ((p_tk S s_ k (12 * c_)) i) (p_tki (p_tk S s_ k (12 * c_)) i); rw [p_tki_s] at e9; rw [← e9]; exact hL
        exact ih12 (i + 1) (by omega) (by omega) H10 hL hF hc_tk _ hS ls (lv_sub hl [0, 1, 2, 3, 4, 5] rfl)
  exact lp12_2 _ 0 (Nat.zero_le _) (Nat.lt_succ_self _) H1 hL hF hc_tk _ hS ls (lv_sub hl [0, 1, 2, 3, 4, 5] rfl)
