/-! the reference: what can be called, 2 -/
set_option maxRecDepth 100000
section CL0
variable {p : Program} {l : Launch} {e : Env} {R : Room} {s : State} {m : MethodId} {args : Array Value} {below : List Frame} {meth : Method} {c : Code} {H : Heap} {locs : List Loc} {cells slots : Nat} {Q : State → Prop} {pc : Nat} {ls : Array Slot} {rest : List Value} {B0 : Nat}
theorem b_cl0 {v : Int64} {st0 : List Value} {a0 : Array Value} (hr : va_Run p l e R s m args below meth c H locs cells slots 0 0 (F0 m pc ls st0) rest (b_Ql B0 (fun r H1 => r = v ∧ H1 = H) a0) (b_A B0)) (hS : va_S (b_A B0) s.heap H locs)
    (kk : ∀ locs1 : List Loc, va_S (b_A B0) s.heap H locs1 → W p l e R s m args below meth c H locs1 cells slots Q (F0 m (pc + 3) ls (.long v :: rest))) : W p l e R s m args below meth c H locs cells slots Q (F0 m pc ls st0) :=
  b_cl' hr hS (fun r H1 locs1 hp hS1 => by
    obtain ⟨rfl, rfl⟩ := hp
    exact kk locs1 hS1)
theorem b_topL {x y : Int64} (h : x = y) (k : W p l e R s m args below meth c H locs cells slots Q (F0 m pc ls (.long y :: rest))) : W p l e R s m args below meth c H locs cells slots Q (F0 m pc ls (.long x :: rest)) := by
  rw [h]; exact k
end CL0
/-- no NaN -/
def p_nn (x : UInt64) : Prop := Op.cmpValue (FP.dcmp x x) .l = 0
def s_mv (S : b_St) (d : Nat → Int32) : b_St := fun K I J => if K = 1 ∧ J = 4 then S 1 I 4 - d I else if K = 1 ∧ J = 1 then S 1 I 1 + d I else S K I J
def p_left (S : b_St) (k : Nat) (n : Int32) : Nat → Int32
  | 0 => n
  | b + 1 => p_left S k n b - (if kd S b = k then p_least (p_left S k n b) (S 1 b 4) else nI 0)
def p_mv (S : b_St) (k : Nat) (n : Int32) (b : Nat) : Int32 := if kd S b = k then p_least (p_left S k n b) (S 1 b 4) else nI 0
def p_mvd (S : b_St) (k : Nat) (n : Int32) (i : Nat) : Nat → Int32 := fun b => if b < i then p_mv S k n b else nI 0
def s_sort (S : b_St) (k : Nat) (n : Int32) : b_St := s_mv S (p_mvd S k n (nb S))
theorem s_mv_0 (S : b_St) (k : Nat) (n : Int32) : s_mv S (p_mvd S k n 0) = S := by
  funext K I J
  unfold s_mv p_mvd
  split
  · rename_i h
    obtain ⟨rfl, rfl⟩ := h
    rw [if_neg (Nat.not_lt_zero _)]
    show S 1 I 4 - 0 = _
    rw [Int32.sub_zero]
  · split
    · rename_i h
      obtain ⟨rfl, rfl⟩ := h
      rw [if_neg (Nat.not_lt_zero _)]
      show S 1 I 1 + 0 = _
      rw [Int32.add_zero]
    · rfl
theorem kd_mv (S : b_St) (d : Nat → Int32) (i : Nat) : kd (s_mv S d) i = kd S i := by simp [s_mv, kd]
theorem nb_mv (S : b_St) (d : Nat → Int32) : nb (s_mv S d) = nb S := by simp [s_mv, nb]
theorem mv_4 (S : b_St) (k : Nat) (n : Int32) (i : Nat) : s_mv S (p_mvd S k n i) 1 i 4 = S 1 i 4 := by
  unfold s_mv p_mvd
  rw [if_pos ⟨rfl, rfl⟩, if_neg (Nat.lt_irrefl _)]
  show S 1 i 4 - 0 = _
  rw [Int32.sub_zero]
theorem b_WF.mv {S : b_St} (h : b_WF S) (d : Nat → Int32) : b_WF (s_mv S d) := by
  have e0 : ∀ j, s_mv S d 0 0 j = S 0 0 j := fun j => by simp [s_mv]
  have e3 : ∀ b, s_mv S d 1 b 0 = S 1 b 0 := fun b => by simp [s_mv]
  unfold b_WF nb ns kd
  simp only [e0, e3]
  exact h
theorem s_mv_s (S : b_St) (k : Nat) (n : Int32) (i : Nat) : u3 (u3 (s_mv S (p_mvd S k n i)) 1 i 4 (s_mv S (p_mvd S k n i) 1 i 4 - p_mv S k n i)) 1 i 1 (s_mv S (p_mvd S k n i) 1 i 1 + p_mv S k n i) = s_mv S (p_mvd S k n (i + 1)) := by
  have e4 := mv_4 S k n i
  have e1 : s_mv S (p_mvd S k n i) 1 i 1 = S 1 i 1 := by
    unfold s_mv p_mvd
    rw [if_neg (by omega), if_pos ⟨rfl, rfl⟩, if_neg (Nat.lt_irrefl _)]
    show S 1 i 1 + 0 = _
    rw [Int32.add_zero]
  rw [e4, e1]
  funext K I J
  unfold u3 s_mv p_mvd
  by_cases h1 : K = 1 ∧ J = 1 ∧ I = i
  · obtain ⟨rfl, rfl, rfl⟩ := h1
    simp
  · rw [if_neg h1]
    by_cases h2 : K = 1 ∧ J = 4 ∧ I = i
    · obtain ⟨rfl, rfl, rfl⟩ := h2
      simp
    · rw [if_neg h2]
      by_cases h3 : K = 1 ∧ J = 4
      · rw [if_pos h3, if_pos h3]
        have hi : ¬ I = i := fun q => h2 ⟨h3.1, h3.2, q⟩
        by_cases h5 : I < i
        · rw [if_pos h5, if_pos (by omega)]
        · rw [if_neg h5, if_neg (by omega)]
      · rw [if_neg h3, if_neg h3]
        by_cases h4 : K = 1 ∧ J = 1
        · rw [if_pos h4, if_pos h4]
          have hi : ¬ I = i := fun q => h1 ⟨h4.1, h4.2, q⟩
          by_cases h5 : I < i
          · rw [if_pos h5, if_pos (by omega)]
          · rw [if_neg h5, if_neg (by omega)]
        · rw [if_neg h4, if_neg h4]
def o_sort (z : b_Z) (k n : Int32) : b_Rs := if rg 0 2 k ∧ rg 1 5000 n then (if p_yard z.1 (ix k) < n then f_no 2 z else f_ok (p_yard (s_sort z.1 (ix k) n) (ix k)) (z_save z (s_sort z.1 (ix k) n))) else f_no 1 z
def s_swap (S : b_St) (x y : Nat) (c : Int32) : b_St := u3 (u3 (u3 (u3 (u3 S 1 x 1 (S 1 x 1 - c)) 1 y 1 (S 1 y 1 + c)) 1 x 9 (S 1 x 9 + c)) 1 y 9 (S 1 y 9 - c)) 3 x y (S 3 x y + c)
def o_swap (z : b_Z) (x y c : Int32) : b_Rs := if isB z.1 x ∧ isB z.1 y then (if ¬ ix x = ix y ∧ kd z.1 (ix x) = kd z.1 (ix y) ∧ rg 1 5000 c then (if z.1 1 (ix x) 1 < c then f_no 3 z else f_ok (z.1 3 (ix x) (ix y) + c - z.1 3 (ix y) (ix x)) (z_save z (s_swap z.1 (ix x) (ix y) c))) else f_no 2 z) else f_no 1 z
def q_row (z : b_Z) : List (Nat × Nat × Nat × Nat) × Nat × Nat := q_all z.2.2.2.2 z.2.2.2.1 (z.2.2.2.1 + 1) 0
def r_all (z : b_Z) : Nat × b_St := r_run (u3 z.1 0 0 6 (nI 0)) (q_row z).1 0
def o_run (z : b_Z) : b_Rs := if (q_row z).2.1 < z.2.2.2.1 ∨ (q_row z).2.2 = 0 then f_no 1 z else f_ok (nI (r_all z).1) ((r_all z).2, p_sn z.2.1, p_L z.2.2.1 z.1 z.2.1, 0, z.2.2.2.2)
/-! the hash -/
def p_mx (h : Int64) (f : Nat → Int32) : Nat → Int64
  | 0 => h
  | n + 1 => 31 * p_mx h f n + (f n).toInt64
def p_mb (h : Int64) (S : b_St) : Nat → Int64
  | 0 => h
  | b + 1 => p_mx (31 * p_mx (p_mb h S b) (p_about S b) 12 + (p_full S b (nI 25)).toInt64) (fun s => nI (p_dl S b s 50 0)) (ns S)
def p_mk (h : Int64) (f : Nat → Int32) : Nat → Int64
  | 0 => h
  | k + 1 => if k < 7 ∨ (k % 10 < 8 ∧ 9 < k) then 31 * p_mk h f k + (f k).toInt64 else p_mk h f k
def p_ms (h : Int64) (S : b_St) : Nat → Int64
  | 0 => h
  | s + 1 => p_mk (p_ms h S s) (p_shop S s) 28
def p_mw (h : Int64) (S : b_St) : Nat → Int64
  | 0 => h
  | s + 1 => p_mx (p_mw h S s) (fun b => p_would S s b 1) (nb S)
def p_d1 (S : b_St) (n : Nat) : Int64 := p_mx 2411 (p_number S n) 11
def p_d2 (S : b_St) (n : Nat) : Int64 := p_mx (p_d1 S n) (fun j => S 0 0 (7 + j)) 6
def p_d3 (S : b_St) (n : Nat) : Int64 := p_mb (p_d2 S n) S (nb S)
def p_d4 (S : b_St) (n : Nat) : Int64 := p_ms (p_d3 S n) S (ns S)
def p_d5 (S : b_St) (n : Nat) : Int64 := p_mx (p_d4 S n) (fun q => p_shopFor S q) 3
def p_d6 (S : b_St) (n : Nat) : Int64 := p_mw (p_d5 S n) S (ns S)
def p_d8 (S : b_St) (n tn : Nat) : Int64 := 31 * (31 * p_d6 S n + (p_share S).toInt64) + (nI tn).toInt64
def p_dig (S : b_St) (n tn : Nat) (t : Nat → Nat) : Int64 := p_mx (p_d8 S n tn) (fun j => nI (t j)) tn
set_option maxHeartbeats 2000000 in
set_option maxRecDepth 100000 in
theorem m_J22_isNaN (l : Launch) {G : b_G} {B0 : Nat} {H : Heap} {x : UInt64} (hnn : p_nn x) : Met l yJ22_isNaN (ws_ yJ22_isNaN cJ22_isNaN 2 (Option.some Jvm.ClassFile.FieldType.boolean)) ({ frames := 0, cells := 0, slots := 0, locals := 0 } : Room) (b_Pc G B0 H [.double x]) (b_Qi B0 (fun r H1 => r = nI 0 ∧ H1 = H)) 0 0 (b_A B0) := by
  refine b_of (by decide) (Nat.le_of_ble_eq_true rfl) ?_
  intro p e s m below meth c CX hr hlk hnm hS ls hl
  have CX : b_Cx p s m _ c cJ22_isNaN 2 RJ22 G B0 := CX
  have hx := CX.hx
  have hb := CX.hb
  have hl : lv_has ls 2 [(0, .double x)] := hl
  generalize hQ : MQ below (b_Qi B0 (fun r H1 => r = nI 0 ∧ H1 = H)) ([.double x] : List Value).toArray s 0 0 (b_A B0) = Q
  refine lv_dload_n hx hb dJ22_isNaN_0 rfl (lv_at hl 0 rfl) ?_
  refine lv_dload_n hx hb dJ22_isNaN_1 rfl (lv_at hl 0 rfl) ?_
  refine lv_dcmp hx hb dJ22_isNaN_2 ?_
  refine b_top (x := Op.cmpValue (FP.dcmp x x) .l) (y := nI 0) (hnn) ?_
  refine lv_if_eq (tgt := 10) hx hb dJ22_isNaN_3 (by decide) (fun c_3 => ?_) (fun c_3 => ?_)
  · refine lv_iconst (v := nI 0) hx hb dJ22_isNaN_10 rfl ?_
    rw [← hQ]
    exact b_zret CX hr hlk hS (Nat.le_of_ble_eq_true rfl) (Nat.le_of_ble_eq_true rfl) rfl dJ22_isNaN_11 (⟨rfl, rfl⟩)
  · exact absurd c_3 (by decide)
theorem cs_J22_122 {p : Program} {l : Launch} {e : Env} {R : Room} {s : State} {m : MethodId} {args : Array Value} {below : List Frame} {meth : Method} {c : Code} {H : Heap} {locs : List Loc} {cells slots : Nat} {cc : ByteArray} {pc nL : Nat} {ls : Array Slot} {rest : List Value} {G : b_G} {B0 : Nat} (CX : b_Cx p s m args c cc nL RJ22 G B0) (hls : ls.size = nL) {rm : Room} {mc ms : Nat} {As st0 : List Value} {Qc : Array Value → State → Outcome → State → Prop} (hM : Met l yJ22_isNaN (ws_ yJ22_isNaN cJ22_isNaN 2 (Option.some Jvm.ClassFile.FieldType.boolean)) rm (b_Pc G B0 H As) Qc mc ms (b_A B0)) (hn : As.length = 1) (hS : va_S (b_A B0) s.heap H locs) (hst : st0 = As.reverse ++ rest) (hr : rm.cells = mc ∧ rm.slots = ms ∧ rm.frames + 1 ≤ R.frames ∧ 8 + (2 + 11) + rm.locals ≤ R.locals) (hw : (rest.map fun v => v.category).sum ≤ 8) (hdg : decode cc pc = .ok (.invokestatic 122, 3)) (hf : cells + mc ≤ R.cells ∧ slots + ms ≤ R.slots) : va_Run p l e R s m args below meth c H locs cells slots mc ms (F0 m pc ls st0) rest (Qc As.toArray) (b_A B0) := va_runS CX.fix hM (va_cwS 1 CX.ts (lw_S q910 q911 q125 q912) rfl hr.1 hr.2.1 (by decide +kernel) ⟨hr.2.2.1, hr.2.2.2⟩) ⟨b_blind G B0 H _, b_pre _ CX.K hS⟩ rfl hn hls hst (lv_room hw) hdg hf
set_option maxHeartbeats 2000000 in
set_option maxRecDepth 100000 in
theorem m_J22_doubleToLongBits (l : Launch) {G : b_G} {B0 : Nat} {H : Heap} {x : UInt64} (hnn : p_nn x) : Met l yJ22_doubleToLongBits (ws_ yJ22_doubleToLongBits cJ22_doubleToLongBits 2 (Option.some Jvm.ClassFile.FieldType.long)) ({ frames := 1, cells := 0, slots := 0, locals := 23 } : Room) (b_Pc G B0 H [.double x]) (b_Ql B0 (fun r H1 => r = x.toInt64 ∧ H1 = H)) 0 0 (b_A B0) := by
  refine b_of (by decide) (Nat.le_of_ble_eq_true rfl) ?_
  intro p e s m below meth c CX hr hlk hnm hS ls hl
  have CX : b_Cx p s m _ c cJ22_doubleToLongBits 2 RJ22 G B0 := CX
  have hx := CX.hx
  have hb := CX.hb
  have hl : lv_has ls 2 [(0, .double x)] := hl
  generalize hQ : MQ below (b_Ql B0 (fun r H1 => r = x.toInt64 ∧ H1 = H)) ([.double x] : List Value).toArray s 0 0 (b_A B0) = Q
  refine lv_dload_n hx hb dJ22_doubleToLongBits_0 rfl (lv_at hl 0 rfl) ?_
  refine b_ci0 (cs_J22_122 (rest := []) CX hl.1 (m_J22_isNaN l (x := x)  hnn) rfl hS rfl ⟨rfl, rfl, Nat.le_of_ble_eq_true rfl, Nat.le_of_ble_eq_true rfl⟩ (Nat.le_of_ble_eq_true rfl) dJ22_doubleToLongBits_1 ⟨Nat.le_of_ble_eq_true rfl, Nat.le_of_ble_eq_true rfl⟩) hS (fun locs hS => ?_)
  refine lv_if_ne (tgt := 12) hx hb dJ22_doubleToLongBits_4 (by decide) (fun c_4 => ?_) (fun c_4 => ?_)
  · exact absurd c_4 (by decide)
  · refine lv_dload_n hx hb dJ22_doubleToLongBits_7 rfl (lv_at hl 0 rfl) ?_
    refine vn_d2l hx hb (by rw [CX.ml, hl.1]) CX.ow (CX.ts _ q913) (CX.ts _ q915) (CX.ts _ q914) (CX.ts _ q125) (Nat.le_of_ble_eq_true rfl) (Nat.le_of_ble_eq_true rfl) dJ22_doubleToLongBits_8 ?_
    rw [← hQ]
    exact b_lret CX hr hlk hS (Nat.le_of_ble_eq_true rfl) (Nat.le_of_ble_eq_true rfl) dJ22_doubleToLongBits_11 (⟨rfl, rfl⟩)
theorem cs_X3_126 {p : Program} {l : Launch} {e : Env} {R : Room} {s : State} {m : MethodId} {args : Array Value} {below : List Frame} {meth : Method} {c : Code} {H : Heap} {locs : List Loc} {cells slots : Nat} {cc : ByteArray} {pc nL a : Nat} {ls : Array Slot} {rest : List Value} {G : b_G} {B0 : Nat} (CX : b_Cx p s m args c cc nL RX3 G B0) (hls : ls.size = nL) {rm : Room} {mc ms : Nat} {As st0 : List Value} {Qc : Array Value → State → Outcome → State → Prop} (hM : Met l yX3_yardOf (ws_ yX3_yardOf cX3_yardOf 4 (Option.some Jvm.ClassFile.FieldType.int)) rm (b_Pc G B0 H (.ref a :: As)) Qc mc ms (b_A B0)) (hn : As.length = 1) {fs : List Value} {ci : Nat} {qc : vw_C} (hc : b_cl[ci]? = some qc) (hq : qc.1 = RX3) (hP : b_at G a (.inr (ci, fs)) H) (hS : va_S (b_A B0) s.heap H locs) (hst : st0 = As.reverse ++ .ref a :: rest) (hr : rm.cells = mc ∧ rm.slots = ms ∧ rm.frames + 1 ≤ R.frames ∧ 8 + (4 + 11) + rm.locals ≤ R.locals) (hw : (rest.map fun v => v.category).sum ≤ 8) (hdg : decode cc pc = .ok (.invokevirtual 126, 3)) (hf : cells + mc ≤ R.cells ∧ slots + ms ≤ R.slots) : va_Run p l e R s m args below meth c H locs cells slots mc ms (F0 m pc ls st0) rest (Qc (Value.ref a :: As).toArray) (b_A B0) := va_runV CX.fix hM (cwV 1 CX.ts (lw_V q2056 q2058 qs61 q88 q2059) rfl hr.1 hr.2.1 (by decide +kernel) ⟨hr.2.2.1, hr.2.2.2⟩) ⟨b_blind G B0 H _, by have h9 := b_recv CX.K hc hP; rw [hq] at h9; exact h9, b_pre _ CX.K hS⟩ rfl hn hls hst (lv_room hw) hdg hf
set_option maxHeartbeats 2000000 in
set_option maxRecDepth 100000 in
theorem m_X3_sort (l : Launch) {G : b_G} {B0 : Nat} {o : Nat → Nat} {Hr H : Heap} {S : b_St} {sp sv : Nat → Int32} {L : Nat → b_St} {t : Nat → Nat} {n tn : Nat} {th pl iw lt on ot nu di : Int32} {k : Int32} {b : Int32} (hM : MW G B0 o Hr H (enc S) sp sv (fun j => nI (t j)) (nI n) (nI tn) th pl iw lt on ot nu di) (hW : b_WF S) (hn : n ≤ 6) (ht : ∀ j, t j < 128) (htn : tn ≤ 60) (hSv : b_Sv sv n L) : Met l yX3_sort (ws_ yX3_sort cX3_sort 6 (Option.some Jvm.ClassFile.FieldType.int)) ({ frames := 3, cells := 0, slots := 0, locals := 66 } : Room) (b_Pc G B0 H [.ref (o 0), .int k, .int b]) (b_Qi B0 (fun r H1 => r = (o_sort (S, n, L, tn, t) k b).2.1 ∧ MZ G B0 o H H1 (o_sort (S, n, L, tn, t) k b).1 (o_sort (S, n, L, tn, t) k b).2.2)) 0 0 (b_A B0) := by
  refine b_of (by decide) (Nat.le_of_ble_eq_true rfl) ?_
  intro p e s m below meth c CX hr hlk hnm hS ls hl
  have CX : b_Cx p s m _ c cX3_sort 6 RX3 G B0 := CX
  have hx := CX.hx
  have hb := CX.hb
  have hl : lv_has ls 6 [(0, .ref (o 0)), (1, .int k), (2, .int b)] := hl
  generalize hQ : MQ below (b_Qi B0 (fun r H1 => r = (o_sort (S, n, L, tn, t) k b).2.1 ∧ MZ G B0 o H H1 (o_sort (S, n, L, tn, t) k b).1 (o_sort (S, n, L, tn, t) k b).2.2)) ([.ref (o 0), .int k, .int b] : List Value).toArray s 0 0 (b_A B0) = Q
  have hM := hM.re
  have hn8 := hW.nb8
  have hn6 := hW.ns6
  refine lv_aload_n hx hb dX3_sort_0 rfl (lv_at hl 0 rfl) ?_
  refine lv_iconst (v := nI 0) hx hb dX3_sort_1 rfl ?_
  refine pf_X3_28_8 CX hM.o0 hS (hM.B (by decide)) rfl rfl (Nat.le_of_ble_eq_true rfl) dX3_sort_2 (fun H1 locs hat hu hS => ?_)
  have hM : MW G B0 o H H1 (enc S) sp sv (fun j => nI (t j)) (nI n) (nI tn) (nI 0) pl iw lt on ot nu di := hM.set0 hat hu
  refine lv_iload_n hx hb dX3_sort_5 rfl (lv_at hl 1 rfl) ?_
  refine lv_iconst (v := nI 0) hx hb dX3_sort_6 rfl ?_
  refine lv_iconst (v := nI 2) hx hb dX3_sort_7 rfl ?_
  refine b_ci0 (cs_X3_35 (rest := []) CX hl.1 (m_X3_in l (x := k) (lo := nI 0) (hi := nI 2)  ) rfl hS rfl ⟨rfl, rfl, Nat.le_of_ble_eq_true rfl, Nat.le_of_ble_eq_true rfl⟩ (Nat.le_of_ble_eq_true rfl) dX3_sort_8 ⟨Nat.le_of_ble_eq_true rfl, Nat.le_of_ble_eq_true rfl⟩) hS (fun locs hS => ?_)
  refine b_ifeq (tgt := 25) CX dX3_sort_11 (by decide) (fun c_11 => ?_) (fun c_11 => ?_)
  · refine lv_aload_n hx hb dX3_sort_25 rfl (lv_at hl 0 rfl) ?_
    refine lv_iconst (v := nI 1) hx hb dX3_sort_26 rfl ?_
    refine b_ci (cs_X3_49 (rest := []) CX hl.1 (m_X3_fails l (code := nI 1) hM ) rfl rfl rfl hM.o0 hS rfl ⟨rfl, rfl, Nat.le_of_ble_eq_true rfl, Nat.le_of_ble_eq_true rfl⟩ (Nat.le_of_ble_eq_true rfl) dX3_sort_27 ⟨Nat.le_of_ble_eq_true rfl, Nat.le_of_ble_eq_true rfl⟩) hS (fun r H2 locs hp hS => ?_)
    obtain ⟨rfl, hM9⟩ := hp
    have hM : MW G B0 o H H2 (enc S) sp sv (fun j => nI (t j)) (nI n) (nI tn) (nI 1) pl iw lt on ot nu di := hM.tr hM9
    have ho : o_sort (S, n, L, tn, t) k b = (nI 1, nI 0, (S, n, L, tn, t)) := by
      unfold o_sort
      repeat (first | rw [if_pos (by first | assumption | exact ⟨by assumption, by assumption⟩ | (constructor <;> omega) | omega | exact fun q => absurd q (by assumption) | exact fun q => absurd q.1 (by assumption) | exact fun q => absurd q.2 (by assumption) | exact Int32.not_lt.mpr (by assumption) | exact Int32.not_le.mp (by assumption) | exact fun q => q.2 (by assumption) | exact fun q => absurd q.1 (by omega))] | rw [if_neg (by first | assumption | exact ⟨by assumption, by assumption⟩ | (constructor <;> omega) | omega | exact fun q => absurd q (by assumption) | exact fun q => absurd q.1 (by assumption) | exact fun q => absurd q.2 (by assumption) | exact Int32.not_lt.mpr (by assumption) | exact Int32.not_le.mp (by assumption) | exact fun q => q.2 (by assumption) | exact fun q => absurd q.1 (by omega))])
      first | rfl | (unfold f_ok f_no z_save;  rfl)
    rw [← hQ]
    exact b_iret CX hr hlk hS (Nat.le_of_ble_eq_true rfl) (Nat.le_of_ble_eq_true rfl) dX3_sort_30 ((by rw [ho]; exact ⟨rfl, _, _, _, _, _, _, _, _, _, hM, hSv⟩))
  · refine lv_iload_n hx hb dX3_sort_14 rfl (lv_at hl 2 rfl) ?_
    refine lv_iconst (v := nI 1) hx hb dX3_sort_15 rfl ?_
    refine lv_sipush (v := nI 5000) hx hb dX3_sort_16 rfl ?_
    refine b_ci0 (cs_X3_35 (rest := []) CX hl.1 (m_X3_in l (x := b) (lo := nI 1) (hi := nI 5000)  ) rfl hS rfl ⟨rfl, rfl, Nat.le_of_ble_eq_true rfl, Nat.le_of_ble_eq_true rfl⟩ (Nat.le_of_ble_eq_true rfl) dX3_sort_19 ⟨Nat.le_of_ble_eq_true rfl, Nat.le_of_ble_eq_true rfl⟩) hS (fun locs hS => ?_)
    refine b_ifne (tgt := 31) CX dX3_sort_22 (by decide) (fun c_22 => ?_) (fun c_22 => ?_)
    · obtain ⟨jk, hjka, hjkb, rfl⟩ := p_rg (by decide) c_11 (by decide)
      have ejk : ix (nI jk) = jk := ix_n (by omega)
      refine lv_aload_n hx hb dX3_sort_31 rfl (lv_at hl 0 rfl) ?_
      refine lv_iload_n hx hb dX3_sort_32 rfl (lv_at hl 1 rfl) ?_
      refine b_ci0 (cs_X3_126 (rest := []) CX hl.1 (m_X3_yardOf l (k := jk) hM hW (by omega)) rfl rfl rfl hM.o0 hS rfl ⟨rfl, rfl, Nat.le_of_ble_eq_true rfl, Nat.le_of_ble_eq_true rfl⟩ (Nat.le_of_ble_eq_true rfl) dX3_sort_33 ⟨Nat.le_of_ble_eq_true rfl, Nat.le_of_ble_eq_true rfl⟩) hS (fun locs hS => ?_)
      refine lv_iload_n hx hb dX3_sort_36 rfl (lv_at hl 2 rfl) ?_
      refine lv_icmp_ge (tgt := 46) hx hb dX3_sort_37 (by decide) (fun c_37 => ?_) (fun c_37 => ?_)
      · refine lv_aload_n hx hb dX3_sort_46 rfl (lv_at hl 0 rfl) ?_
        refine b_cv (cs_X3_53 (rest := []) CX hl.1 (m_X3_save l  hM hn) rfl rfl rfl hM.o0 hS rfl ⟨rfl, rfl, Nat.le_of_ble_eq_true rfl, Nat.le_of_ble_eq_true rfl⟩ (Nat.le_of_ble_eq_true rfl) dX3_sort_47 ⟨Nat.le_of_ble_eq_true rfl, Nat.le_of_ble_eq_true rfl⟩) hS (fun H3 locs hp hS => ?_)
        have hM9 := hp
        have hM : MW G B0 o H H3 (enc S) sp (p_sv sv (enc S) n) (fun j => nI (t j)) (nI (p_sn n)) (nI tn) (nI 0) pl iw lt on ot nu di := hM.tr hM9
        refine lv_iload_n hx hb dX3_sort_50 rfl (lv_at hl 2 rfl) ?_
        refine lv_istore_n (lv' := [(3, .int b), (0, .ref (o 0)), (1, .int (nI jk)), (2, .int b)]) hx hb dX3_sort_51 rfl hl (Nat.le_of_ble_eq_true rfl) rfl (fun ls hl => ?_)
        refine lv_iconst (v := nI 0) hx hb dX3_sort_52 rfl ?_
        refine lv_istore (lv' := [(4, .int (nI 0)), (3, .int b), (0, .ref (o 0)), (1, .int (nI jk)), (2, .int b)]) hx hb dX3_sort_53 hl (Nat.le_of_ble_eq_true rfl) rfl (fun ls hl => ?_)
        have hM : MW G B0 o H H3 (enc ((s_mv S (p_mvd S jk b 0)))) sp (p_sv sv (enc S) n) (fun j => nI (t j)) (nI (p_sn n)) (nI tn) (nI 0) pl iw lt on ot nu di := by rw [s_mv_0]; exact hM
        have lp55_4 : ∀ (n_ : Nat) (i : Nat), i ≤ nb S → nb S - i < n_ → ∀ (H5 : Heap), MW G B0 o H H5 (enc ((s_mv S (p_mvd S jk b i)))) sp (p_sv sv (enc S) n) (fun j => nI (t j)) (nI (p_sn n)) (nI tn) (nI 0) pl iw lt on ot nu di → ∀ (locs : List Loc), va_S (b_A B0) s.heap H5 locs → ∀ ls : Array Slot, lv_has ls 6 [(4, .int (nI i)), (3, .int (p_left S jk b i)), (0, .ref (o 0)), (1, .int (nI jk)), (2, .int b)] → W p l e ({ frames := 3, cells := 0, slots := 0, locals := 66 } : Room) s m ([.ref (o 0), .int (nI jk), .int b] : List Value).toArray below meth c H5 locs 0 0 Q (F0 m 55 ls []) := by
          intro n_
          induction n_ with
          | zero => intro i hi hlt H5 hM locs hS ls hl; exact absurd hlt (Nat.not_lt_zero _)
          | succ n_ ih55 =>
            intro i hi hlt H5 hM locs hS ls hl
            refine lv_iload hx hb dX3_sort_55 (lv_at hl 0 rfl) ?_
            refine lv_aload_n hx hb dX3_sort_57 rfl (lv_at hl 2 rfl) ?_
            refine gf_X3_7_8 CX hM.o0 rfl dX3_sort_58 ?_
            refine lv_iconst (v := nI 0) hx hb dX3_sort_61 rfl ?_
            refine b_ild CX hM.o1 (x := nI (nb ((s_mv S (p_mvd S jk b i))))) (vp_in_nI (by omega) (by omega)) (b_at_nI (by omega) (((enc_0 _ (by decide))).trans hW.nbE)) dX3_sort_62 ?_
            refine b_top (x := nI (nb ((s_mv S (p_mvd S jk b i))))) (y := nI (nb S)) (by rw [nb_mv]) ?_
            refine b_icmp_geN (tgt := 137) CX (by omega) (by omega) dX3_sort_63 (by decide) (fun c_63 => ?_) (fun c_63 => ?_)
            · obtain rfl : i = nb S := by omega
              refine lv_aload_n hx hb dX3_sort_137 rfl (lv_at hl 2 rfl) ?_
              refine lv_iload_n hx hb dX3_sort_138 rfl (lv_at hl 3 rfl) ?_
              refine b_ci0 (cs_X3_126 (rest := []) CX hl.1 (m_X3_yardOf l (k := jk) hM (hW.mv _) (by omega)) rfl rfl rfl hM.o0 hS rfl ⟨rfl, rfl, Nat.le_of_ble_eq_true rfl, Nat.le_of_ble_eq_true rfl⟩ (Nat.le_of_ble_eq_true rfl) dX3_sort_139 ⟨Nat.le_of_ble_eq_true rfl, Nat.le_of_ble_eq_true rfl⟩) hS (fun locs hS => ?_)
              have ho : o_sort (S, n, L, tn, t) (nI jk) b = (nI 0, p_yard ((s_mv S (p_mvd S jk b (nb S)))) jk, ((s_mv S (p_mvd S jk b (nb S))), p_sn n, (p_L L S n), tn, t)) := by
                unfold o_sort
                simp only [ejk]
                repeat (first | rw [if_pos (by first | assumption | exact ⟨by assumption, by assumption⟩ | (constructor <;> omega) | omega | exact fun q => absurd q (by assumption) | exact fun q => absurd q.1 (by assumption) | exact fun q => absurd q.2 (by assumption) | exact Int32.not_lt.mpr (by assumption) | exact Int32.not_le.mp (by assumption) | exact fun q => q.2 (by assumption) | exact fun q => absurd q.1 (by omega))] | rw [if_neg (by first | assumption | exact ⟨by assumption, by assumption⟩ | (constructor <;> omega) | omega | exact fun q => absurd q (by assumption) | exact fun q => absurd q.1 (by assumption) | exact fun q => absurd q.2 (by assumption) | exact Int32.not_lt.mpr (by assumption) | exact Int32.not_le.mp (by assumption) | exact fun q => q.2 (by assumption) | exact fun q => absurd q.1 (by omega))])
                first | rfl | (unfold f_ok f_no z_save;  rfl)
              rw [← hQ]
              exact b_iret CX hr hlk hS (Nat.le_of_ble_eq_true rfl) (Nat.le_of_ble_eq_true rfl) dX3_sort_142 ((by rw [ho]; exact ⟨rfl, _, _, _, _, _, _, _, _, _, hM, (hSv.save hn _)⟩))
            · have hkd := hW.kd3 (b := i) (by omega)
              refine lv_aload_n hx hb dX3_sort_66 rfl (lv_at hl 2 rfl) ?_
              refine lv_iload hx hb dX3_sort_67 (lv_at hl 0 rfl) ?_
              refine lv_iconst (v := nI 0) hx hb dX3_sort_69 rfl ?_
              refine b_ci0 (cs_X3_46 (rest := []) CX hl.1 (m_X3_of l (b := i) (w := 0) hM (by omega) (by omega)) rfl rfl rfl hM.o0 hS rfl ⟨rfl, rfl, Nat.le_of_ble_eq_true rfl, Nat.le_of_ble_eq_true rfl⟩ (Nat.le_of_ble_eq_true rfl) dX3_sort_70 ⟨Nat.le_of_ble_eq_true rfl, Nat.le_of_ble_eq_true rfl⟩) hS (fun locs hS => ?_)
              refine b_top (x := ((s_mv S (p_mvd S jk b i))) 1 i 0) (y := nI (kd S i)) (by rw [(hW.mv _).kdE (by omega), kd_mv]) ?_
              refine lv_iload_n hx hb dX3_sort_73 rfl (lv_at hl 3 rfl) ?_
              refine b_icmp_neN (tgt := 91) CX (by omega) (by omega) dX3_sort_74 (by decide) (fun c_74 => ?_) (fun c_74 => ?_)
              · refine lv_iconst (v := nI 0) hx hb dX3_sort_91 rfl ?_
                refine b_top (x := nI 0) (y := p_mv S jk b i) (by unfold p_mv; first | (rw [if_pos c_74, mv_4]) | (rw [if_neg c_74])) ?_
                refine lv_istore (lv' := [(5, .int (p_mv S jk b i)), (4, .int (nI i)), (3, .int (p_left S jk b i)), (0, .ref (o 0)), (1, .int (nI jk)), (2, .int b)]) hx hb dX3_sort_92 hl (Nat.le_of_ble_eq_true rfl) rfl (fun ls hl => ?_)
                refine lv_aload_n hx hb dX3_sort_94 rfl (lv_at hl 3 rfl) ?_
                refine gf_X3_7_8 CX hM.o0 rfl dX3_sort_95 ?_
                refine lv_iload hx hb dX3_sort_98 (lv_at hl 1 rfl) ?_
                refine lv_iconst (v := nI 4) hx hb dX3_sort_100 rfl ?_
                refine b_ci0 (cs_X3_39 (rest := [.ref (o 1)]) CX hl.1 (m_X3_brandAt l (b := i) (w := 4)  ) rfl hS rfl ⟨rfl, rfl, Nat.le_of_ble_eq_true rfl, Nat.le_of_ble_eq_true rfl⟩ (Nat.le_of_ble_eq_true rfl) dX3_sort_101 ⟨Nat.le_of_ble_eq_true rfl, Nat.le_of_ble_eq_true rfl⟩) hS (fun locs hS => ?_)
                refine lv_dup2_11 hx hb dX3_sort_104 rfl rfl ?_
                refine b_ild CX hM.o1 (x := (s_mv S (p_mvd S jk b i)) 1 i 4) (vp_in_nI (by omega) (by omega)) (b_at_nI (by omega) ((enc_1 _ (by omega) (by omega)))) dX3_sort_105 ?_
                refine lv_iload hx hb dX3_sort_106 (lv_at hl 0 rfl) ?_
                refine lv_isub hx hb dX3_sort_108 ?_
                refine b_ist CX hM.o1 hS (hM.B (by decide)) (vp_in_nI (by omega) (by omega)) dX3_sort_109 (fun H6 locs hat hu hS => ?_)
                have hM : MW G B0 o H H6 (enc ((u3 (s_mv S (p_mvd S jk b i)) 1 i 4 (((s_mv S (p_mvd S jk b i)) 1 i 4) - (p_mv S jk b i))))) sp (p_sv sv (enc S) n) (fun j => nI (t j)) (nI (p_sn n)) (nI tn) (nI 0) pl iw lt on ot nu di := hM.set1 (b_up_nI (by omega) (enc_u1 _ (by omega) (by omega) _)) hat hu
                refine lv_aload_n hx hb dX3_sort_110 rfl (lv_at hl 3 rfl) ?_
                refine gf_X3_7_8 CX hM.o0 rfl dX3_sort_111 ?_
                refine lv_iload hx hb dX3_sort_114 (lv_at hl 1 rfl) ?_
                refine lv_iconst (v := nI 1) hx hb dX3_sort_116 rfl ?_
                refine b_ci0 (cs_X3_39 (rest := [.ref (o 1)]) CX hl.1 (m_X3_brandAt l (b := i) (w := 1)  ) rfl hS rfl ⟨rfl, rfl, Nat.le_of_ble_eq_true rfl, Nat.le_of_ble_eq_true rfl⟩ (Nat.le_of_ble_eq_true rfl) dX3_sort_117 ⟨Nat.le_of_ble_eq_true rfl, Nat.le_of_ble_eq_true rfl⟩) hS (fun locs hS => ?_)
                refine lv_dup2_11 hx hb dX3_sort_120 rfl rfl ?_
                refine b_ild CX hM.o1 (x := (s_mv S (p_mvd S jk b i)) 1 i 1) (vp_in_nI (by omega) (by omega)) (b_at_nI (by omega) ((enc_1 _ (by omega) (by omega)).trans (by simp [u3]))) dX3_sort_121 ?_
                refine lv_iload hx hb dX3_sort_122 (lv_at hl 0 rfl) ?_
                refine lv_iadd hx hb dX3_sort_124 ?_
                refine b_ist CX hM.o1 hS (hM.B (by decide)) (vp_in_nI (by omega) (by omega)) dX3_sort_125 (fun H7 locs hat hu hS => ?_)
                have hM : MW G B0 o H H7 (enc ((u3 (u3 (s_mv S (p_mvd S jk b i)) 1 i 4 (((s_mv S (p_mvd S jk b i)) 1 i 4) - (p_mv S jk b i))) 1 i 1 (((s_mv S (p_mvd S jk b i)) 1 i 1) + (p_mv S jk b i))))) sp (p_sv sv (enc S) n) (fun j => nI (t j)) (nI (p_sn n)) (nI tn) (nI 0) pl iw lt on ot nu di := hM.set1 (b_up_nI (by omega) (enc_u1 _ (by omega) (by omega) _)) hat hu
                refine lv_iload_n hx hb dX3_sort_126 rfl (lv_at hl 2 rfl) ?_
                refine lv_iload hx hb dX3_sort_127 (lv_at hl 0 rfl) ?_
                refine lv_isub hx hb dX3_sort_129 ?_
                refine lv_istore_n (lv' := [(3, .int ((p_left S jk b i) - (p_mv S jk b i))), (5, .int (p_mv S jk b i)), (4, .int (nI i)), (0, .ref (o 0)), (1, .int (nI jk)), (2, .int b)]) hx hb dX3_sort_130 rfl hl (Nat.le_of_ble_eq_true rfl) rfl (fun ls hl => ?_)
                refine lv_iinc (v := nI (i + 1)) (lv' := [(4, .int (nI (i + 1))), (3, .int ((p_left S jk b i) - (p_mv S jk b i))), (5, .int (p_mv S jk b i)), (0, .ref (o 0)), (1, .int (nI jk)), (2, .int b)]) hx hb dX3_sort_131 hl (k := 2) rfl (nI_1 _) (Nat.le_of_ble_eq_true rfl) rfl (fun ls hl => ?_)
                refine lv_goto (tgt := 55) hx hb dX3_sort_134 (by decide) ?_
                have hM : MW G B0 o H H7 (enc ((s_mv S (p_mvd S jk b (i + 1))))) sp (p_sv sv (enc S) n) (fun j => nI (t j)) (nI (p_sn n)) (nI tn) (nI 0) pl iw lt on ot nu di := by rw [← s_mv_s]; exact hM
                exact ih55 (i + 1) (by omega) (by omega) H7 hM _ hS ls (lv_sub hl [0, 1, 3, 4, 5] rfl)
              · refine lv_iload_n hx hb dX3_sort_77 rfl (lv_at hl 1 rfl) ?_
                refine lv_aload_n hx hb dX3_sort_78 rfl (lv_at hl 2 rfl) ?_
                refine lv_iload hx hb dX3_sort_79 (lv_at hl 0 rfl) ?_
                refine lv_iconst (v := nI 4) hx hb dX3_sort_81 rfl ?_
                refine b_ci0 (cs_X3_46 (rest := [.int (p_left S jk b i)]) CX hl.1 (m_X3_of l (b := i) (w := 4) hM (by omega) (by omega)) rfl rfl rfl hM.o0 hS rfl ⟨rfl, rfl, Nat.le_of_ble_eq_true rfl, Nat.le_of_ble_eq_true rfl⟩ (Nat.le_of_ble_eq_true rfl) dX3_sort_82 ⟨Nat.le_of_ble_eq_true rfl, Nat.le_of_ble_eq_true rfl⟩) hS (fun locs hS => ?_)
                refine b_ci0 (cs_X3_76 (rest := []) CX hl.1 (m_X3_least l (x := p_left S jk b i) (y := ((s_mv S (p_mvd S jk b i))) 1 i 4)  ) rfl hS rfl ⟨rfl, rfl, Nat.le_of_ble_eq_true rfl, Nat.le_of_ble_eq_true rfl⟩ (Nat.le_of_ble_eq_true rfl) dX3_sort_85 ⟨Nat.le_of_ble_eq_true rfl, Nat.le_of_ble_eq_true rfl⟩) hS (fun locs hS => ?_)
                refine lv_goto (tgt := 92) hx hb dX3_sort_88 (by decide) ?_
                refine b_top (x := p_least (p_left S jk b i) (((s_mv S (p_mvd S jk b i))) 1 i 4)) (y := p_mv S jk b i) (by unfold p_mv; first | (rw [if_pos c_74, mv_4]) | (rw [if_neg c_74])) ?_
                refine lv_istore (lv' := [(5, .int (p_mv S jk b i)), (4, .int (nI i)), (3, .int (p_left S jk b i)), (0, .ref (o 0)), (1, .int (nI jk)), (2, .int b)]) hx hb dX3_sort_92 hl (Nat.le_of_ble_eq_true rfl) rfl (fun ls hl => ?_)
                refine lv_aload_n hx hb dX3_sort_94 rfl (lv_at hl 3 rfl) ?_
                refine gf_X3_7_8 CX hM.o0 rfl dX3_sort_95 ?_
                refine lv_iload hx hb dX3_sort_98 (lv_at hl 1 rfl) ?_
                refine lv_iconst (v := nI 4) hx hb dX3_sort_100 rfl ?_
                refine b_ci0 (cs_X3_39 (rest := [.ref (o 1)]) CX hl.1 (m_X3_brandAt l (b := i) (w := 4)  ) rfl hS rfl ⟨rfl, rfl, Nat.le_of_ble_eq_true rfl, Nat.le_of_ble_eq_true rfl⟩ (Nat.le_of_ble_eq_true rfl) dX3_sort_101 ⟨Nat.le_of_ble_eq_true rfl, Nat.le_of_ble_eq_true rfl⟩) hS (fun locs hS => ?_)
                refine lv_dup2_11 hx hb dX3_sort_104 rfl rfl ?_
                refine b_ild CX hM.o1 (x := (s_mv S (p_mvd S jk b i)) 1 i 4) (vp_in_nI (by omega) (by omega)) (b_at_nI (by omega) ((enc_1 _ (by omega) (by omega)))) dX3_sort_105 ?_
                refine lv_iload hx hb dX3_sort_106 (lv_at hl 0 rfl) ?_
                refine lv_isub hx hb dX3_sort_108 ?_
                refine b_ist CX hM.o1 hS (hM.B (by decide)) (vp_in_nI (by omega) (by omega)) dX3_sort_109 (fun H8 locs hat hu hS => ?_)
                have hM : MW G B0 o H H8 (enc ((u3 (s_mv S (p_mvd S jk b i)) 1 i 4 (((s_mv S (p_mvd S jk b i)) 1 i 4) - (p_mv S jk b i))))) sp (p_sv sv (enc S) n) (fun j => nI (t j)) (nI (p_sn n)) (nI tn) (nI 0) pl iw lt on ot nu di := hM.set1 (b_up_nI (by omega) (enc_u1 _ (by omega) (by omega) _)) hat hu
                refine lv_aload_n hx hb dX3_sort_110 rfl (lv_at hl 3 rfl) ?_
                refine gf_X3_7_8 CX hM.o0 rfl dX3_sort_111 ?_
                refine lv_iload hx hb dX3_sort_114 (lv_at hl 1 rfl) ?_
                refine lv_iconst (v := nI 1) hx hb dX3_sort_116 rfl ?_
                refine b_ci0 (cs_X3_39 (rest := [.ref (o 1)]) CX hl.1 (m_X3_brandAt l (b := i) (w := 1)  ) rfl hS rfl ⟨rfl, rfl, Nat.le_of_ble_eq_true rfl, Nat.le_of_ble_eq_true rfl⟩ (Nat.le_of_ble_eq_true rfl) dX3_sort_117 ⟨Nat.le_of_ble_eq_true rfl, Nat.le_of_ble_eq_true rfl⟩) hS (fun locs hS => ?_)
                refine lv_dup2_11 hx hb dX3_sort_120 rfl rfl ?_
                refine b_ild CX hM.o1 (x := (s_mv S (p_mvd S jk b i)) 1 i 1) (vp_in_nI (by omega) (by omega)) (b_at_nI (by omega) ((enc_1 _ (by omega) (by omega)).trans (by simp [u3]))) dX3_sort_121 ?_
                refine lv_iload hx hb dX3_sort_122 (lv_at hl 0 rfl) ?_
                refine lv_iadd hx hb dX3_sort_124 ?_
                refine b_ist CX hM.o1 hS (hM.B (by decide)) (vp_in_nI (by omega) (by omega)) dX3_sort_125 (fun H9 locs hat hu hS => ?_)
                have hM : MW G B0 o H H9 (enc ((u3 (u3 (s_mv S (p_mvd S jk b i)) 1 i 4 (((s_mv S (p_mvd S jk b i)) 1 i 4) - (p_mv S jk b i))) 1 i 1 (((s_mv S (p_mvd S jk b i)) 1 i 1) + (p_mv S jk b i))))) sp (p_sv sv (enc S) n) (fun j => nI (t j)) (nI (p_sn n)) (nI tn) (nI 0) pl iw lt on ot nu di := hM.set1 (b_up_nI (by omega) (enc_u1 _ (by omega) (by omega) _)) hat hu
                refine lv_iload_n hx hb dX3_sort_126 rfl (lv_at hl 2 rfl) ?_
                refine lv_iload hx hb dX3_sort_127 (lv_at hl 0 rfl) ?_
                refine lv_isub hx hb dX3_sort_129 ?_
                refine lv_istore_n (lv' := [(3, .int ((p_left S jk b i) - (p_mv S jk b i))), (5, .int (p_mv S jk b i)), (4, .int (nI i)), (0, .ref (o 0)), (1, .int (nI jk)), (2, .int b)]) hx hb dX3_sort_130 rfl hl (Nat.le_of_ble_eq_true rfl) rfl (fun ls hl => ?_)
                refine lv_iinc (v := nI (i + 1)) (lv' := [(4, .int (nI (i + 1))), (3, .int ((p_left S jk b i) - (p_mv S jk b i))), (5, .int (p_mv S jk b i)), (0, .ref (o 0)), (1, .int (nI jk)), (2, .int b)]) hx hb dX3_sort_131 hl (k := 2) rfl (nI_1 _) (Nat.le_of_ble_eq_true rfl) rfl (fun ls hl => ?_)
                refine lv_goto (tgt := 55) hx hb dX3_sort_134 (by decide) ?_
                have hM : MW G B0 o H H9 (enc ((s_mv S (p_mvd S jk b (i + 1))))) sp (p_sv sv (enc S) n) (fun j => nI (t j)) (nI (p_sn n)) (nI tn) (nI 0) pl iw lt on ot nu di := by rw [← s_mv_s]; exact hM
                exact ih55 (i + 1) (by omega) (by omega) H9 hM _ hS ls (lv_sub hl [0, 1, 3, 4, 5] rfl)
        exact lp55_4 _ 0 (Nat.zero_le _) (Nat.lt_succ_self _) H3 hM _ hS ls (lv_sub hl [0, 1, 2, 3, 4] rfl)
      · refine lv_aload_n hx hb dX3_sort_40 rfl (lv_at hl 0 rfl) ?_
        refine lv_iconst (v := nI 2) hx hb dX3_sort_41 rfl ?_
        refine b_ci (cs_X3_49 (rest := []) CX hl.1 (m_X3_fails l (code := nI 2) hM ) rfl rfl rfl hM.o0 hS rfl ⟨rfl, rfl, Nat.le_of_ble_eq_true rfl, Nat.le_of_ble_eq_true rfl⟩ (Nat.le_of_ble_eq_true rfl) dX3_sort_42 ⟨Nat.le_of_ble_eq_true rfl, Nat.le_of_ble_eq_true rfl⟩) hS (fun r H10 locs hp hS => ?_)
        obtain ⟨rfl, hM9⟩ := hp
        have hM : MW G B0 o H H10 (enc S) sp sv (fun j => nI (t j)) (nI n) (nI tn) (nI 2) pl iw lt on ot nu di := hM.tr hM9
        have ho : o_sort (S, n, L, tn, t) (nI jk) b = (nI 2, nI 0, (S, n, L, tn, t)) := by
          unfold o_sort
          simp only [ejk]
          repeat (first | rw [if_pos (by first | assumption | exact ⟨by assumption, by assumption⟩ | (constructor <;> omega) | omega | exact fun q => absurd q (by assumption) | exact fun q => absurd q.1 (by assumption) | exact fun q => absurd q.2 (by assumption) | exact Int32.not_lt.mpr (by assumption) | exact Int32.not_le.mp (by assumption) | exact fun q => q.2 (by assumption) | exact fun q => absurd q.1 (by omega))] | rw [if_neg (by first | assumption | exact ⟨by assumption, by assumption⟩ | (constructor <;> omega) | omega | exact fun q => absurd q (by assumption) | exact fun q => absurd q.1 (by assumption) | exact fun q => absurd q.2 (by assumption) | exact Int32.not_lt.mpr (by assumption) | exact Int32.not_le.mp (by assumption) | exact fun q => q.2 (by assumption) | exact fun q => absurd q.1 (by omega))])
          first | rfl | (unfold f_ok f_no z_save;  rfl)
        rw [← hQ]
        exact b_iret CX hr hlk hS (Nat.le_of_ble_eq_true rfl) (Nat.le_of_ble_eq_true rfl) dX3_sort_45 ((by rw [ho]; exact ⟨rfl, _, _, _, _, _, _, _, _, _, hM, hSv⟩))
    · refine lv_aload_n hx hb dX3_sort_25 rfl (lv_at hl 0 rfl) ?_
      refine lv_iconst (v := nI 1) hx hb dX3_sort_26 rfl ?_
      refine b_ci (cs_X3_49 (rest := []) CX hl.1 (m_X3_fails l (code := nI 1) hM ) rfl rfl rfl hM.o0 hS rfl ⟨rfl, rfl, Nat.le_of_ble_eq_true rfl, Nat.le_of_ble_eq_true rfl⟩ (Nat.le_of_ble_eq_true rfl) dX3_sort_27 ⟨Nat.le_of_ble_eq_true rfl, Nat.le_of_ble_eq_true rfl⟩) hS (fun r H11 locs hp hS => ?_)
      obtain ⟨rfl, hM9⟩ := hp
      have hM : MW G B0 o H H11 (enc S) sp sv (fun j => nI (t j)) (nI n) (nI tn) (nI 1) pl iw lt on ot nu di := hM.tr hM9
      have ho : o_sort (S, n, L, tn, t) k b = (nI 1, nI 0, (S, n, L, tn, t)) := by
        unfold o_sort
        repeat (first | rw [if_pos (by first | assumption | exact ⟨by assumption, by assumption⟩ | (constructor <;> omega) | omega | exact fun q => absurd q (by assumption) | exact fun q => absurd q.1 (by assumption) | exact fun q => absurd q.2 (by assumption) | exact Int32.not_lt.mpr (by assumption) | exact Int32.not_le.mp (by assumption) | exact fun q => q.2 (by assumption) | exact fun q => absurd q.1 (by omega))] | rw [if_neg (by first | assumption | exact ⟨by assumption, by assumption⟩ | (constructor <;> omega) | omega | exact fun q => absurd q (by assumption) | exact fun q => absurd q.1 (by assumption) | exact fun q => absurd q.2 (by assumption) | exact Int32.not_lt.mpr (by assumption) | exact Int32.not_le.mp (by assumption) | exact fun q => q.2 (by assumption) | exact fun q => absurd q.1 (by omega))])
        first | rfl | (unfold f_ok f_no z_save;  rfl)
      rw [← hQ]
      exact b_iret CX hr hlk hS (Nat.le_of_ble_eq_true rfl) (Nat.le_of_ble_eq_true rfl) dX3_sort_30 ((by rw [ho]; exact ⟨rfl, _, _, _, _, _, _, _, _, _, hM, hSv⟩))
set_option maxHeartbeats 2000000 in
set_option maxRecDepth 100000 in
theorem m_X3_swap (l : Launch) {G : b_G} {B0 : Nat} {o : Nat → Nat} {Hr H : Heap} {S : b_St} {sp sv : Nat → Int32} {L : Nat → b_St} {t : Nat → Nat} {n tn : Nat} {th pl iw lt on ot nu di : Int32} {x : Int32} {y : Int32} {c_ : Int32} (hM : MW G B0 o Hr H (enc S) sp sv (fun j => nI (t j)) (nI n) (nI tn) th pl iw lt on ot nu di) (hW : b_WF S) (hn : n ≤ 6) (ht : ∀ j, t j < 128) (htn : tn ≤ 60) (hSv : b_Sv sv n L) : Met l yX3_swap (ws_ yX3_swap cX3_swap 4 (Option.some Jvm.ClassFile.FieldType.int)) ({ frames := 2, cells := 0, slots := 0, locals := 43 } : Room) (b_Pc G B0 H [.ref (o 0), .int x, .int y, .int c_]) (b_Qi B0 (fun r H1 => r = (o_swap (S, n, L, tn, t) x y c_).2.1 ∧ MZ G B0 o H H1 (o_swap (S, n, L, tn, t) x y c_).1 (o_swap (S, n, L, tn, t) x y c_).2.2)) 0 0 (b_A B0) := by
  refine b_of (by decide) (Nat.le_of_ble_eq_true rfl) ?_
  intro p e s m below meth c CX hr hlk hnm hS ls hl
  have CX : b_Cx p s m _ c cX3_swap 4 RX3 G B0 := CX
  have hx := CX.hx
  have hb := CX.hb
  have hl : lv_has ls 4 [(0, .ref (o 0)), (1, .int x), (2, .int y), (3, .int c_)] := hl
  generalize hQ : MQ below (b_Qi B0 (fun r H1 => r = (o_swap (S, n, L, tn, t) x y c_).2.1 ∧ MZ G B0 o H H1 (o_swap (S, n, L, tn, t) x y c_).1 (o_swap (S, n, L, tn, t) x y c_).2.2)) ([.ref (o 0), .int x, .int y, .int c_] : List Value).toArray s 0 0 (b_A B0) = Q
  have hM := hM.re
  have hn8 := hW.nb8
  have hn6 := hW.ns6
  refine lv_aload_n hx hb dX3_swap_0 rfl (lv_at hl 0 rfl) ?_
  refine lv_iconst (v := nI 0) hx hb dX3_swap_1 rfl ?_
  refine pf_X3_28_8 CX hM.o0 hS (hM.B (by decide)) rfl rfl (Nat.le_of_ble_eq_true rfl) dX3_swap_2 (fun H1 locs hat hu hS => ?_)
  have hM : MW G B0 o H H1 (enc S) sp sv (fun j => nI (t j)) (nI n) (nI tn) (nI 0) pl iw lt on ot nu di := hM.set0 hat hu
  refine lv_aload_n hx hb dX3_swap_5 rfl (lv_at hl 0 rfl) ?_
  refine lv_iload_n hx hb dX3_swap_6 rfl (lv_at hl 1 rfl) ?_
  refine b_ci0 (cs_X3_85 (rest := []) CX hl.1 (m_X3_isBrand l (x := x) hM hW) rfl rfl rfl hM.o0 hS rfl ⟨rfl, rfl, Nat.le_of_ble_eq_true rfl, Nat.le_of_ble_eq_true rfl⟩ (Nat.le_of_ble_eq_true rfl) dX3_swap_7 ⟨Nat.le_of_ble_eq_true rfl, Nat.le_of_ble_eq_true rfl⟩) hS (fun locs hS => ?_)
  refine b_ifeq (tgt := 21) CX dX3_swap_10 (by decide) (fun c_10 => ?_) (fun c_10 => ?_)
  · refine lv_aload_n hx hb dX3_swap_21 rfl (lv_at hl 0 rfl) ?_
    refine lv_iconst (v := nI 1) hx hb dX3_swap_22 rfl ?_
    refine b_ci (cs_X3_49 (rest := []) CX hl.1 (m_X3_fails l (code := nI 1) hM ) rfl rfl rfl hM.o0 hS rfl ⟨rfl, rfl, Nat.le_of_ble_eq_true rfl, Nat.le_of_ble_eq_true rfl⟩ (Nat.le_of_ble_eq_true rfl) dX3_swap_23 ⟨Nat.le_of_ble_eq_true rfl, Nat.le_of_ble_eq_true rfl⟩) hS (fun r H2 locs hp hS => ?_)
    obtain ⟨rfl, hM9⟩ := hp
    have hM : MW G B0 o H H2 (enc S) sp sv (fun j => nI (t j)) (nI n) (nI tn) (nI 1) pl iw lt on ot nu di := hM.tr hM9
    have ho : o_swap (S, n, L, tn, t) x y c_ = (nI 1, nI 0, (S, n, L, tn, t)) := by
      unfold o_swap
      repeat (first | rw [if_pos (by first | assumption | exact ⟨by assumption, by assumption⟩ | (constructor <;> omega) | omega | exact fun q => absurd q (by assumption) | exact fun q => absurd q.1 (by assumption) | exact fun q => absurd q.2 (by assumption) | exact Int32.not_lt.mpr (by assumption) | exact Int32.not_le.mp (by assumption) | exact fun q => q.2 (by assumption) | exact fun q => absurd q.1 (by omega) | (refine ⟨?_, ?_, ?_⟩ <;> assumption) | exact ⟨by assumption, by assumption, by assumption, by assumption⟩ | exact fun q => q.1 (by assumption) | exact fun q => absurd q.2.1 (by assumption) | exact fun q => absurd q.2.2 (by assumption))] | rw [if_neg (by first | assumption | exact ⟨by assumption, by assumption⟩ | (constructor <;> omega) | omega | exact fun q => absurd q (by assumption) | exact fun q => absurd q.1 (by assumption) | exact fun q => absurd q.2 (by assumption) | exact Int32.not_lt.mpr (by assumption) | exact Int32.not_le.mp (by assumption) | exact fun q => q.2 (by assumption) | exact fun q => absurd q.1 (by omega) | (refine ⟨?_, ?_, ?_⟩ <;> assumption) | exact ⟨by assumption, by assumption, by assumption, by assumption⟩ | exact fun q => q.1 (by assumption) | exact fun q => absurd q.2.1 (by assumption) | exact fun q => absurd q.2.2 (by assumption))])
      first | rfl | (unfold f_ok f_no z_save;  rfl)
    rw [← hQ]
    exact b_iret CX hr hlk hS (Nat.le_of_ble_eq_true rfl) (Nat.le_of_ble_eq_true rfl) dX3_swap_26 ((by rw [ho]; exact ⟨rfl, _, _, _, _, _, _, _, _, _, hM, hSv⟩))
  · obtain ⟨jx, hjx, rfl⟩ := isB_lt hW c_10
    have ejx : ix (nI jx) = jx := ix_n (by omega)
    refine lv_aload_n hx hb dX3_swap_13 rfl (lv_at hl 0 rfl) ?_
    refine lv_iload_n hx hb dX3_swap_14 rfl (lv_at hl 2 rfl) ?_
    refine b_ci0 (cs_X3_85 (rest := []) CX hl.1 (m_X3_isBrand l (x := y) hM hW) rfl rfl rfl hM.o0 hS rfl ⟨rfl, rfl, Nat.le_of_ble_eq_true rfl, Nat.le_of_ble_eq_true rfl⟩ (Nat.le_of_ble_eq_true rfl) dX3_swap_15 ⟨Nat.le_of_ble_eq_true rfl, Nat.le_of_ble_eq_true rfl⟩) hS (fun locs hS => ?_)
    refine b_ifne (tgt := 27) CX dX3_swap_18 (by decide) (fun c_18 => ?_) (fun c_18 => ?_)
    · obtain ⟨jy, hjy, rfl⟩ := isB_lt hW c_18
      have ejy : ix (nI jy) = jy := ix_n (by omega)
      have hkx := hW.kd3 (b := jx) (by omega)
      have hky := hW.kd3 (b := jy) (by omega)
      refine lv_iload_n hx hb dX3_swap_27 rfl (lv_at hl 1 rfl) ?_
      refine lv_iload_n hx hb dX3_swap_28 rfl (lv_at hl 2 rfl) ?_
      refine b_icmp_eqN (tgt := 58) CX (by omega) (by omega) dX3_swap_29 (by decide) (fun c_29 => ?_) (fun c_29 => ?_)
      · refine lv_aload_n hx hb dX3_swap_58 rfl (lv_at hl 0 rfl) ?_
        refine lv_iconst (v := nI 2) hx hb dX3_swap_59 rfl ?_
        refine b_ci (cs_X3_49 (rest := []) CX hl.1 (m_X3_fails l (code := nI 2) hM ) rfl rfl rfl hM.o0 hS rfl ⟨rfl, rfl, Nat.le_of_ble_eq_true rfl, Nat.le_of_ble_eq_true rfl⟩ (Nat.le_of_ble_eq_true rfl) dX3_swap_60 ⟨Nat.le_of_ble_eq_true rfl, Nat.le_of_ble_eq_true rfl⟩) hS (fun r H3 locs hp hS => ?_)
        obtain ⟨rfl, hM9⟩ := hp
        have hM : MW G B0 o H H3 (enc S) sp sv (fun j => nI (t j)) (nI n) (nI tn) (nI 2) pl iw lt on ot nu di := hM.tr hM9
        have ho : o_swap (S, n, L, tn, t) (nI jx) (nI jy) c_ = (nI 2, nI 0, (S, n, L, tn, t)) := by
          unfold o_swap
          simp only [ejx, ejy]
          repeat (first | rw [if_pos (by first | assumption | exact ⟨by assumption, by assumption⟩ | (constructor <;> omega) | omega | exact fun q => absurd q (by assumption) | exact fun q => absurd q.1 (by assumption) | exact fun q => absurd q.2 (by assumption) | exact Int32.not_lt.mpr (by assumption) | exact Int32.not_le.mp (by assumption) | exact fun q => q.2 (by assumption) | exact fun q => absurd q.1 (by omega) | (refine ⟨?_, ?_, ?_⟩ <;> assumption) | exact ⟨by assumption, by assumption, by assumption, by assumption⟩ | exact fun q => q.1 (by assumption) | exact fun q => absurd q.2.1 (by assumption) | exact fun q => absurd q.2.2 (by assumption))] | rw [if_neg (by first | assumption | exact ⟨by assumption, by assumption⟩ | (constructor <;> omega) | omega | exact fun q => absurd q (by assumption) | exact fun q => absurd q.1 (by assumption) | exact fun q => absurd q.2 (by assumption) | exact Int32.not_lt.mpr (by assumption) | exact Int32.not_le.mp (by assumption) | exact fun q => q.2 (by assumption) | exact fun q => absurd q.1 (by omega) | (refine ⟨?_, ?_, ?_⟩ <;> assumption) | exact ⟨by assumption, by assumption, by assumption, by assumption⟩ | exact fun q => q.1 (by assumption) | exact fun q => absurd q.2.1 (by assumption) | exact fun q => absurd q.2.2 (by assumption))])
          first | rfl | (unfold f_ok f_no z_save;  rfl)
        rw [← hQ]
        exact b_iret CX hr hlk hS (Nat.le_of_ble_eq_true rfl) (Nat.le_of_ble_eq_true rfl) dX3_swap_63 ((by rw [ho]; exact ⟨rfl, _, _, _, _, _, _, _, _, _, hM, hSv⟩))
      · have c28s : ¬ jy = jx := fun q => c_29 q.symm
        refine lv_aload_n hx hb dX3_swap_32 rfl (lv_at hl 0 rfl) ?_
        refine lv_iload_n hx hb dX3_swap_33 rfl (lv_at hl 1 rfl) ?_
        refine lv_iconst (v := nI 0) hx hb dX3_swap_34 rfl ?_
        refine b_ci0 (cs_X3_46 (rest := []) CX hl.1 (m_X3_of l (b := jx) (w := 0) hM (by omega) (by omega)) rfl rfl rfl hM.o0 hS rfl ⟨rfl, rfl, Nat.le_of_ble_eq_true rfl, Nat.le_of_ble_eq_true rfl⟩ (Nat.le_of_ble_eq_true rfl) dX3_swap_35 ⟨Nat.le_of_ble_eq_true rfl, Nat.le_of_ble_eq_true rfl⟩) hS (fun locs hS => ?_)
        refine b_top (x := S 1 jx 0) (y := nI (kd S jx)) ((hW.kdE (by omega))) ?_
        refine lv_aload_n hx hb dX3_swap_38 rfl (lv_at hl 0 rfl) ?_
        refine lv_iload_n hx hb dX3_swap_39 rfl (lv_at hl 2 rfl) ?_
        refine lv_iconst (v := nI 0) hx hb dX3_swap_40 rfl ?_
        refine b_ci0 (cs_X3_46 (rest := [.int (nI (kd S jx))]) CX hl.1 (m_X3_of l (b := jy) (w := 0) hM (by omega) (by omega)) rfl rfl rfl hM.o0 hS rfl ⟨rfl, rfl, Nat.le_of_ble_eq_true rfl, Nat.le_of_ble_eq_true rfl⟩ (Nat.le_of_ble_eq_true rfl) dX3_swap_41 ⟨Nat.le_of_ble_eq_true rfl, Nat.le_of_ble_eq_true rfl⟩) hS (fun locs hS => ?_)
        refine b_top (x := S 1 jy 0) (y := nI (kd S jy)) ((hW.kdE (by omega))) ?_
        refine b_icmp_neN (tgt := 58) CX (by omega) (by omega) dX3_swap_44 (by decide) (fun c_44 => ?_) (fun c_44 => ?_)
        · refine lv_aload_n hx hb dX3_swap_58 rfl (lv_at hl 0 rfl) ?_
          refine lv_iconst (v := nI 2) hx hb dX3_swap_59 rfl ?_
          refine b_ci (cs_X3_49 (rest := []) CX hl.1 (m_X3_fails l (code := nI 2) hM ) rfl rfl rfl hM.o0 hS rfl ⟨rfl, rfl, Nat.le_of_ble_eq_true rfl, Nat.le_of_ble_eq_true rfl⟩ (Nat.le_of_ble_eq_true rfl) dX3_swap_60 ⟨Nat.le_of_ble_eq_true rfl, Nat.le_of_ble_eq_true rfl⟩) hS (fun r H4 locs hp hS => ?_)
          obtain ⟨rfl, hM9⟩ := hp
          have hM : MW G B0 o H H4 (enc S) sp sv (fun j => nI (t j)) (nI n) (nI tn) (nI 2) pl iw lt on ot nu di := hM.tr hM9
          have ho : o_swap (S, n, L, tn, t) (nI jx) (nI jy) c_ = (nI 2, nI 0, (S, n, L, tn, t)) := by
            unfold o_swap
            simp only [ejx, ejy]
            repeat (first | rw [if_pos (by first | assumption | exact ⟨by assumption, by assumption⟩ | (constructor <;> omega) | omega | exact fun q => absurd q (by assumption) | exact fun q => absurd q.1 (by assumption) | exact fun q => absurd q.2 (by assumption) | exact Int32.not_lt.mpr (by assumption) | exact Int32.not_le.mp (by assumption) | exact fun q => q.2 (by assumption) | exact fun q => absurd q.1 (by omega) | (refine ⟨?_, ?_, ?_⟩ <;> assumption) | exact ⟨by assumption, by assumption, by assumption, by assumption⟩ | exact fun q => q.1 (by assumption) | exact fun q => absurd q.2.1 (by assumption) | exact fun q => absurd q.2.2 (by assumption))] | rw [if_neg (by first | assumption | exact ⟨by assumption, by assumption⟩ | (constructor <;> omega) | omega | exact fun q => absurd q (by assumption) | exact fun q => absurd q.1 (by assumption) | exact fun q => absurd q.2 (by assumption) | exact Int32.not_lt.mpr (by assumption) | exact Int32.not_le.mp (by assumption) | exact fun q => q.2 (by assumption) | exact fun q => absurd q.1 (by omega) | (refine ⟨?_, ?_, ?_⟩ <;> assumption) | exact ⟨by assumption, by assumption, by assumption, by assumption⟩ | exact fun q => q.1 (by assumption) | exact fun q => absurd q.2.1 (by assumption) | exact fun q => absurd q.2.2 (by assumption))])
            first | rfl | (unfold f_ok f_no z_save;  rfl)
          rw [← hQ]
          exact b_iret CX hr hlk hS (Nat.le_of_ble_eq_true rfl) (Nat.le_of_ble_eq_true rfl) dX3_swap_63 ((by rw [ho]; exact ⟨rfl, _, _, _, _, _, _, _, _, _, hM, hSv⟩))
        · refine lv_iload_n hx hb dX3_swap_47 rfl (lv_at hl 3 rfl) ?_
          refine lv_iconst (v := nI 1) hx hb dX3_swap_48 rfl ?_
          refine lv_sipush (v := nI 5000) hx hb dX3_swap_49 rfl ?_
          refine b_ci0 (cs_X3_35 (rest := []) CX hl.1 (m_X3_in l (x := c_) (lo := nI 1) (hi := nI 5000)  ) rfl hS rfl ⟨rfl, rfl, Nat.le_of_ble_eq_true rfl, Nat.le_of_ble_eq_true rfl⟩ (Nat.le_of_ble_eq_true rfl) dX3_swap_52 ⟨Nat.le_of_ble_eq_true rfl, Nat.le_of_ble_eq_true rfl⟩) hS (fun locs hS => ?_)
          refine b_ifne (tgt := 64) CX dX3_swap_55 (by decide) (fun c_55 => ?_) (fun c_55 => ?_)
          · refine lv_aload_n hx hb dX3_swap_64 rfl (lv_at hl 0 rfl) ?_
            refine lv_iload_n hx hb dX3_swap_65 rfl (lv_at hl 1 rfl) ?_
            refine lv_iconst (v := nI 1) hx hb dX3_swap_66 rfl ?_
            refine b_ci0 (cs_X3_46 (rest := []) CX hl.1 (m_X3_of l (b := jx) (w := 1) hM (by omega) (by omega)) rfl rfl rfl hM.o0 hS rfl ⟨rfl, rfl, Nat.le_of_ble_eq_true rfl, Nat.le_of_ble_eq_true rfl⟩ (Nat.le_of_ble_eq_true rfl) dX3_swap_67 ⟨Nat.le_of_ble_eq_true rfl, Nat.le_of_ble_eq_true rfl⟩) hS (fun locs hS => ?_)
            refine lv_iload_n hx hb dX3_swap_70 rfl (lv_at hl 3 rfl) ?_
            refine lv_icmp_ge (tgt := 80) hx hb dX3_swap_71 (by decide) (fun c_71 => ?_) (fun c_71 => ?_)
            · refine lv_aload_n hx hb dX3_swap_80 rfl (lv_at hl 0 rfl) ?_
              refine b_cv (cs_X3_53 (rest := []) CX hl.1 (m_X3_save l  hM hn) rfl rfl rfl hM.o0 hS rfl ⟨rfl, rfl, Nat.le_of_ble_eq_true rfl, Nat.le_of_ble_eq_true rfl⟩ (Nat.le_of_ble_eq_true rfl) dX3_swap_81 ⟨Nat.le_of_ble_eq_true rfl, Nat.le_of_ble_eq_true rfl⟩) hS (fun H5 locs hp hS => ?_)
              have hM9 := hp
              have hM : MW G B0 o H H5 (enc S) sp (p_sv sv (enc S) n) (fun j => nI (t j)) (nI (p_sn n)) (nI tn) (nI 0) pl iw lt on ot nu di := hM.tr hM9
              refine lv_aload_n hx hb dX3_swap_84 rfl (lv_at hl 0 rfl) ?_
              refine gf_X3_7_8 CX hM.o0 rfl dX3_swap_85 ?_
              refine lv_iload_n hx hb dX3_swap_88 rfl (lv_at hl 1 rfl) ?_
              refine lv_iconst (v := nI 1) hx hb dX3_swap_89 rfl ?_
              refine b_ci0 (cs_X3_39 (rest := [.ref (o 1)]) CX hl.1 (m_X3_brandAt l (b := jx) (w := 1)  ) rfl hS rfl ⟨rfl, rfl, Nat.le_of_ble_eq_true rfl, Nat.le_of_ble_eq_true rfl⟩ (Nat.le_of_ble_eq_true rfl) dX3_swap_90 ⟨Nat.le_of_ble_eq_true rfl, Nat.le_of_ble_eq_true rfl⟩) hS (fun locs hS => ?_)
              refine lv_dup2_11 hx hb dX3_swap_93 rfl rfl ?_
              refine b_ild CX hM.o1 (x := S 1 jx 1) (vp_in_nI (by omega) (by omega)) (b_at_nI (by omega) ((enc_1 _ (by omega) (by omega)))) dX3_swap_94 ?_
              refine lv_iload_n hx hb dX3_swap_95 rfl (lv_at hl 3 rfl) ?_
              refine lv_isub hx hb dX3_swap_96 ?_
              refine b_ist CX hM.o1 hS (hM.B (by decide)) (vp_in_nI (by omega) (by omega)) dX3_swap_97 (fun H6 locs hat hu hS => ?_)
              have hM : MW G B0 o H H6 (enc ((u3 S 1 jx 1 ((S 1 jx 1) - c_)))) sp (p_sv sv (enc S) n) (fun j => nI (t j)) (nI (p_sn n)) (nI tn) (nI 0) pl iw lt on ot nu di := hM.set1 (b_up_nI (by omega) (enc_u1 _ (by omega) (by omega) _)) hat hu
              refine lv_aload_n hx hb dX3_swap_98 rfl (lv_at hl 0 rfl) ?_
              refine gf_X3_7_8 CX hM.o0 rfl dX3_swap_99 ?_
              refine lv_iload_n hx hb dX3_swap_102 rfl (lv_at hl 2 rfl) ?_
              refine lv_iconst (v := nI 1) hx hb dX3_swap_103 rfl ?_
              refine b_ci0 (cs_X3_39 (rest := [.ref (o 1)]) CX hl.1 (m_X3_brandAt l (b := jy) (w := 1)  ) rfl hS rfl ⟨rfl, rfl, Nat.le_of_ble_eq_true rfl, Nat.le_of_ble_eq_true rfl⟩ (Nat.le_of_ble_eq_true rfl) dX3_swap_104 ⟨Nat.le_of_ble_eq_true rfl, Nat.le_of_ble_eq_true rfl⟩) hS (fun locs hS => ?_)
              refine lv_dup2_11 hx hb dX3_swap_107 rfl rfl ?_
              refine b_ild CX hM.o1 (x := S 1 jy 1) (vp_in_nI (by omega) (by omega)) (b_at_nI (by omega) ((enc_1 _ (by omega) (by omega)).trans (by simp [u3, *]))) dX3_swap_108 ?_
              refine lv_iload_n hx hb dX3_swap_109 rfl (lv_at hl 3 rfl) ?_
              refine lv_iadd hx hb dX3_swap_110 ?_
              refine b_ist CX hM.o1 hS (hM.B (by decide)) (vp_in_nI (by omega) (by omega)) dX3_swap_111 (fun H7 locs hat hu hS => ?_)
              have hM : MW G B0 o H H7 (enc ((u3 (u3 S 1 jx 1 ((S 1 jx 1) - c_)) 1 jy 1 ((S 1 jy 1) + c_)))) sp (p_sv sv (enc S) n) (fun j => nI (t j)) (nI (p_sn n)) (nI tn) (nI 0) pl iw lt on ot nu di := hM.set1 (b_up_nI (by omega) (enc_u1 _ (by omega) (by omega) _)) hat hu
              refine lv_aload_n hx hb dX3_swap_112 rfl (lv_at hl 0 rfl) ?_
              refine gf_X3_7_8 CX hM.o0 rfl dX3_swap_113 ?_
              refine lv_iload_n hx hb dX3_swap_116 rfl (lv_at hl 1 rfl) ?_
              refine lv_bipush (v := nI 9) hx hb dX3_swap_117 rfl ?_
              refine b_ci0 (cs_X3_39 (rest := [.ref (o 1)]) CX hl.1 (m_X3_brandAt l (b := jx) (w := 9)  ) rfl hS rfl ⟨rfl, rfl, Nat.le_of_ble_eq_true rfl, Nat.le_of_ble_eq_true rfl⟩ (Nat.le_of_ble_eq_true rfl) dX3_swap_119 ⟨Nat.le_of_ble_eq_true rfl, Nat.le_of_ble_eq_true rfl⟩) hS (fun locs hS => ?_)
              refine lv_dup2_11 hx hb dX3_swap_122 rfl rfl ?_
              refine b_ild CX hM.o1 (x := S 1 jx 9) (vp_in_nI (by omega) (by omega)) (b_at_nI (by omega) ((enc_1 _ (by omega) (by omega)).trans (by simp [u3, *]))) dX3_swap_123 ?_
              refine lv_iload_n hx hb dX3_swap_124 rfl (lv_at hl 3 rfl) ?_
              refine lv_iadd hx hb dX3_swap_125 ?_
              refine b_ist CX hM.o1 hS (hM.B (by decide)) (vp_in_nI (by omega) (by omega)) dX3_swap_126 (fun H8 locs hat hu hS => ?_)
              have hM : MW G B0 o H H8 (enc ((u3 (u3 (u3 S 1 jx 1 ((S 1 jx 1) - c_)) 1 jy 1 ((S 1 jy 1) + c_)) 1 jx 9 ((S 1 jx 9) + c_)))) sp (p_sv sv (enc S) n) (fun j => nI (t j)) (nI (p_sn n)) (nI tn) (nI 0) pl iw lt on ot nu di := hM.set1 (b_up_nI (by omega) (enc_u1 _ (by omega) (by omega) _)) hat hu
              refine lv_aload_n hx hb dX3_swap_127 rfl (lv_at hl 0 rfl) ?_
              refine gf_X3_7_8 CX hM.o0 rfl dX3_swap_128 ?_
              refine lv_iload_n hx hb dX3_swap_131 rfl (lv_at hl 2 rfl) ?_
              refine lv_bipush (v := nI 9) hx hb dX3_swap_132 rfl ?_
              refine b_ci0 (cs_X3_39 (rest := [.ref (o 1)]) CX hl.1 (m_X3_brandAt l (b := jy) (w := 9)  ) rfl hS rfl ⟨rfl, rfl, Nat.le_of_ble_eq_true rfl, Nat.le_of_ble_eq_true rfl⟩ (Nat.le_of_ble_eq_true rfl) dX3_swap_134 ⟨Nat.le_of_ble_eq_true rfl, Nat.le_of_ble_eq_true rfl⟩) hS (fun locs hS => ?_)
              refine lv_dup2_11 hx hb dX3_swap_137 rfl rfl ?_
              refine b_ild CX hM.o1 (x := S 1 jy 9) (vp_in_nI (by omega) (by omega)) (b_at_nI (by omega) ((enc_1 _ (by omega) (by omega)).trans (by simp [u3, *]))) dX3_swap_138 ?_
              refine lv_iload_n hx hb dX3_swap_139 rfl (lv_at hl 3 rfl) ?_
              refine lv_isub hx hb dX3_swap_140 ?_
              refine b_ist CX hM.o1 hS (hM.B (by decide)) (vp_in_nI (by omega) (by omega)) dX3_swap_141 (fun H9 locs hat hu hS => ?_)
              have hM : MW G B0 o H H9 (enc ((u3 (u3 (u3 (u3 S 1 jx 1 ((S 1 jx 1) - c_)) 1 jy 1 ((S 1 jy 1) + c_)) 1 jx 9 ((S 1 jx 9) + c_)) 1 jy 9 ((S 1 jy 9) - c_)))) sp (p_sv sv (enc S) n) (fun j => nI (t j)) (nI (p_sn n)) (nI tn) (nI 0) pl iw lt on ot nu di := hM.set1 (b_up_nI (by omega) (enc_u1 _ (by omega) (by omega) _)) hat hu
              refine lv_aload_n hx hb dX3_swap_142 rfl (lv_at hl 0 rfl) ?_
              refine gf_X3_7_8 CX hM.o0 rfl dX3_swap_143 ?_
              refine lv_sipush (v := nI 219) hx hb dX3_swap_146 rfl ?_
              refine lv_bipush (v := nI 8) hx hb dX3_swap_149 rfl ?_
              refine lv_iload_n hx hb dX3_swap_151 rfl (lv_at hl 1 rfl) ?_
              refine b_imulN CX dX3_swap_152 ?_
              refine b_iaddN CX dX3_swap_153 ?_
              refine lv_iload_n hx hb dX3_swap_154 rfl (lv_at hl 2 rfl) ?_
              refine b_iaddN CX dX3_swap_155 ?_
              refine lv_dup2_11 hx hb dX3_swap_156 rfl rfl ?_
              refine b_ild CX hM.o1 (x := S 3 jx jy) (vp_in_nI (by omega) (by omega)) (b_at_nI (by omega) ((enc_3 _ (by omega)).trans (by simp [u3, *]))) dX3_swap_157 ?_
              refine lv_iload_n hx hb dX3_swap_158 rfl (lv_at hl 3 rfl) ?_
              refine lv_iadd hx hb dX3_swap_159 ?_
              refine b_ist CX hM.o1 hS (hM.B (by decide)) (vp_in_nI (by omega) (by omega)) dX3_swap_160 (fun H10 locs hat hu hS => ?_)
              have hM : MW G B0 o H H10 (enc ((u3 (u3 (u3 (u3 (u3 S 1 jx 1 ((S 1 jx 1) - c_)) 1 jy 1 ((S 1 jy 1) + c_)) 1 jx 9 ((S 1 jx 9) + c_)) 1 jy 9 ((S 1 jy 9) - c_)) 3 jx jy ((S 3 jx jy) + c_)))) sp (p_sv sv (enc S) n) (fun j => nI (t j)) (nI (p_sn n)) (nI tn) (nI 0) pl iw lt on ot nu di := hM.set1 (b_up_nI (by omega) (enc_u3 _ (by omega) _)) hat hu
              refine lv_aload_n hx hb dX3_swap_161 rfl (lv_at hl 0 rfl) ?_
              refine gf_X3_7_8 CX hM.o0 rfl dX3_swap_162 ?_
              refine lv_sipush (v := nI 219) hx hb dX3_swap_165 rfl ?_
              refine lv_bipush (v := nI 8) hx hb dX3_swap_168 rfl ?_
              refine lv_iload_n hx hb dX3_swap_170 rfl (lv_at hl 1 rfl) ?_
              refine b_imulN CX dX3_swap_171 ?_
              refine b_iaddN CX dX3_swap_172 ?_
              refine lv_iload_n hx hb dX3_swap_173 rfl (lv_at hl 2 rfl) ?_
              refine b_iaddN CX dX3_swap_174 ?_
              refine b_ild CX hM.o1 (x := (S 3 jx jy) + c_) (vp_in_nI (by omega) (by omega)) (b_at_nI (by omega) ((enc_3 _ (by omega)).trans (by simp [u3]))) dX3_swap_175 ?_
              refine lv_aload_n hx hb dX3_swap_176 rfl (lv_at hl 0 rfl) ?_
              refine gf_X3_7_8 CX hM.o0 rfl dX3_swap_177 ?_
              refine lv_sipush (v := nI 219) hx hb dX3_swap_180 rfl ?_
              refine lv_bipush (v := nI 8) hx hb dX3_swap_183 rfl ?_
              refine lv_iload_n hx hb dX3_swap_185 rfl (lv_at hl 2 rfl) ?_
              refine b_imulN CX dX3_swap_186 ?_
              refine b_iaddN CX dX3_swap_187 ?_
              refine lv_iload_n hx hb dX3_swap_188 rfl (lv_at hl 1 rfl) ?_
              refine b_iaddN CX dX3_swap_189 ?_
              refine b_ild CX hM.o1 (x := S 3 jy jx) (vp_in_nI (by omega) (by omega)) (b_at_nI (by omega) ((enc_3 _ (by omega)).trans (by simp [u3, *]))) dX3_swap_190 ?_
              refine lv_isub hx hb dX3_swap_191 ?_
              have ho : o_swap (S, n, L, tn, t) (nI jx) (nI jy) c_ = (nI 0, ((S 3 jx jy) + c_) - (S 3 jy jx), ((u3 (u3 (u3 (u3 (u3 S 1 jx 1 ((S 1 jx 1) - c_)) 1 jy 1 ((S 1 jy 1) + c_)) 1 jx 9 ((S 1 jx 9) + c_)) 1 jy 9 ((S 1 jy 9) - c_)) 3 jx jy ((S 3 jx jy) + c_)), p_sn n, (p_L L S n), tn, t)) := by
                unfold o_swap
                simp only [ejx, ejy]
                repeat (first | rw [if_pos (by first | assumption | exact ⟨by assumption, by assumption⟩ | (constructor <;> omega) | omega | exact fun q => absurd q (by assumption) | exact fun q => absurd q.1 (by assumption) | exact fun q => absurd q.2 (by assumption) | exact Int32.not_lt.mpr (by assumption) | exact Int32.not_le.mp (by assumption) | exact fun q => q.2 (by assumption) | exact fun q => absurd q.1 (by omega) | (refine ⟨?_, ?_, ?_⟩ <;> assumption) | exact ⟨by assumption, by assumption, by assumption, by assumption⟩ | exact fun q => q.1 (by assumption) | exact fun q => absurd q.2.1 (by assumption) | exact fun q => absurd q.2.2 (by assumption))] | rw [if_neg (by first | assumption | exact ⟨by assumption, by assumption⟩ | (constructor <;> omega) | omega | exact fun q => absurd q (by assumption) | exact fun q => absurd q.1 (by assumption) | exact fun q => absurd q.2 (by assumption) | exact Int32.not_lt.mpr (by assumption) | exact Int32.not_le.mp (by assumption) | exact fun q => q.2 (by assumption) | exact fun q => absurd q.1 (by omega) | (refine ⟨?_, ?_, ?_⟩ <;> assumption) | exact ⟨by assumption, by assumption, by assumption, by assumption⟩ | exact fun q => q.1 (by assumption) | exact fun q => absurd q.2.1 (by assumption) | exact fun q => absurd q.2.2 (by assumption))])
                first | rfl | (unfold f_ok f_no z_save;  rfl)
              rw [← hQ]
              exact b_iret CX hr hlk hS (Nat.le_of_ble_eq_true rfl) (Nat.le_of_ble_eq_true rfl) dX3_swap_192 ((by rw [ho]; exact ⟨rfl, _, _, _, _, _, _, _, _, _, hM, (hSv.save hn _)⟩))
            · refine lv_aload_n hx hb dX3_swap_74 rfl (lv_at hl 0 rfl) ?_
              refine lv_iconst (v := nI 3) hx hb dX3_swap_75 rfl ?_
              refine b_ci (cs_X3_49 (rest := []) CX hl.1 (m_X3_fails l (code := nI 3) hM ) rfl rfl rfl hM.o0 hS rfl ⟨rfl, rfl, Nat.le_of_ble_eq_true rfl, Nat.le_of_ble_eq_true rfl⟩ (Nat.le_of_ble_eq_true rfl) dX3_swap_76 ⟨Nat.le_of_ble_eq_true rfl, Nat.le_of_ble_eq_true rfl⟩) hS (fun r H11 locs hp hS => ?_)
              obtain ⟨rfl, hM9⟩ := hp
              have hM : MW G B0 o H H11 (enc S) sp sv (fun j => nI (t j)) (nI n) (nI tn) (nI 3) pl iw lt on ot nu di := hM.tr hM9
              have ho : o_swap (S, n, L, tn, t) (nI jx) (nI jy) c_ = (nI 3, nI 0, (S, n, L, tn, t)) := by
                unfold o_swap
                simp only [ejx, ejy]
                repeat (first | rw [if_pos (by first | assumption | exact ⟨by assumption, by assumption⟩ | (constructor <;> omega) | omega | exact fun q => absurd q (by assumption) | exact fun q => absurd q.1 (by assumption) | exact fun q => absurd q.2 (by assumption) | exact Int32.not_lt.mpr (by assumption) | exact Int32.not_le.mp (by assumption) | exact fun q => q.2 (by assumption) | exact fun q => absurd q.1 (by omega) | (refine ⟨?_, ?_, ?_⟩ <;> assumption) | exact ⟨by assumption, by assumption, by assumption, by assumption⟩ | exact fun q => q.1 (by assumption) | exact fun q => absurd q.2.1 (by assumption) | exact fun q => absurd q.2.2 (by assumption))] | rw [if_neg (by first | assumption | exact ⟨by assumption, by assumption⟩ | (constructor <;> omega) | omega | exact fun q => absurd q (by assumption) | exact fun q => absurd q.1 (by assumption) | exact fun q => absurd q.2 (by assumption) | exact Int32.not_lt.mpr (by assumption) | exact Int32.not_le.mp (by assumption) | exact fun q => q.2 (by assumption) | exact fun q => absurd q.1 (by omega) | (refine ⟨?_, ?_, ?_⟩ <;> assumption) | exact ⟨by assumption, by assumption, by assumption, by assumption⟩ | exact fun q => q.1 (by assumption) | exact fun q => absurd q.2.1 (by assumption) | exact fun q => absurd q.2.2 (by assumption))])
                first | rfl | (unfold f_ok f_no z_save;  rfl)
              rw [← hQ]
              exact b_iret CX hr hlk hS (Nat.le_of_ble_eq_true rfl) (Nat.le_of_ble_eq_true rfl) dX3_swap_79 ((by rw [ho]; exact ⟨rfl, _, _, _, _, _, _, _, _, _, hM, hSv⟩))
          · refine lv_aload_n hx hb dX3_swap_58 rfl (lv_at hl 0 rfl) ?_
            refine lv_iconst (v := nI 2) hx hb dX3_swap_59 rfl ?_
            refine b_ci (cs_X3_49 (rest := []) CX hl.1 (m_X3_fails l (code := nI 2) hM ) rfl rfl rfl hM.o0 hS rfl ⟨rfl, rfl, Nat.le_of_ble_eq_true rfl, Nat.le_of_ble_eq_true rfl⟩ (Nat.le_of_ble_eq_true rfl) dX3_swap_60 ⟨Nat.le_of_ble_eq_true rfl, Nat.le_of_ble_eq_true rfl⟩) hS (fun r H12 locs hp hS => ?_)
            obtain ⟨rfl, hM9⟩ := hp
            have hM : MW G B0 o H H12 (enc S) sp sv (fun j => nI (t j)) (nI n) (nI tn) (nI 2) pl iw lt on ot nu di := hM.tr hM9
            have ho : o_swap (S, n, L, tn, t) (nI jx) (nI jy) c_ = (nI 2, nI 0, (S, n, L, tn, t)) := by
              unfold o_swap
              simp only [ejx, ejy]
              repeat (first | rw [if_pos (by first | assumption | exact ⟨by assumption, by assumption⟩ | (constructor <;> omega) | omega | exact fun q => absurd q (by assumption) | exact fun q => absurd q.1 (by assumption) | exact fun q => absurd q.2 (by assumption) | exact Int32.not_lt.mpr (by assumption) | exact Int32.not_le.mp (by assumption) | exact fun q => q.2 (by assumption) | exact fun q => absurd q.1 (by omega) | (refine ⟨?_, ?_, ?_⟩ <;> assumption) | exact ⟨by assumption, by assumption, by assumption, by assumption⟩ | exact fun q => q.1 (by assumption) | exact fun q => absurd q.2.1 (by assumption) | exact fun q => absurd q.2.2 (by assumption))] | rw [if_neg (by first | assumption | exact ⟨by assumption, by assumption⟩ | (constructor <;> omega) | omega | exact fun q => absurd q (by assumption) | exact fun q => absurd q.1 (by assumption) | exact fun q => absurd q.2 (by assumption) | exact Int32.not_lt.mpr (by assumption) | exact Int32.not_le.mp (by assumption) | exact fun q => q.2 (by assumption) | exact fun q => absurd q.1 (by omega) | (refine ⟨?_, ?_, ?_⟩ <;> assumption) | exact ⟨by assumption, by assumption, by assumption, by assumption⟩ | exact fun q => q.1 (by assumption) | exact fun q => absurd q.2.1 (by assumption) | exact fun q => absurd q.2.2 (by assumption))])
              first | rfl | (unfold f_ok f_no z_save;  rfl)
            rw [← hQ]
            exact b_iret CX hr hlk hS (Nat.le_of_ble_eq_true rfl) (Nat.le_of_ble_eq_true rfl) dX3_swap_63 ((by rw [ho]; exact ⟨rfl, _, _, _, _, _, _, _, _, _, hM, hSv⟩))
    · refine lv_aload_n hx hb dX3_swap_21 rfl (lv_at hl 0 rfl) ?_
      refine lv_iconst (v := nI 1) hx hb dX3_swap_22 rfl ?_
      refine b_ci (cs_X3_49 (rest := []) CX hl.1 (m_X3_fails l (code := nI 1) hM ) rfl rfl rfl hM.o0 hS rfl ⟨rfl, rfl, Nat.le_of_ble_eq_true rfl, Nat.le_of_ble_eq_true rfl⟩ (Nat.le_of_ble_eq_true rfl) dX3_swap_23 ⟨Nat.le_of_ble_eq_true rfl, Nat.le_of_ble_eq_true rfl⟩) hS (fun r H13 locs hp hS => ?_)
      obtain ⟨rfl, hM9⟩ := hp
      have hM : MW G B0 o H H13 (enc S) sp sv (fun j => nI (t j)) (nI n) (nI tn) (nI 1) pl iw lt on ot nu di := hM.tr hM9
      have ho : o_swap (S, n, L, tn, t) (nI jx) y c_ = (nI 1, nI 0, (S, n, L, tn, t)) := by
        unfold o_swap
        simp only [ejx]
        repeat (first | rw [if_pos (by first | assumption | exact ⟨by assumption, by assumption⟩ | (constructor <;> omega) | omega | exact fun q => absurd q (by assumption) | exact fun q => absurd q.1 (by assumption) | exact fun q => absurd q.2 (by assumption) | exact Int32.not_lt.mpr (by assumption) | exact Int32.not_le.mp (by assumption) | exact fun q => q.2 (by assumption) | exact fun q => absurd q.1 (by omega) | (refine ⟨?_, ?_, ?_⟩ <;> assumption) | exact ⟨by assumption, by assumption, by assumption, by assumption⟩ | exact fun q => q.1 (by assumption) | exact fun q => absurd q.2.1 (by assumption) | exact fun q => absurd q.2.2 (by assumption))] | rw [if_neg (by first | assumption | exact ⟨by assumption, by assumption⟩ | (constructor <;> omega) | omega | exact fun q => absurd q (by assumption) | exact fun q => absurd q.1 (by assumption) | exact fun q => absurd q.2 (by assumption) | exact Int32.not_lt.mpr (by assumption) | exact Int32.not_le.mp (by assumption) | exact fun q => q.2 (by assumption) | exact fun q => absurd q.1 (by omega) | (refine ⟨?_, ?_, ?_⟩ <;> assumption) | exact ⟨by assumption, by assumption, by assumption, by assumption⟩ | exact fun q => q.1 (by assumption) | exact fun q => absurd q.2.1 (by assumption) | exact fun q => absurd q.2.2 (by assumption))])
        first | rfl | (unfold f_ok f_no z_save;  rfl)
      rw [← hQ]
      exact b_iret CX hr hlk hS (Nat.le_of_ble_eq_true rfl) (Nat.le_of_ble_eq_true rfl) dX3_swap_26 ((by rw [ho]; exact ⟨rfl, _, _, _, _, _, _, _, _, _, hM, hSv⟩))
set_option maxHeartbeats 2000000 in
set_option maxRecDepth 100000 in
theorem m_X3_collect (l : Launch) {G : b_G} {B0 : Nat} {o : Nat → Nat} {Hr H : Heap} {S : b_St} {sp sv : Nat → Int32} {L : Nat → b_St} {t : Nat → Nat} {n tn : Nat} {th pl iw lt on ot nu di : Int32} {J : b_St → Prop} {x : Int32} {k : Int32} {c_ : Int32} (hM : MW G B0 o Hr H (enc S) sp sv (fun j => nI (t j)) (nI n) (nI tn) th pl iw lt on ot nu di) (hW : b_WF S) (hn : n ≤ 6) (ht : ∀ j, t j < 128) (htn : tn ≤ 60) (hSv : b_Sv sv n L) (hJ : p_J J) (hJS : J S) : Met l yX3_collect (ws_ yX3_collect cX3_collect 4 (Option.some Jvm.ClassFile.FieldType.int)) ({ frames := 4, cells := 0, slots := 0, locals := 93 } : Room) (b_Pc G B0 H [.ref (o 0), .int x, .int k, .int c_]) (b_Qi B0 (fun r H1 => r = (o_collect (S, n, L, tn, t) x k c_).2.1 ∧ MZ G B0 o H H1 (o_collect (S, n, L, tn, t) x k c_).1 (o_collect (S, n, L, tn, t) x k c_).2.2)) 0 0 (b_A B0) := by
  refine b_of (by decide) (Nat.le_of_ble_eq_true rfl) ?_
  intro p e s m below meth c CX hr hlk hnm hS ls hl
  have CX : b_Cx p s m _ c cX3_collect 4 RX3 G B0 := CX
  have hx := CX.hx
  have hb := CX.hb
  have hl : lv_has ls 4 [(0, .ref (o 0)), (1, .int x), (2, .int k), (3, .int c_)] := hl
  generalize hQ : MQ below (b_Qi B0 (fun r H1 => r = (o_collect (S, n, L, tn, t) x k c_).2.1 ∧ MZ G B0 o H H1 (o_collect (S, n, L, tn, t) x k c_).1 (o_collect (S, n, L, tn, t) x k c_).2.2)) ([.ref (o 0), .int x, .int k, .int c_] : List Value).toArray s 0 0 (b_A B0) = Q
  have hM := hM.re
  have hn8 := hW.nb8
  have hn6 := hW.ns6
  refine lv_aload_n hx hb dX3_collect_0 rfl (lv_at hl 0 rfl) ?_
  refine lv_iconst (v := nI 0) hx hb dX3_collect_1 rfl ?_
  refine pf_X3_28_8 CX hM.o0 hS (hM.B (by decide)) rfl rfl (Nat.le_of_ble_eq_true rfl) dX3_collect_2 (fun H1 locs hat hu hS => ?_)
  have hM : MW G B0 o H H1 (enc S) sp sv (fun j => nI (t j)) (nI n) (nI tn) (nI 0) pl iw lt on ot nu di := hM.set0 hat hu
  refine lv_aload_n hx hb dX3_collect_5 rfl (lv_at hl 0 rfl) ?_
  refine lv_iload_n hx hb dX3_collect_6 rfl (lv_at hl 1 rfl) ?_
  refine b_ci0 (cs_X3_92 (rest := []) CX hl.1 (m_X3_isShop l (x := x) hM hW) rfl rfl rfl hM.o0 hS rfl ⟨rfl, rfl, Nat.le_of_ble_eq_true rfl, Nat.le_of_ble_eq_true rfl⟩ (Nat.le_of_ble_eq_true rfl) dX3_collect_7 ⟨Nat.le_of_ble_eq_true rfl, Nat.le_of_ble_eq_true rfl⟩) hS (fun locs hS => ?_)
  refine b_ifne (tgt := 19) CX dX3_collect_10 (by decide) (fun c_10 => ?_) (fun c_10 => ?_)
  · obtain ⟨jx, hjx, rfl⟩ := isS_lt hW c_10
    have ejx : ix (nI jx) = jx := ix_n (by omega)
    refine lv_iload_n hx hb dX3_collect_19 rfl (lv_at hl 2 rfl) ?_
    refine lv_iconst (v := nI 0) hx hb dX3_collect_20 rfl ?_
    refine lv_iconst (v := nI 2) hx hb dX3_collect_21 rfl ?_
    refine b_ci0 (cs_X3_35 (rest := []) CX hl.1 (m_X3_in l (x := k) (lo := nI 0) (hi := nI 2)  ) rfl hS rfl ⟨rfl, rfl, Nat.le_of_ble_eq_true rfl, Nat.le_of_ble_eq_true rfl⟩ (Nat.le_of_ble_eq_true rfl) dX3_collect_22 ⟨Nat.le_of_ble_eq_true rfl, Nat.le_of_ble_eq_true rfl⟩) hS (fun locs hS => ?_)
    refine b_ifeq (tgt := 38) CX dX3_collect_25 (by decide) (fun c_25 => ?_) (fun c_25 => ?_)
    · refine lv_aload_n hx hb dX3_collect_38 rfl (lv_at hl 0 rfl) ?_
      refine lv_iconst (v := nI 2) hx hb dX3_collect_39 rfl ?_
      refine b_ci (cs_X3_49 (rest := []) CX hl.1 (m_X3_fails l (code := nI 2) hM ) rfl rfl rfl hM.o0 hS rfl ⟨rfl, rfl, Nat.le_of_ble_eq_true rfl, Nat.le_of_ble_eq_true rfl⟩ (Nat.le_of_ble_eq_true rfl) dX3_collect_40 ⟨Nat.le_of_ble_eq_true rfl, Nat.le_of_ble_eq_true rfl⟩) hS (fun r H2 locs hp hS => ?_)
      obtain ⟨rfl, hM9⟩ := hp
      have hM : MW G B0 o H H2 (enc S) sp sv (fun j => nI (t j)) (nI n) (nI tn) (nI 2) pl iw lt on ot nu di := hM.tr hM9
      have ho : o_collect (S, n, L, tn, t) (nI jx) k c_ = (nI 2, nI 0, (S, n, L, tn, t)) := by
        unfold o_collect
        simp only [ejx]
        repeat (first | rw [if_pos (by first | assumption | exact ⟨by assumption, by assumption⟩ | (constructor <;> omega) | omega | exact fun q => absurd q (by assumption) | exact fun q => absurd q.1 (by assumption) | exact fun q => absurd q.2 (by assumption) | exact Int32.not_lt.mpr (by assumption) | exact Int32.not_le.mp (by assumption) | exact fun q => q.2 (by assumption) | exact fun q => absurd q.1 (by omega))] | rw [if_neg (by first | assumption | exact ⟨by assumption, by assumption⟩ | (constructor <;> omega) | omega | exact fun q => absurd q (by assumption) | exact fun q => absurd q.1 (by assumption) | exact fun q => absurd q.2 (by assumption) | exact Int32.not_lt.mpr (by assumption) | exact Int32.not_le.mp (by assumption) | exact fun q => q.2 (by assumption) | exact fun q => absurd q.1 (by omega))])
        first | rfl | (unfold f_ok f_no z_save;  rfl)
      rw [← hQ]
      exact b_iret CX hr hlk hS (Nat.le_of_ble_eq_true rfl) (Nat.le_of_ble_eq_true rfl) dX3_collect_43 ((by rw [ho]; exact ⟨rfl, _, _, _, _, _, _, _, _, _, hM, hSv⟩))
    · refine lv_iload_n hx hb dX3_collect_28 rfl (lv_at hl 3 rfl) ?_
      refine lv_iconst (v := nI 1) hx hb dX3_collect_29 rfl ?_
      refine lv_bipush (v := nI 50) hx hb dX3_collect_30 rfl ?_
      refine b_ci0 (cs_X3_35 (rest := []) CX hl.1 (m_X3_in l (x := c_) (lo := nI 1) (hi := nI 50)  ) rfl hS rfl ⟨rfl, rfl, Nat.le_of_ble_eq_true rfl, Nat.le_of_ble_eq_true rfl⟩ (Nat.le_of_ble_eq_true rfl) dX3_collect_32 ⟨Nat.le_of_ble_eq_true rfl, Nat.le_of_ble_eq_true rfl⟩) hS (fun locs hS => ?_)
      refine b_ifne (tgt := 44) CX dX3_collect_35 (by decide) (fun c_35 => ?_) (fun c_35 => ?_)
      · obtain ⟨jk, hjka, hjkb, rfl⟩ := p_rg (by decide) c_25 (by decide)
        have ejk : ix (nI jk) = jk := ix_n (by omega)
        obtain ⟨jc, hjca, hjcb, rfl⟩ := p_rg (by decide) c_35 (by decide)
        have ejc : ix (nI jc) = jc := ix_n (by omega)
        refine lv_aload_n hx hb dX3_collect_44 rfl (lv_at hl 0 rfl) ?_
        refine lv_iload_n hx hb dX3_collect_45 rfl (lv_at hl 1 rfl) ?_
        refine lv_iload_n hx hb dX3_collect_46 rfl (lv_at hl 2 rfl) ?_
        refine lv_iload_n hx hb dX3_collect_47 rfl (lv_at hl 3 rfl) ?_
        refine b_ci0 (cs_X3_120 (rest := []) CX hl.1 (m_X3_againstCollect l (s_ := jx) (k := jk) (c_ := nI jc) hM hW (by omega) (by omega)) rfl rfl rfl hM.o0 hS rfl ⟨rfl, rfl, Nat.le_of_ble_eq_true rfl, Nat.le_of_ble_eq_true rfl⟩ (Nat.le_of_ble_eq_true rfl) dX3_collect_48 ⟨Nat.le_of_ble_eq_true rfl, Nat.le_of_ble_eq_true rfl⟩) hS (fun locs hS => ?_)
        refine lv_if_le (tgt := 60) hx hb dX3_collect_51 (by decide) (fun c_51 => ?_) (fun c_51 => ?_)
        · have hpk := hJ.2.1 S jx jk jc hJS (by omega) (by omega) (by omega) (a_coll0 c_51)
          refine lv_aload_n hx hb dX3_collect_60 rfl (lv_at hl 0 rfl) ?_
          refine b_cv (cs_X3_53 (rest := []) CX hl.1 (m_X3_save l  hM hn) rfl rfl rfl hM.o0 hS rfl ⟨rfl, rfl, Nat.le_of_ble_eq_true rfl, Nat.le_of_ble_eq_true rfl⟩ (Nat.le_of_ble_eq_true rfl) dX3_collect_61 ⟨Nat.le_of_ble_eq_true rfl, Nat.le_of_ble_eq_true rfl⟩) hS (fun H3 locs hp hS => ?_)
          have hM9 := hp
          have hM : MW G B0 o H H3 (enc S) sp (p_sv sv (enc S) n) (fun j => nI (t j)) (nI (p_sn n)) (nI tn) (nI 0) pl iw lt on ot nu di := hM.tr hM9
          refine lv_aload_n hx hb dX3_collect_64 rfl (lv_at hl 0 rfl) ?_
          refine lv_iload_n hx hb dX3_collect_65 rfl (lv_at hl 1 rfl) ?_
          refine lv_iload_n hx hb dX3_collect_66 rfl (lv_at hl 2 rfl) ?_
          refine lv_iload_n hx hb dX3_collect_67 rfl (lv_at hl 3 rfl) ?_
          refine b_ci (cs_X3_123 (rest := []) CX hl.1 (m_X3_collects l (s_ := jx) (k := jk) (c_ := jc) hM hW (by omega) (by omega) (by omega) hpk) rfl rfl rfl hM.o0 hS rfl ⟨rfl, rfl, Nat.le_of_ble_eq_true rfl, Nat.le_of_ble_eq_true rfl⟩ (Nat.le_of_ble_eq_true rfl) dX3_collect_68 ⟨Nat.le_of_ble_eq_true rfl, Nat.le_of_ble_eq_true rfl⟩) hS (fun r H4 locs hp hS => ?_)
          obtain ⟨rfl, hM9⟩ := hp
          have hM : MW G B0 o H H4 (enc ((s_collect S jx jk jc))) sp (p_sv sv (enc S) n) (fun j => nI (t j)) (nI (p_sn n)) (nI tn) (nI 0) pl iw lt on ot nu di := hM.tr hM9
          refine b_top (x := p_deps (s_coll S jx (p_tk S jx jk (12 * jc))) jk (nI jc)) (y := p_deps S jk (nI jc)) (by simp [p_deps, s_coll]) ?_
          have ho : o_collect (S, n, L, tn, t) (nI jx) (nI jk) (nI jc) = (nI 0, p_deps S jk (nI jc), ((s_collect S jx jk jc), p_sn n, (p_L L S n), tn, t)) := by
            unfold o_collect
            simp only [ejx, ejk, ejc]
            repeat (first | rw [if_pos (by first | assumption | exact ⟨by assumption, by assumption⟩ | (constructor <;> omega) | omega | exact fun q => absurd q (by assumption) | exact fun q => absurd q.1 (by assumption) | exact fun q => absurd q.2 (by assumption) | exact Int32.not_lt.mpr (by assumption) | exact Int32.not_le.mp (by assumption) | exact fun q => q.2 (by assumption) | exact fun q => absurd q.1 (by omega))] | rw [if_neg (by first | assumption | exact ⟨by assumption, by assumption⟩ | (constructor <;> omega) | omega | exact fun q => absurd q (by assumption) | exact fun q => absurd q.1 (by assumption) | exact fun q => absurd q.2 (by assumption) | exact Int32.not_lt.mpr (by assumption) | exact Int32.not_le.mp (by assumption) | exact fun q => q.2 (by assumption) | exact fun q => absurd q.1 (by omega))])
            first | rfl | (unfold f_ok f_no z_save;  rfl)
          rw [← hQ]
          exact b_iret CX hr hlk hS (Nat.le_of_ble_eq_true rfl) (Nat.le_of_ble_eq_true rfl) dX3_collect_71 ((by rw [ho]; exact ⟨rfl, _, _, _, _, _, _, _, _, _, hM, (hSv.save hn _)⟩))
        · refine lv_aload_n hx hb dX3_collect_54 rfl (lv_at hl 0 rfl) ?_
          refine lv_iconst (v := nI 3) hx hb dX3_collect_55 rfl ?_
          refine b_ci (cs_X3_49 (rest := []) CX hl.1 (m_X3_fails l (code := nI 3) hM ) rfl rfl rfl hM.o0 hS rfl ⟨rfl, rfl, Nat.le_of_ble_eq_true rfl, Nat.le_of_ble_eq_true rfl⟩ (Nat.le_of_ble_eq_true rfl) dX3_collect_56 ⟨Nat.le_of_ble_eq_true rfl, Nat.le_of_ble_eq_true rfl⟩) hS (fun r H5 locs hp hS => ?_)
          obtain ⟨rfl, hM9⟩ := hp
          have hM : MW G B0 o H H5 (enc S) sp sv (fun j => nI (t j)) (nI n) (nI tn) (nI 3) pl iw lt on ot nu di := hM.tr hM9
          have ho : o_collect (S, n, L, tn, t) (nI jx) (nI jk) (nI jc) = (nI 3, nI 0, (S, n, L, tn, t)) := by
            unfold o_collect
            simp only [ejx, ejk, ejc]
            repeat (first | rw [if_pos (by first | assumption | exact ⟨by assumption, by assumption⟩ | (constructor <;> omega) | omega | exact fun q => absurd q (by assumption) | exact fun q => absurd q.1 (by assumption) | exact fun q => absurd q.2 (by assumption) | exact Int32.not_lt.mpr (by assumption) | exact Int32.not_le.mp (by assumption) | exact fun q => q.2 (by assumption) | exact fun q => absurd q.1 (by omega))] | rw [if_neg (by first | assumption | exact ⟨by assumption, by assumption⟩ | (constructor <;> omega) | omega | exact fun q => absurd q (by assumption) | exact fun q => absurd q.1 (by assumption) | exact fun q => absurd q.2 (by assumption) | exact Int32.not_lt.mpr (by assumption) | exact Int32.not_le.mp (by assumption) | exact fun q => q.2 (by assumption) | exact fun q => absurd q.1 (by omega))])
            first | rfl | (unfold f_ok f_no z_save;  rfl)
          rw [← hQ]
          exact b_iret CX hr hlk hS (Nat.le_of_ble_eq_true rfl) (Nat.le_of_ble_eq_true rfl) dX3_collect_59 ((by rw [ho]; exact ⟨rfl, _, _, _, _, _, _, _, _, _, hM, hSv⟩))
      · refine lv_aload_n hx hb dX3_collect_38 rfl (lv_at hl 0 rfl) ?_
        refine lv_iconst (v := nI 2) hx hb dX3_collect_39 rfl ?_
        refine b_ci (cs_X3_49 (rest := []) CX hl.1 (m_X3_fails l (code := nI 2) hM ) rfl rfl rfl hM.o0 hS rfl ⟨rfl, rfl, Nat.le_of_ble_eq_true rfl, Nat.le_of_ble_eq_true rfl⟩ (Nat.le_of_ble_eq_true rfl) dX3_collect_40 ⟨Nat.le_of_ble_eq_true rfl, Nat.le_of_ble_eq_true rfl⟩) hS (fun r H6 locs hp hS => ?_)
        obtain ⟨rfl, hM9⟩ := hp
        have hM : MW G B0 o H H6 (enc S) sp sv (fun j => nI (t j)) (nI n) (nI tn) (nI 2) pl iw lt on ot nu di := hM.tr hM9
        have ho : o_collect (S, n, L, tn, t) (nI jx) k c_ = (nI 2, nI 0, (S, n, L, tn, t)) := by
          unfold o_collect
          simp only [ejx]
          repeat (first | rw [if_pos (by first | assumption | exact ⟨by assumption, by assumption⟩ | (constructor <;> omega) | omega | exact fun q => absurd q (by assumption) | exact fun q => absurd q.1 (by assumption) | exact fun q => absurd q.2 (by assumption) | exact Int32.not_lt.mpr (by assumption) | exact Int32.not_le.mp (by assumption) | exact fun q => q.2 (by assumption) | exact fun q => absurd q.1 (by omega))] | rw [if_neg (by first | assumption | exact ⟨by assumption, by assumption⟩ | (constructor <;> omega) | omega | exact fun q => absurd q (by assumption) | exact fun q => absurd q.1 (by assumption) | exact fun q => absurd q.2 (by assumption) | exact Int32.not_lt.mpr (by assumption) | exact Int32.not_le.mp (by assumption) | exact fun q => q.2 (by assumption) | exact fun q => absurd q.1 (by omega))])
          first | rfl | (unfold f_ok f_no z_save;  rfl)
        rw [← hQ]
        exact b_iret CX hr hlk hS (Nat.le_of_ble_eq_true rfl) (Nat.le_of_ble_eq_true rfl) dX3_collect_43 ((by rw [ho]; exact ⟨rfl, _, _, _, _, _, _, _, _, _, hM, hSv⟩))
  · refine lv_aload_n hx hb dX3_collect_13 rfl (lv_at hl 0 rfl) ?_
    refine lv_iconst (v := nI 1) hx hb dX3_collect_14 rfl ?_
    refine b_ci (cs_X3_49 (rest := []) CX hl.1 (m_X3_fails l (code := nI 1) hM ) rfl rfl rfl hM.o0 hS rfl ⟨rfl, rfl, Nat.le_of_ble_eq_true rfl, Nat.le_of_ble_eq_true rfl⟩ (Nat.le_of_ble_eq_true rfl) dX3_collect_15 ⟨Nat.le_of_ble_eq_true rfl, Nat.le_of_ble_eq_true rfl⟩) hS (fun r H7 locs hp hS => ?_)
    obtain ⟨rfl, hM9⟩ := hp
    have hM : MW G B0 o H H7 (enc S) sp sv (fun j => nI (t j)) (nI n) (nI tn) (nI 1) pl iw lt on ot nu di := hM.tr hM9
    have ho : o_collect (S, n, L, tn, t) x k c_ = (nI 1, nI 0, (S, n, L, tn, t)) := by
      unfold o_collect
      repeat (first | rw [if_pos (by first | assumption | exact ⟨by assumption, by assumption⟩ | (constructor <;> omega) | omega | exact fun q => absurd q (by assumption) | exact fun q => absurd q.1 (by assumption) | exact fun q => absurd q.2 (by assumption) | exact Int32.not_lt.mpr (by assumption) | exact Int32.not_le.mp (by assumption) | exact fun q => q.2 (by assumption) | exact fun q => absurd q.1 (by omega))] | rw [if_neg (by first | assumption | exact ⟨by assumption, by assumption⟩ | (constructor <;> omega) | omega | exact fun q => absurd q (by assumption) | exact fun q => absurd q.1 (by assumption) | exact fun q => absurd q.2 (by assumption) | exact Int32.not_lt.mpr (by assumption) | exact Int32.not_le.mp (by assumption) | exact fun q => q.2 (by assumption) | exact fun q => absurd q.1 (by omega))])
      first | rfl | (unfold f_ok f_no z_save;  rfl)
    rw [← hQ]
    exact b_iret CX hr hlk hS (Nat.le_of_ble_eq_true rfl) (Nat.le_of_ble_eq_true rfl) dX3_collect_18 ((by rw [ho]; exact ⟨rfl, _, _, _, _, _, _, _, _, _, hM, hSv⟩))
theorem cs_X3_193 {p : Program} {l : Launch} {e : Env} {R : Room} {s : State} {m : MethodId} {args : Array Value} {below : List Frame} {meth : Method} {c : Code} {H : Heap} {locs : List Loc} {cells slots : Nat} {cc : ByteArray} {pc nL a : Nat} {ls : Array Slot} {rest : List Value} {G : b_G} {B0 : Nat} (CX : b_Cx p s m args c cc nL RX3 G B0) (hls : ls.size = nL) {rm : Room} {mc ms : Nat} {As st0 : List Value} {Qc : Array Value → State → Outcome → State → Prop} (hM : Met l yX3_wouldCollect (ws_ yX3_wouldCollect cX3_wouldCollect 7 (Option.some Jvm.ClassFile.FieldType.int)) rm (b_Pc G B0 H (.ref a :: As)) Qc mc ms (b_A B0)) (hn : As.length = 3) {fs : List Value} {ci : Nat} {qc : vw_C} (hc : b_cl[ci]? = some qc) (hq : qc.1 = RX3) (hP : b_at G a (.inr (ci, fs)) H) (hS : va_S (b_A B0) s.heap H locs) (hst : st0 = As.reverse ++ .ref a :: rest) (hr : rm.cells = mc ∧ rm.slots = ms ∧ rm.frames + 1 ≤ R.frames ∧ 8 + (7 + 11) + rm.locals ≤ R.locals) (hw : (rest.map fun v => v.category).sum ≤ 8) (hdg : decode cc pc = .ok (.invokevirtual 193, 3)) (hf : cells + mc ≤ R.cells ∧ slots + ms ≤ R.slots) : va_Run p l e R s m args below meth c H locs cells slots mc ms (F0 m pc ls st0) rest (Qc (Value.ref a :: As).toArray) (b_A B0) := va_runV CX.fix hM (cwV 3 CX.ts (lw_V q2168 q2170 qs75 q88 q2171) rfl hr.1 hr.2.1 (by decide +kernel) ⟨hr.2.2.1, hr.2.2.2⟩) ⟨b_blind G B0 H _, by have h9 := b_recv CX.K hc hP; rw [hq] at h9; exact h9, b_pre _ CX.K hS⟩ rfl hn hls hst (lv_room hw) hdg hf
set_option maxHeartbeats 2000000 in
set_option maxRecDepth 100000 in
theorem m_X3_collected (l : Launch) {G : b_G} {B0 : Nat} {o : Nat → Nat} {Hr H : Heap} {S : b_St} {sp sv : Nat → Int32} {L : Nat → b_St} {t : Nat → Nat} {n tn : Nat} {th pl iw lt on ot nu di : Int32} {J : b_St → Prop} {x : Int32} {y : Int32} {c_ : Int32} (hM : MW G B0 o Hr H (enc S) sp sv (fun j => nI (t j)) (nI n) (nI tn) th pl iw lt on ot nu di) (hW : b_WF S) (hn : n ≤ 6) (ht : ∀ j, t j < 128) (htn : tn ≤ 60) (hSv : b_Sv sv n L) (hJ : p_J J) (hJS : J S) : Met l yX3_collected (ws_ yX3_collected cX3_collected 4 (Option.some Jvm.ClassFile.FieldType.int)) ({ frames := 5, cells := 0, slots := 0, locals := 119 } : Room) (b_Pc G B0 H [.ref (o 0), .int x, .int y, .int c_]) (b_Qi B0 (fun r H1 => r = (o_collected (S, n, L, tn, t) x y c_).2.1 ∧ MZ G B0 o H H1 (o_collected (S, n, L, tn, t) x y c_).1 (o_collected (S, n, L, tn, t) x y c_).2.2)) 0 0 (b_A B0) := by
  refine b_of (by decide) (Nat.le_of_ble_eq_true rfl) ?_
  intro p e s m below meth c CX hr hlk hnm hS ls hl
  have CX : b_Cx p s m _ c cX3_collected 4 RX3 G B0 := CX
  have hx := CX.hx
  have hb := CX.hb
  have hl : lv_has ls 4 [(0, .ref (o 0)), (1, .int x), (2, .int y), (3, .int c_)] := hl
  generalize hQ : MQ below (b_Qi B0 (fun r H1 => r = (o_collected (S, n, L, tn, t) x y c_).2.1 ∧ MZ G B0 o H H1 (o_collected (S, n, L, tn, t) x y c_).1 (o_collected (S, n, L, tn, t) x y c_).2.2)) ([.ref (o 0), .int x, .int y, .int c_] : List Value).toArray s 0 0 (b_A B0) = Q
  have hM := hM.re
  have hn8 := hW.nb8
  have hn6 := hW.ns6
  refine lv_aload_n hx hb dX3_collected_0 rfl (lv_at hl 0 rfl) ?_
  refine lv_iconst (v := nI 0) hx hb dX3_collected_1 rfl ?_
  refine pf_X3_28_8 CX hM.o0 hS (hM.B (by decide)) rfl rfl (Nat.le_of_ble_eq_true rfl) dX3_collected_2 (fun H1 locs hat hu hS => ?_)
  have hM : MW G B0 o H H1 (enc S) sp sv (fun j => nI (t j)) (nI n) (nI tn) (nI 0) pl iw lt on ot nu di := hM.set0 hat hu
  refine lv_aload_n hx hb dX3_collected_5 rfl (lv_at hl 0 rfl) ?_
  refine lv_iload_n hx hb dX3_collected_6 rfl (lv_at hl 1 rfl) ?_
  refine b_ci0 (cs_X3_92 (rest := []) CX hl.1 (m_X3_isShop l (x := x) hM hW) rfl rfl rfl hM.o0 hS rfl ⟨rfl, rfl, Nat.le_of_ble_eq_true rfl, Nat.le_of_ble_eq_true rfl⟩ (Nat.le_of_ble_eq_true rfl) dX3_collected_7 ⟨Nat.le_of_ble_eq_true rfl, Nat.le_of_ble_eq_true rfl⟩) hS (fun locs hS => ?_)
  refine b_ifeq (tgt := 21) CX dX3_collected_10 (by decide) (fun c_10 => ?_) (fun c_10 => ?_)
  · refine lv_aload_n hx hb dX3_collected_21 rfl (lv_at hl 0 rfl) ?_
    refine lv_iconst (v := nI 1) hx hb dX3_collected_22 rfl ?_
    refine b_ci (cs_X3_49 (rest := []) CX hl.1 (m_X3_fails l (code := nI 1) hM ) rfl rfl rfl hM.o0 hS rfl ⟨rfl, rfl, Nat.le_of_ble_eq_true rfl, Nat.le_of_ble_eq_true rfl⟩ (Nat.le_of_ble_eq_true rfl) dX3_collected_23 ⟨Nat.le_of_ble_eq_true rfl, Nat.le_of_ble_eq_true rfl⟩) hS (fun r H2 locs hp hS => ?_)
    obtain ⟨rfl, hM9⟩ := hp
    have hM : MW G B0 o H H2 (enc S) sp sv (fun j => nI (t j)) (nI n) (nI tn) (nI 1) pl iw lt on ot nu di := hM.tr hM9
    have ho : o_collected (S, n, L, tn, t) x y c_ = (nI 1, nI 0, (S, n, L, tn, t)) := by
      unfold o_collected
      repeat (first | rw [if_pos (by first | assumption | exact ⟨by assumption, by assumption⟩ | (constructor <;> omega) | omega | exact fun q => absurd q (by assumption) | exact fun q => absurd q.1 (by assumption) | exact fun q => absurd q.2 (by assumption) | exact Int32.not_lt.mpr (by assumption) | exact Int32.not_le.mp (by assumption) | exact fun q => q.2 (by assumption) | exact fun q => absurd q.1 (by omega))] | rw [if_neg (by first | assumption | exact ⟨by assumption, by assumption⟩ | (constructor <;> omega) | omega | exact fun q => absurd q (by assumption) | exact fun q => absurd q.1 (by assumption) | exact fun q => absurd q.2 (by assumption) | exact Int32.not_lt.mpr (by assumption) | exact Int32.not_le.mp (by assumption) | exact fun q => q.2 (by assumption) | exact fun q => absurd q.1 (by omega))])
      first | rfl | (unfold f_ok f_no z_save;  rfl)
    rw [← hQ]
    exact b_iret CX hr hlk hS (Nat.le_of_ble_eq_true rfl) (Nat.le_of_ble_eq_true rfl) dX3_collected_26 ((by rw [ho]; exact ⟨rfl, _, _, _, _, _, _, _, _, _, hM, hSv⟩))
  · obtain ⟨jx, hjx, rfl⟩ := isS_lt hW c_10
    have ejx : ix (nI jx) = jx := ix_n (by omega)
    refine lv_aload_n hx hb dX3_collected_13 rfl (lv_at hl 0 rfl) ?_
    refine lv_iload_n hx hb dX3_collected_14 rfl (lv_at hl 2 rfl) ?_
    refine b_ci0 (cs_X3_85 (rest := []) CX hl.1 (m_X3_isBrand l (x := y) hM hW) rfl rfl rfl hM.o0 hS rfl ⟨rfl, rfl, Nat.le_of_ble_eq_true rfl, Nat.le_of_ble_eq_true rfl⟩ (Nat.le_of_ble_eq_true rfl) dX3_collected_15 ⟨Nat.le_of_ble_eq_true rfl, Nat.le_of_ble_eq_true rfl⟩) hS (fun locs hS => ?_)
    refine b_ifne (tgt := 27) CX dX3_collected_18 (by decide) (fun c_18 => ?_) (fun c_18 => ?_)
    · obtain ⟨jy, hjy, rfl⟩ := isB_lt hW c_18
      have ejy : ix (nI jy) = jy := ix_n (by omega)
      refine lv_iload_n hx hb dX3_collected_27 rfl (lv_at hl 3 rfl) ?_
      refine lv_iconst (v := nI 1) hx hb dX3_collected_28 rfl ?_
      refine lv_bipush (v := nI 50) hx hb dX3_collected_29 rfl ?_
      refine b_ci0 (cs_X3_35 (rest := []) CX hl.1 (m_X3_in l (x := c_) (lo := nI 1) (hi := nI 50)  ) rfl hS rfl ⟨rfl, rfl, Nat.le_of_ble_eq_true rfl, Nat.le_of_ble_eq_true rfl⟩ (Nat.le_of_ble_eq_true rfl) dX3_collected_31 ⟨Nat.le_of_ble_eq_true rfl, Nat.le_of_ble_eq_true rfl⟩) hS (fun locs hS => ?_)
      refine b_ifeq (tgt := 47) CX dX3_collected_34 (by decide) (fun c_34 => ?_) (fun c_34 => ?_)
      · refine lv_aload_n hx hb dX3_collected_47 rfl (lv_at hl 0 rfl) ?_
        refine lv_iconst (v := nI 2) hx hb dX3_collected_48 rfl ?_
        refine b_ci (cs_X3_49 (rest := []) CX hl.1 (m_X3_fails l (code := nI 2) hM ) rfl rfl rfl hM.o0 hS rfl ⟨rfl, rfl, Nat.le_of_ble_eq_true rfl, Nat.le_of_ble_eq_true rfl⟩ (Nat.le_of_ble_eq_true rfl) dX3_collected_49 ⟨Nat.le_of_ble_eq_true rfl, Nat.le_of_ble_eq_true rfl⟩) hS (fun r H3 locs hp hS => ?_)
        obtain ⟨rfl, hM9⟩ := hp
        have hM : MW G B0 o H H3 (enc S) sp sv (fun j => nI (t j)) (nI n) (nI tn) (nI 2) pl iw lt on ot nu di := hM.tr hM9
        have ho : o_collected (S, n, L, tn, t) (nI jx) (nI jy) c_ = (nI 2, nI 0, (S, n, L, tn, t)) := by
          unfold o_collected
          simp only [ejx, ejy]
          repeat (first | rw [if_pos (by first | assumption | exact ⟨by assumption, by assumption⟩ | (constructor <;> omega) | omega | exact fun q => absurd q (by assumption) | exact fun q => absurd q.1 (by assumption) | exact fun q => absurd q.2 (by assumption) | exact Int32.not_lt.mpr (by assumption) | exact Int32.not_le.mp (by assumption) | exact fun q => q.2 (by assumption) | exact fun q => absurd q.1 (by omega))] | rw [if_neg (by first | assumption | exact ⟨by assumption, by assumption⟩ | (constructor <;> omega) | omega | exact fun q => absurd q (by assumption) | exact fun q => absurd q.1 (by assumption) | exact fun q => absurd q.2 (by assumption) | exact Int32.not_lt.mpr (by assumption) | exact Int32.not_le.mp (by assumption) | exact fun q => q.2 (by assumption) | exact fun q => absurd q.1 (by omega))])
          first | rfl | (unfold f_ok f_no z_save;  rfl)
        rw [← hQ]
        exact b_iret CX hr hlk hS (Nat.le_of_ble_eq_true rfl) (Nat.le_of_ble_eq_true rfl) dX3_collected_52 ((by rw [ho]; exact ⟨rfl, _, _, _, _, _, _, _, _, _, hM, hSv⟩))
      · obtain ⟨jc, hjca, hjcb, rfl⟩ := p_rg (by decide) c_34 (by decide)
        have ejc : ix (nI jc) = jc := ix_n (by omega)
        refine lv_aload_n hx hb dX3_collected_37 rfl (lv_at hl 0 rfl) ?_
        refine lv_iload_n hx hb dX3_collected_38 rfl (lv_at hl 1 rfl) ?_
        refine lv_iload_n hx hb dX3_collected_39 rfl (lv_at hl 2 rfl) ?_
        refine lv_iload_n hx hb dX3_collected_40 rfl (lv_at hl 3 rfl) ?_
        refine b_ci (cs_X3_193 (rest := []) CX hl.1 (m_X3_wouldCollect l (s_ := jx) (b := jy) (c_ := jc) hM hW (by omega) (by omega) (by omega) (fun q => hJ.2.1 _ _ _ _ hJS (by omega) (hW.kd3 (by omega)) (by omega) (a_coll0 q))) rfl rfl rfl hM.o0 hS rfl ⟨rfl, rfl, Nat.le_of_ble_eq_true rfl, Nat.le_of_ble_eq_true rfl⟩ (Nat.le_of_ble_eq_true rfl) dX3_collected_41 ⟨Nat.le_of_ble_eq_true rfl, Nat.le_of_ble_eq_true rfl⟩) hS (fun r H4 locs hp hS => ?_)
        obtain ⟨sp95, rfl, hM9⟩ := hp
        have hM : MW G B0 o H H4 (enc S) sp95 sv (fun j => nI (t j)) (nI n) (nI tn) (nI 0) pl iw lt on ot nu di := hM.tr hM9
        refine lv_goto (tgt := 52) hx hb dX3_collected_44 (by decide) ?_
        have ho : o_collected (S, n, L, tn, t) (nI jx) (nI jy) (nI jc) = (nI 0, p_would S jx jy jc, (S, n, L, tn, t)) := by
          unfold o_collected
          simp only [ejx, ejy, ejc]
          repeat (first | rw [if_pos (by first | assumption | exact ⟨by assumption, by assumption⟩ | (constructor <;> omega) | omega | exact fun q => absurd q (by assumption) | exact fun q => absurd q.1 (by assumption) | exact fun q => absurd q.2 (by assumption) | exact Int32.not_lt.mpr (by assumption) | exact Int32.not_le.mp (by assumption) | exact fun q => q.2 (by assumption) | exact fun q => absurd q.1 (by omega))] | rw [if_neg (by first | assumption | exact ⟨by assumption, by assumption⟩ | (constructor <;> omega) | omega | exact fun q => absurd q (by assumption) | exact fun q => absurd q.1 (by assumption) | exact fun q => absurd q.2 (by assumption) | exact Int32.not_lt.mpr (by assumption) | exact Int32.not_le.mp (by assumption) | exact fun q => q.2 (by assumption) | exact fun q => absurd q.1 (by omega))])
          first | rfl | (unfold f_ok f_no z_save;  rfl)
        rw [← hQ]
        exact b_iret CX hr hlk hS (Nat.le_of_ble_eq_true rfl) (Nat.le_of_ble_eq_true rfl) dX3_collected_52 ((by rw [ho]; exact ⟨rfl, _, _, _, _, _, _, _, _, _, hM, hSv⟩))
    · refine lv_aload_n hx hb dX3_collected_21 rfl (lv_at hl 0 rfl) ?_
      refine lv_iconst (v := nI 1) hx hb dX3_collected_22 rfl ?_
      refine b_ci (cs_X3_49 (rest := []) CX hl.1 (m_X3_fails l (code := nI 1) hM ) rfl rfl rfl hM.o0 hS rfl ⟨rfl, rfl, Nat.le_of_ble_eq_true rfl, Nat.le_of_ble_eq_true rfl⟩ (Nat.le_of_ble_eq_true rfl) dX3_collected_23 ⟨Nat.le_of_ble_eq_true rfl, Nat.le_of_ble_eq_true rfl⟩) hS (fun r H6 locs hp hS => ?_)
      obtain ⟨rfl, hM9⟩ := hp
      have hM : MW G B0 o H H6 (enc S) sp sv (fun j => nI (t j)) (nI n) (nI tn) (nI 1) pl iw lt on ot nu di := hM.tr hM9
      have ho : o_collected (S, n, L, tn, t) (nI jx) y c_ = (nI 1, nI 0, (S, n, L, tn, t)) := by
        unfold o_collected
        simp only [ejx]
        repeat (first | rw [if_pos (by first | assumption | exact ⟨by assumption, by assumption⟩ | (constructor <;> omega) | omega | exact fun q => absurd q (by assumption) | exact fun q => absurd q.1 (by assumption) | exact fun q => absurd q.2 (by assumption) | exact Int32.not_lt.mpr (by assumption) | exact Int32.not_le.mp (by assumption) | exact fun q => q.2 (by assumption) | exact fun q => absurd q.1 (by omega))] | rw [if_neg (by first | assumption | exact ⟨by assumption, by assumption⟩ | (constructor <;> omega) | omega | exact fun q => absurd q (by assumption) | exact fun q => absurd q.1 (by assumption) | exact fun q => absurd q.2 (by assumption) | exact Int32.not_lt.mpr (by assumption) | exact Int32.not_le.mp (by assumption) | exact fun q => q.2 (by assumption) | exact fun q => absurd q.1 (by omega))])
        first | rfl | (unfold f_ok f_no z_save;  rfl)
      rw [← hQ]
      exact b_iret CX hr hlk hS (Nat.le_of_ble_eq_true rfl) (Nat.le_of_ble_eq_true rfl) dX3_collected_26 ((by rw [ho]; exact ⟨rfl, _, _, _, _, _, _, _, _, _, hM, hSv⟩))
set_option maxHeartbeats 2000000 in
set_option maxRecDepth 100000 in
theorem m_X3_undo (l : Launch) {G : b_G} {B0 : Nat} {o : Nat → Nat} {Hr H : Heap} {S : b_St} {sp sv : Nat → Int32} {L : Nat → b_St} {t : Nat → Nat} {n tn : Nat} {th pl iw lt on ot nu di : Int32} (hM : MW G B0 o Hr H (enc S) sp sv (fun j => nI (t j)) (nI n) (nI tn) th pl iw lt on ot nu di) (hW : b_WF S) (hn : n ≤ 6) (ht : ∀ j, t j < 128) (htn : tn ≤ 60) (hSv : b_Sv sv n L) : Met l yX3_undo (ws_ yX3_undo cX3_undo 2 (Option.some Jvm.ClassFile.FieldType.int)) ({ frames := 1, cells := 0, slots := 0, locals := 21 } : Room) (b_Pc G B0 H [.ref (o 0)]) (b_Qi B0 (fun r H1 => r = (o_undo (S, n, L, tn, t) ).2.1 ∧ MZ G B0 o H H1 (o_undo (S, n, L, tn, t) ).1 (o_undo (S, n, L, tn, t) ).2.2)) 0 0 (b_A B0) := by
  refine b_of (by decide) (Nat.le_of_ble_eq_true rfl) ?_
  intro p e s m below meth c CX hr hlk hnm hS ls hl
  have CX : b_Cx p s m _ c cX3_undo 2 RX3 G B0 := CX
  have hx := CX.hx
  have hb := CX.hb
  have hl : lv_has ls 2 [(0, .ref (o 0))] := hl
  generalize hQ : MQ below (b_Qi B0 (fun r H1 => r = (o_undo (S, n, L, tn, t) ).2.1 ∧ MZ G B0 o H H1 (o_undo (S, n, L, tn, t) ).1 (o_undo (S, n, L, tn, t) ).2.2)) ([.ref (o 0)] : List Value).toArray s 0 0 (b_A B0) = Q
  have hM := hM.re
  have hn8 := hW.nb8
  have hn6 := hW.ns6
  refine lv_aload_n hx hb dX3_undo_0 rfl (lv_at hl 0 rfl) ?_
  refine lv_iconst (v := nI 0) hx hb dX3_undo_1 rfl ?_
  refine pf_X3_28_8 CX hM.o0 hS (hM.B (by decide)) rfl rfl (Nat.le_of_ble_eq_true rfl) dX3_undo_2 (fun H1 locs hat hu hS => ?_)
  have hM : MW G B0 o H H1 (enc S) sp sv (fun j => nI (t j)) (nI n) (nI tn) (nI 0) pl iw lt on ot nu di := hM.set0 hat hu
  refine lv_aload_n hx hb dX3_undo_5 rfl (lv_at hl 0 rfl) ?_
  refine gf_X3_32_8 CX hM.o0 rfl dX3_undo_6 ?_
  refine b_if_neN (tgt := 18) CX (by omega) dX3_undo_9 (by decide) (fun c_9 => ?_) (fun c_9 => ?_)
  · refine lv_aload_n hx hb dX3_undo_18 rfl (lv_at hl 0 rfl) ?_
    refine lv_dup hx hb dX3_undo_19 rfl ?_
    refine gf_X3_32_8 CX hM.o0 rfl dX3_undo_20 ?_
    refine lv_iconst (v := nI 1) hx hb dX3_undo_23 rfl ?_
    refine b_isubN CX (by omega) dX3_undo_24 ?_
    refine pf_X3_32_8 CX hM.o0 hS (hM.B (by decide)) rfl rfl (Nat.le_of_ble_eq_true rfl) dX3_undo_25 (fun H2 locs hat hu hS => ?_)
    have hM : MW G B0 o H H2 (enc S) sp sv (fun j => nI (t j)) (nI (n - 1)) (nI tn) (nI 0) pl iw lt on ot nu di := hM.set0 hat hu
    refine lv_iconst (v := nI 0) hx hb dX3_undo_28 rfl ?_
    refine lv_istore_n (lv' := [(1, .int (nI 0)), (0, .ref (o 0))]) hx hb dX3_undo_29 rfl hl (Nat.le_of_ble_eq_true rfl) rfl (fun ls hl => ?_)
    have hM : MW G B0 o H H2 (p_ud (enc S) (fun j => sv (283 * (n - 1) + j)) 0) sp sv (fun j => nI (t j)) (nI (n - 1)) (nI tn) (nI 0) pl iw lt on ot nu di := by rw [p_ud_0]; exact hM
    have lp30_3 : ∀ (n_ : Nat) (i : Nat), i ≤ 283 → 283 - i < n_ → ∀ (H4 : Heap), MW G B0 o H H4 (p_ud (enc S) (fun j => sv (283 * (n - 1) + j)) i) sp sv (fun j => nI (t j)) (nI (n - 1)) (nI tn) (nI 0) pl iw lt on ot nu di → ∀ (locs : List Loc), va_S (b_A B0) s.heap H4 locs → ∀ ls : Array Slot, lv_has ls 2 [(1, .int (nI i)), (0, .ref (o 0))] → W p l e ({ frames := 1, cells := 0, slots := 0, locals := 21 } : Room) s m ([.ref (o 0)] : List Value).toArray below meth c H4 locs 0 0 Q (F0 m 30 ls []) := by
      intro n_
      induction n_ with
      | zero => intro i hi hlt H4 hM locs hS ls hl; exact absurd hlt (Nat.not_lt_zero _)
      | succ n_ ih30 =>
        intro i hi hlt H4 hM locs hS ls hl
        refine lv_iload_n hx hb dX3_undo_30 rfl (lv_at hl 0 rfl) ?_
        refine lv_sipush (v := nI 283) hx hb dX3_undo_31 rfl ?_
        refine b_icmp_geN (tgt := 64) CX (by omega) (by omega) dX3_undo_34 (by decide) (fun c_34 => ?_) (fun c_34 => ?_)
        · obtain rfl : i = 283 := by omega
          have hM : MW G B0 o H H4 (enc ((L (n - 1)))) sp sv (fun j => nI (t j)) (nI (n - 1)) (nI tn) (nI 0) pl iw lt on ot nu di := hM.cg (p_ud_e (fun j hj => hSv (n - 1) (by omega) j hj))
          refine lv_aload_n hx hb dX3_undo_64 rfl (lv_at hl 1 rfl) ?_
          refine gf_X3_32_8 CX hM.o0 rfl dX3_undo_65 ?_
          have ho : o_undo (S, n, L, tn, t)  = (nI 0, nI (n - 1), ((L (n - 1)), n - 1, L, tn, t)) := by
            unfold o_undo
            repeat (first | rw [if_pos (by first | assumption | exact ⟨by assumption, by assumption⟩ | (constructor <;> omega) | omega | exact fun q => absurd q (by assumption) | exact fun q => absurd q.1 (by assumption) | exact fun q => absurd q.2 (by assumption) | exact Int32.not_lt.mpr (by assumption) | exact Int32.not_le.mp (by assumption) | exact fun q => q.2 (by assumption) | exact fun q => absurd q.1 (by omega))] | rw [if_neg (by first | assumption | exact ⟨by assumption, by assumption⟩ | (constructor <;> omega) | omega | exact fun q => absurd q (by assumption) | exact fun q => absurd q.1 (by assumption) | exact fun q => absurd q.2 (by assumption) | exact Int32.not_lt.mpr (by assumption) | exact Int32.not_le.mp (by assumption) | exact fun q => q.2 (by assumption) | exact fun q => absurd q.1 (by omega))])
            first | rfl | (unfold f_ok f_no z_save; unfold z_undo; rfl)
          rw [← hQ]
          exact b_iret CX hr hlk hS (Nat.le_of_ble_eq_true rfl) (Nat.le_of_ble_eq_true rfl) dX3_undo_68 ((by rw [ho]; exact ⟨rfl, _, _, _, _, _, _, _, _, _, hM, (fun k hk => hSv k (Nat.lt_of_lt_of_le hk (Nat.sub_le _ _)))⟩))
        · refine lv_aload_n hx hb dX3_undo_37 rfl (lv_at hl 1 rfl) ?_
          refine gf_X3_7_8 CX hM.o0 rfl dX3_undo_38 ?_
          refine lv_iload_n hx hb dX3_undo_41 rfl (lv_at hl 0 rfl) ?_
          refine lv_aload_n hx hb dX3_undo_42 rfl (lv_at hl 1 rfl) ?_
          refine gf_X3_16_8 CX hM.o0 rfl dX3_undo_43 ?_
          refine lv_sipush (v := nI 283) hx hb dX3_undo_46 rfl ?_
          refine lv_aload_n hx hb dX3_undo_49 rfl (lv_at hl 1 rfl) ?_
          refine gf_X3_32_8 CX hM.o0 rfl dX3_undo_50 ?_
          refine b_imulN CX dX3_undo_53 ?_
          refine lv_iload_n hx hb dX3_undo_54 rfl (lv_at hl 0 rfl) ?_
          refine b_iaddN CX dX3_undo_55 ?_
          refine b_ild CX hM.o3 (x := sv (283 * (n - 1) + i)) (vp_in_nI (by omega) (by omega)) (b_at_nI (f := sv) (n := 283 * (n - 1) + i) (by omega) rfl) dX3_undo_56 ?_
          refine b_ist CX hM.o1 hS (hM.B (by decide)) (vp_in_nI (by omega) (by omega)) dX3_undo_57 (fun H5 locs hat hu hS => ?_)
          have hM : MW G B0 o H H5 (p_ud (enc S) (fun j => sv (283 * (n - 1) + j)) (i + 1)) sp sv (fun j => nI (t j)) (nI (n - 1)) (nI tn) (nI 0) pl iw lt on ot nu di := hM.set1 (b_up_nI (by omega) (p_ud_s _ (fun j => sv (283 * (n - 1) + j)) _)) hat hu
          refine lv_iinc (v := nI (i + 1)) (lv' := [(1, .int (nI (i + 1))), (0, .ref (o 0))]) hx hb dX3_undo_58 hl (k := 0) rfl (nI_1 _) (Nat.le_of_ble_eq_true rfl) rfl (fun ls hl => ?_)
          refine lv_goto (tgt := 30) hx hb dX3_undo_61 (by decide) ?_
          exact ih30 (i + 1) (by omega) (by omega) H5 hM _ hS ls (lv_sub hl [0, 1] rfl)
    exact lp30_3 _ 0 (Nat.zero_le _) (Nat.lt_succ_self _) H2 hM _ hS ls (lv_sub hl [0, 1] rfl)
  · refine lv_aload_n hx hb dX3_undo_12 rfl (lv_at hl 0 rfl) ?_
    refine lv_iconst (v := nI 1) hx hb dX3_undo_13 rfl ?_
    refine b_ci (cs_X3_49 (rest := []) CX hl.1 (m_X3_fails l (code := nI 1) hM ) rfl rfl rfl hM.o0 hS rfl ⟨rfl, rfl, Nat.le_of_ble_eq_true rfl, Nat.le_of_ble_eq_true rfl⟩ (Nat.le_of_ble_eq_true rfl) dX3_undo_14 ⟨Nat.le_of_ble_eq_true rfl, Nat.le_of_ble_eq_true rfl⟩) hS (fun r H6 locs hp hS => ?_)
    obtain ⟨rfl, hM9⟩ := hp
    have hM : MW G B0 o H H6 (enc S) sp sv (fun j => nI (t j)) (nI n) (nI tn) (nI 1) pl iw lt on ot nu di := hM.tr hM9
    have ho : o_undo (S, n, L, tn, t)  = (nI 1, nI 0, (S, n, L, tn, t)) := by
      unfold o_undo
      repeat (first | rw [if_pos (by first | assumption | exact ⟨by assumption, by assumption⟩ | (constructor <;> omega) | omega | exact fun q => absurd q (by assumption) | exact fun q => absurd q.1 (by assumption) | exact fun q => absurd q.2 (by assumption) | exact Int32.not_lt.mpr (by assumption) | exact Int32.not_le.mp (by assumption) | exact fun q => q.2 (by assumption) | exact fun q => absurd q.1 (by omega))] | rw [if_neg (by first | assumption | exact ⟨by assumption, by assumption⟩ | (constructor <;> omega) | omega | exact fun q => absurd q (by assumption) | exact fun q => absurd q.1 (by assumption) | exact fun q => absurd q.2 (by assumption) | exact Int32.not_lt.mpr (by assumption) | exact Int32.not_le.mp (by assumption) | exact fun q => q.2 (by assumption) | exact fun q => absurd q.1 (by omega))])
      first | rfl | (unfold f_ok f_no z_save; unfold z_undo; rfl)
    rw [← hQ]
    exact b_iret CX hr hlk hS (Nat.le_of_ble_eq_true rfl) (Nat.le_of_ble_eq_true rfl) dX3_undo_17 ((by rw [ho]; exact ⟨rfl, _, _, _, _, _, _, _, _, _, hM, hSv⟩))
theorem cs_X3_167 {p : Program} {l : Launch} {e : Env} {R : Room} {s : State} {m : MethodId} {args : Array Value} {below : List Frame} {meth : Method} {c : Code} {H : Heap} {locs : List Loc} {cells slots : Nat} {cc : ByteArray} {pc nL a : Nat} {ls : Array Slot} {rest : List Value} {G : b_G} {B0 : Nat} (CX : b_Cx p s m args c cc nL RX3 G B0) (hls : ls.size = nL) {rm : Room} {mc ms : Nat} {As st0 : List Value} {Qc : Array Value → State → Outcome → State → Prop} (hM : Met l yX3_reads (ws_ yX3_reads cX3_reads 2 (Option.some Jvm.ClassFile.FieldType.int)) rm (b_Pc G B0 H (.ref a :: As)) Qc mc ms (b_A B0)) (hn : As.length = 0) {fs : List Value} {ci : Nat} {qc : vw_C} (hc : b_cl[ci]? = some qc) (hq : qc.1 = RX3) (hP : b_at G a (.inr (ci, fs)) H) (hS : va_S (b_A B0) s.heap H locs) (hst : st0 = As.reverse ++ .ref a :: rest) (hr : rm.cells = mc ∧ rm.slots = ms ∧ rm.frames + 1 ≤ R.frames ∧ 8 + (2 + 11) + rm.locals ≤ R.locals) (hw : (rest.map fun v => v.category).sum ≤ 8) (hdg : decode cc pc = .ok (.invokevirtual 167, 3)) (hf : cells + mc ≤ R.cells ∧ slots + ms ≤ R.slots) : va_Run p l e R s m args below meth c H locs cells slots mc ms (F0 m pc ls st0) rest (Qc (Value.ref a :: As).toArray) (b_A B0) := va_runV CX.fix hM (cwV 0 CX.ts (lw_V q2076 q2078 qs62 q88 q2079) rfl hr.1 hr.2.1 (by decide +kernel) ⟨hr.2.2.1, hr.2.2.2⟩) ⟨b_blind G B0 H _, by have h9 := b_recv CX.K hc hP; rw [hq] at h9; exact h9, b_pre _ CX.K hS⟩ rfl hn hls hst (lv_room hw) hdg hf
set_option maxHeartbeats 2000000 in
set_option maxRecDepth 100000 in
theorem m_X3_firstError (l : Launch) {G : b_G} {B0 : Nat} {o : Nat → Nat} {Hr H : Heap} {S : b_St} {sp sv : Nat → Int32} {L : Nat → b_St} {t : Nat → Nat} {n tn : Nat} {th pl iw lt on ot nu di : Int32} (hM : MW G B0 o Hr H (enc S) sp sv (fun j => nI (t j)) (nI n) (nI tn) th pl iw lt on ot nu di) (hW : b_WF S) (hn : n ≤ 6) (ht : ∀ j, t j < 128) (htn : tn ≤ 60) (hSv : b_Sv sv n L) : Met l yX3_firstError (ws_ yX3_firstError cX3_firstError 1 (Option.some Jvm.ClassFile.FieldType.int)) ({ frames := 4, cells := 0, slots := 0, locals := 87 } : Room) (b_Pc G B0 H [.ref (o 0)]) (b_Qi B0 (fun r H1 => r = (o_first (S, n, L, tn, t) ).2.1 ∧ MZ G B0 o H H1 (o_first (S, n, L, tn, t) ).1 (o_first (S, n, L, tn, t) ).2.2)) 0 0 (b_A B0) := by
  refine b_of (by decide) (Nat.le_of_ble_eq_true rfl) ?_
  intro p e s m below meth c CX hr hlk hnm hS ls hl
  have CX : b_Cx p s m _ c cX3_firstError 1 RX3 G B0 := CX
  have hx := CX.hx
  have hb := CX.hb
  have hl : lv_has ls 1 [(0, .ref (o 0))] := hl
  generalize hQ : MQ below (b_Qi B0 (fun r H1 => r = (o_first (S, n, L, tn, t) ).2.1 ∧ MZ G B0 o H H1 (o_first (S, n, L, tn, t) ).1 (o_first (S, n, L, tn, t) ).2.2)) ([.ref (o 0)] : List Value).toArray s 0 0 (b_A B0) = Q
  have hM := hM.re
  have hn8 := hW.nb8
  have hn6 := hW.ns6
  refine lv_aload_n hx hb dX3_firstError_0 rfl (lv_at hl 0 rfl) ?_
  refine lv_iconst (v := nI 0) hx hb dX3_firstError_1 rfl ?_
  refine pf_X3_28_8 CX hM.o0 hS (hM.B (by decide)) rfl rfl (Nat.le_of_ble_eq_true rfl) dX3_firstError_2 (fun H1 locs hat hu hS => ?_)
  have hM : MW G B0 o H H1 (enc S) sp sv (fun j => nI (t j)) (nI n) (nI tn) (nI 0) pl iw lt on ot nu di := hM.set0 hat hu
  refine lv_aload_n hx hb dX3_firstError_5 rfl (lv_at hl 0 rfl) ?_
  refine b_ci (cs_X3_167 (rest := []) CX hl.1 (m_X3_reads l  hM ht (by omega)) rfl rfl rfl hM.o0 hS rfl ⟨rfl, rfl, Nat.le_of_ble_eq_true rfl, Nat.le_of_ble_eq_true rfl⟩ (Nat.le_of_ble_eq_true rfl) dX3_firstError_6 ⟨Nat.le_of_ble_eq_true rfl, Nat.le_of_ble_eq_true rfl⟩) hS (fun r H2 locs hp hS => ?_)
  obtain ⟨p93, w93, lt93, on93, ot93, nu93, di93, hq3, hp3, hw3, rfl, hM9⟩ := hp
  have hM : MW G B0 o H H2 (enc S) sp sv (fun j => nI (t j)) (nI n) (nI tn) (nI 0) (nI p93) (nI w93) lt93 on93 ot93 nu93 di93 := hM.tr hM9
  have ho : o_first (S, n, L, tn, t) = f_ok (nI p93) (S, n, L, tn, t) := congrArg (fun z : Nat × Nat => f_ok (nI z.1) (S, n, L, tn, t)) hq3
  rw [← hQ]
  exact b_iret CX hr hlk hS (Nat.le_of_ble_eq_true rfl) (Nat.le_of_ble_eq_true rfl) dX3_firstError_9 ((by rw [ho]; exact ⟨rfl, _, _, _, _, _, _, _, _, _, hM, hSv⟩))
theorem cs_X3_199 {p : Program} {l : Launch} {e : Env} {R : Room} {s : State} {m : MethodId} {args : Array Value} {below : List Frame} {meth : Method} {c : Code} {H : Heap} {locs : List Loc} {cells slots : Nat} {cc : ByteArray} {pc nL a : Nat} {ls : Array Slot} {rest : List Value} {G : b_G} {B0 : Nat} (CX : b_Cx p s m args c cc nL RX3 G B0) (hls : ls.size = nL) {rm : Room} {mc ms : Nat} {As st0 : List Value} {Qc : Array Value → State → Outcome → State → Prop} (hM : Met l yX3_gone (ws_ yX3_gone cX3_gone 5 (Option.some Jvm.ClassFile.FieldType.double)) rm (b_Pc G B0 H (.ref a :: As)) Qc mc ms (b_A B0)) (hn : As.length = 0) {fs : List Value} {ci : Nat} {qc : vw_C} (hc : b_cl[ci]? = some qc) (hq : qc.1 = RX3) (hP : b_at G a (.inr (ci, fs)) H) (hS : va_S (b_A B0) s.heap H locs) (hst : st0 = As.reverse ++ .ref a :: rest) (hr : rm.cells = mc ∧ rm.slots = ms ∧ rm.frames + 1 ≤ R.frames ∧ 8 + (5 + 11) + rm.locals ≤ R.locals) (hw : (rest.map fun v => v.category).sum ≤ 8) (hdg : decode cc pc = .ok (.invokevirtual 199, 3)) (hf : cells + mc ≤ R.cells ∧ slots + ms ≤ R.slots) : va_Run p l e R s m args below meth c H locs cells slots mc ms (F0 m pc ls st0) rest (Qc (Value.ref a :: As).toArray) (b_A B0) := va_runV CX.fix hM (cwV 0 CX.ts (lw_V q2188 q2190 qs77 q88 q2191) rfl hr.1 hr.2.1 (by decide +kernel) ⟨hr.2.2.1, hr.2.2.2⟩) ⟨b_blind G B0 H _, by have h9 := b_recv CX.K hc hP; rw [hq] at h9; exact h9, b_pre _ CX.K hS⟩ rfl hn hls hst (lv_room hw) hdg hf
set_option maxHeartbeats 2000000 in
set_option maxRecDepth 100000 in
theorem m_X3_goneShare (l : Launch) {G : b_G} {B0 : Nat} {o : Nat → Nat} {Hr H : Heap} {S : b_St} {sp sv : Nat → Int32} {L : Nat → b_St} {t : Nat → Nat} {n tn : Nat} {th pl iw lt on ot nu di : Int32} (hM : MW G B0 o Hr H (enc S) sp sv (fun j => nI (t j)) (nI n) (nI tn) th pl iw lt on ot nu di) (hW : b_WF S) (hn : n ≤ 6) (ht : ∀ j, t j < 128) (htn : tn ≤ 60) (hSv : b_Sv sv n L) (hnan : ¬ p_all S = 0 → vf_n64 (FP.ddiv (FP.i2d (p_gone S)) (FP.i2d (p_all S)))) : Met l yX3_goneShare (ws_ yX3_goneShare cX3_goneShare 1 (Option.some Jvm.ClassFile.FieldType.double)) ({ frames := 5, cells := 0, slots := 0, locals := 113 } : Room) (b_Pc G B0 H [.ref (o 0)]) (b_Qd B0 (fun r H1 => r = p_share S ∧ MZ G B0 o H H1 (nI 0) (S, n, L, tn, t))) 0 0 (b_A B0) := by
  refine b_of (by decide) (Nat.le_of_ble_eq_true rfl) ?_
  intro p e s m below meth c CX hr hlk hnm hS ls hl
  have CX : b_Cx p s m _ c cX3_goneShare 1 RX3 G B0 := CX
  have hx := CX.hx
  have hb := CX.hb
  have hl : lv_has ls 1 [(0, .ref (o 0))] := hl
  generalize hQ : MQ below (b_Qd B0 (fun r H1 => r = p_share S ∧ MZ G B0 o H H1 (nI 0) (S, n, L, tn, t))) ([.ref (o 0)] : List Value).toArray s 0 0 (b_A B0) = Q
  have hM := hM.re
  have hn8 := hW.nb8
  have hn6 := hW.ns6
  refine lv_aload_n hx hb dX3_goneShare_0 rfl (lv_at hl 0 rfl) ?_
  refine lv_iconst (v := nI 0) hx hb dX3_goneShare_1 rfl ?_
  refine pf_X3_28_8 CX hM.o0 hS (hM.B (by decide)) rfl rfl (Nat.le_of_ble_eq_true rfl) dX3_goneShare_2 (fun H1 locs hat hu hS => ?_)
  have hM : MW G B0 o H H1 (enc S) sp sv (fun j => nI (t j)) (nI n) (nI tn) (nI 0) pl iw lt on ot nu di := hM.set0 hat hu
  refine lv_aload_n hx hb dX3_goneShare_5 rfl (lv_at hl 0 rfl) ?_
  refine b_cd0 (cs_X3_199 (rest := []) CX hl.1 (m_X3_gone l  hM hW hnan) rfl rfl rfl hM.o0 hS rfl ⟨rfl, rfl, Nat.le_of_ble_eq_true rfl, Nat.le_of_ble_eq_true rfl⟩ (Nat.le_of_ble_eq_true rfl) dX3_goneShare_6 ⟨Nat.le_of_ble_eq_true rfl, Nat.le_of_ble_eq_true rfl⟩) hS (fun locs hS => ?_)
  rw [← hQ]
  exact b_dret CX hr hlk hS (Nat.le_of_ble_eq_true rfl) (Nat.le_of_ble_eq_true rfl) dX3_goneShare_9 (⟨rfl, _, _, _, _, _, _, _, _, _, hM, hSv⟩)
theorem cs_X3_170 {p : Program} {l : Launch} {e : Env} {R : Room} {s : State} {m : MethodId} {args : Array Value} {below : List Frame} {meth : Method} {c : Code} {H : Heap} {locs : List Loc} {cells slots : Nat} {cc : ByteArray} {pc nL a : Nat} {ls : Array Slot} {rest : List Value} {G : b_G} {B0 : Nat} (CX : b_Cx p s m args c cc nL RX3 G B0) (hls : ls.size = nL) {rm : Room} {mc ms : Nat} {As st0 : List Value} {Qc : Array Value → State → Outcome → State → Prop} (hM : Met l yX3_againstOrder (ws_ yX3_againstOrder cX3_againstOrder 4 (Option.some Jvm.ClassFile.FieldType.int)) rm (b_Pc G B0 H (.ref a :: As)) Qc mc ms (b_A B0)) (hn : As.length = 0) {fs : List Value} {ci : Nat} {qc : vw_C} (hc : b_cl[ci]? = some qc) (hq : qc.1 = RX3) (hP : b_at G a (.inr (ci, fs)) H) (hS : va_S (b_A B0) s.heap H locs) (hst : st0 = As.reverse ++ .ref a :: rest) (hr : rm.cells = mc ∧ rm.slots = ms ∧ rm.frames + 1 ≤ R.frames ∧ 8 + (4 + 11) + rm.locals ≤ R.locals) (hw : (rest.map fun v => v.category).sum ≤ 8) (hdg : decode cc pc = .ok (.invokevirtual 170, 3)) (hf : cells + mc ≤ R.cells ∧ slots + ms ≤ R.slots) : va_Run p l e R s m args below meth c H locs cells slots mc ms (F0 m pc ls st0) rest (Qc (Value.ref a :: As).toArray) (b_A B0) := va_runV CX.fix hM (cwV 0 CX.ts (lw_V q2100 q2102 qs67 q88 q2103) rfl hr.1 hr.2.1 (by decide +kernel) ⟨hr.2.2.1, hr.2.2.2⟩) ⟨b_blind G B0 H _, by have h9 := b_recv CX.K hc hP; rw [hq] at h9; exact h9, b_pre _ CX.K hS⟩ rfl hn hls hst (lv_room hw) hdg hf
theorem cs_X3_173 {p : Program} {l : Launch} {e : Env} {R : Room} {s : State} {m : MethodId} {args : Array Value} {below : List Frame} {meth : Method} {c : Code} {H : Heap} {locs : List Loc} {cells slots : Nat} {cc : ByteArray} {pc nL a : Nat} {ls : Array Slot} {rest : List Value} {G : b_G} {B0 : Nat} (CX : b_Cx p s m args c cc nL RX3 G B0) (hls : ls.size = nL) {rm : Room} {mc ms : Nat} {As st0 : List Value} {Qc : Array Value → State → Outcome → State → Prop} (hM : Met l yX3_doOrder (ws_ yX3_doOrder cX3_doOrder 1 (Option.none)) rm (b_Pc G B0 H (.ref a :: As)) Qc mc ms (b_A B0)) (hn : As.length = 0) {fs : List Value} {ci : Nat} {qc : vw_C} (hc : b_cl[ci]? = some qc) (hq : qc.1 = RX3) (hP : b_at G a (.inr (ci, fs)) H) (hS : va_S (b_A B0) s.heap H locs) (hst : st0 = As.reverse ++ .ref a :: rest) (hr : rm.cells = mc ∧ rm.slots = ms ∧ rm.frames + 1 ≤ R.frames ∧ 8 + (1 + 11) + rm.locals ≤ R.locals) (hw : (rest.map fun v => v.category).sum ≤ 8) (hdg : decode cc pc = .ok (.invokevirtual 173, 3)) (hf : cells + mc ≤ R.cells ∧ slots + ms ≤ R.slots) : va_Run p l e R s m args below meth c H locs cells slots mc ms (F0 m pc ls st0) rest (Qc (Value.ref a :: As).toArray) (b_A B0) := va_runV CX.fix hM (cwV 0 CX.ts (lw_V q2104 q2106 qs68 q88 q2107) rfl hr.1 hr.2.1 (by decide +kernel) ⟨hr.2.2.1, hr.2.2.2⟩) ⟨b_blind G B0 H _, by have h9 := b_recv CX.K hc hP; rw [hq] at h9; exact h9, b_pre _ CX.K hS⟩ rfl hn hls hst (lv_room hw) hdg hf
set_option maxHeartbeats 2000000 in
set_option maxRecDepth 100000 in
theorem m_X3_run (l : Launch) {G : b_G} {B0 : Nat} {o : Nat → Nat} {Hr H : Heap} {S : b_St} {sp sv : Nat → Int32} {L : Nat → b_St} {t : Nat → Nat} {n tn : Nat} {th pl iw lt on ot nu di : Int32} {J : b_St → Prop} (hM : MW G B0 o Hr H (enc S) sp sv (fun j => nI (t j)) (nI n) (nI tn) th pl iw lt on ot nu di) (hW : b_WF S) (hn : n ≤ 6) (ht : ∀ j, t j < 128) (htn : tn ≤ 60) (hSv : b_Sv sv n L) (hJ : p_J J) (hJS : J S) : Met l yX3_run (ws_ yX3_run cX3_run 3 (Option.some Jvm.ClassFile.FieldType.int)) ({ frames := 5, cells := 0, slots := 0, locals := 113 } : Room) (b_Pc G B0 H [.ref (o 0)]) (b_Qi B0 (fun r H1 => r = (o_run (S, n, L, tn, t) ).2.1 ∧ MZ G B0 o H H1 (o_run (S, n, L, tn, t) ).1 (o_run (S, n, L, tn, t) ).2.2)) 0 0 (b_A B0) := by
  refine b_of (by decide) (Nat.le_of_ble_eq_true rfl) ?_
  intro p e s m below meth c CX hr hlk hnm hS ls hl
  have CX : b_Cx p s m _ c cX3_run 3 RX3 G B0 := CX
  have hx := CX.hx
  have hb := CX.hb
  have hl : lv_has ls 3 [(0, .ref (o 0))] := hl
  generalize hQ : MQ below (b_Qi B0 (fun r H1 => r = (o_run (S, n, L, tn, t) ).2.1 ∧ MZ G B0 o H H1 (o_run (S, n, L, tn, t) ).1 (o_run (S, n, L, tn, t) ).2.2)) ([.ref (o 0)] : List Value).toArray s 0 0 (b_A B0) = Q
  have hM := hM.re
  have hn8 := hW.nb8
  have hn6 := hW.ns6
  refine lv_aload_n hx hb dX3_run_0 rfl (lv_at hl 0 rfl) ?_
  refine lv_iconst (v := nI 0) hx hb dX3_run_1 rfl ?_
  refine pf_X3_28_8 CX hM.o0 hS (hM.B (by decide)) rfl rfl (Nat.le_of_ble_eq_true rfl) dX3_run_2 (fun H1 locs hat hu hS => ?_)
  have hM : MW G B0 o H H1 (enc S) sp sv (fun j => nI (t j)) (nI n) (nI tn) (nI 0) pl iw lt on ot nu di := hM.set0 hat hu
  refine lv_aload_n hx hb dX3_run_5 rfl (lv_at hl 0 rfl) ?_
  refine b_ci (cs_X3_167 (rest := []) CX hl.1 (m_X3_reads l  hM ht (by omega)) rfl rfl rfl hM.o0 hS rfl ⟨rfl, rfl, Nat.le_of_ble_eq_true rfl, Nat.le_of_ble_eq_true rfl⟩ (Nat.le_of_ble_eq_true rfl) dX3_run_6 ⟨Nat.le_of_ble_eq_true rfl, Nat.le_of_ble_eq_true rfl⟩) hS (fun r H2 locs hp hS => ?_)
  obtain ⟨p93, w93, lt93, on93, ot93, nu93, di93, hq3, hp3, hw3, rfl, hM9⟩ := hp
  have hM : MW G B0 o H H2 (enc S) sp sv (fun j => nI (t j)) (nI n) (nI tn) (nI 0) (nI p93) (nI w93) lt93 on93 ot93 nu93 di93 := hM.tr hM9
  refine lv_aload_n hx hb dX3_run_9 rfl (lv_at hl 0 rfl) ?_
  refine gf_X3_129_8 CX hM.o0 rfl dX3_run_10 ?_
  refine b_icmp_ltN (tgt := 23) CX (by omega) (by omega) dX3_run_13 (by decide) (fun c_13 => ?_) (fun c_13 => ?_)
  · refine lv_aload_n hx hb dX3_run_23 rfl (lv_at hl 0 rfl) ?_
    refine lv_iconst (v := nI 1) hx hb dX3_run_24 rfl ?_
    refine b_ci (cs_X3_49 (rest := []) CX hl.1 (m_X3_fails l (code := nI 1) hM ) rfl rfl rfl hM.o0 hS rfl ⟨rfl, rfl, Nat.le_of_ble_eq_true rfl, Nat.le_of_ble_eq_true rfl⟩ (Nat.le_of_ble_eq_true rfl) dX3_run_25 ⟨Nat.le_of_ble_eq_true rfl, Nat.le_of_ble_eq_true rfl⟩) hS (fun r H4 locs hp hS => ?_)
    obtain ⟨rfl, hM9⟩ := hp
    have hM : MW G B0 o H H4 (enc S) sp sv (fun j => nI (t j)) (nI n) (nI tn) (nI 1) (nI p93) (nI w93) lt93 on93 ot93 nu93 di93 := hM.tr hM9
    have hq9 := hq3
    have ho : o_run (S, n, L, tn, t) = f_no 1 (S, n, L, tn, t) := by
      unfold o_run q_row; simp only [hq9]; exact if_pos (by omega)
    rw [← hQ]
    exact b_iret CX hr hlk hS (Nat.le_of_ble_eq_true rfl) (Nat.le_of_ble_eq_true rfl) dX3_run_28 ((by rw [ho]; exact ⟨rfl, _, _, _, _, _, _, _, _, _, hM, hSv⟩))
  · refine lv_aload_n hx hb dX3_run_16 rfl (lv_at hl 0 rfl) ?_
    refine gf_X3_141_8 CX hM.o0 rfl dX3_run_17 ?_
    refine b_if_neN (tgt := 29) CX (by omega) dX3_run_20 (by decide) (fun c_20 => ?_) (fun c_20 => ?_)
    · have h0 : q_all t tn (tn + 1) 0 = ((q_all t tn (tn + 1) 0).1, tn, 1) := Prod.ext rfl (hq3.trans (by rw [show p93 = tn by omega, show w93 = 1 by omega]))
      refine lv_aload_n hx hb dX3_run_29 rfl (lv_at hl 0 rfl) ?_
      refine b_cv (cs_X3_53 (rest := []) CX hl.1 (m_X3_save l  hM hn) rfl rfl rfl hM.o0 hS rfl ⟨rfl, rfl, Nat.le_of_ble_eq_true rfl, Nat.le_of_ble_eq_true rfl⟩ (Nat.le_of_ble_eq_true rfl) dX3_run_30 ⟨Nat.le_of_ble_eq_true rfl, Nat.le_of_ble_eq_true rfl⟩) hS (fun H5 locs hp hS => ?_)
      have hM9 := hp
      have hM : MW G B0 o H H5 (enc S) sp (p_sv sv (enc S) n) (fun j => nI (t j)) (nI (p_sn n)) (nI tn) (nI 0) (nI p93) (nI w93) lt93 on93 ot93 nu93 di93 := hM.tr hM9
      refine lv_aload_n hx hb dX3_run_33 rfl (lv_at hl 0 rfl) ?_
      refine gf_X3_7_8 CX hM.o0 rfl dX3_run_34 ?_
      refine lv_bipush (v := nI 6) hx hb dX3_run_37 rfl ?_
      refine lv_iconst (v := nI 0) hx hb dX3_run_39 rfl ?_
      refine b_ist CX hM.o1 hS (hM.B (by decide)) (vp_in_nI (by omega) (by omega)) dX3_run_40 (fun H6 locs hat hu hS => ?_)
      have hM : MW G B0 o H H6 (enc ((u3 S 0 0 6 (nI 0)))) sp (p_sv sv (enc S) n) (fun j => nI (t j)) (nI (p_sn n)) (nI tn) (nI 0) (nI p93) (nI w93) lt93 on93 ot93 nu93 di93 := hM.set1 (b_up_nI (by omega) (enc_u0 _ (by decide) _)) hat hu
      refine lv_aload_n hx hb dX3_run_41 rfl (lv_at hl 0 rfl) ?_
      refine lv_iconst (v := nI 0) hx hb dX3_run_42 rfl ?_
      refine pf_X3_132_8 CX hM.o0 hS (hM.B (by decide)) rfl rfl (Nat.le_of_ble_eq_true rfl) dX3_run_43 (fun H7 locs hat hu hS => ?_)
      have hM : MW G B0 o H H7 (enc ((u3 S 0 0 6 (nI 0)))) sp (p_sv sv (enc S) n) (fun j => nI (t j)) (nI (p_sn n)) (nI tn) (nI 0) (nI 0) (nI w93) lt93 on93 ot93 nu93 di93 := hM.set0 hat hu
      refine lv_iconst (v := nI 0) hx hb dX3_run_46 rfl ?_
      refine lv_istore_n (lv' := [(1, .int (nI 0)), (0, .ref (o 0))]) hx hb dX3_run_47 rfl hl (Nat.le_of_ble_eq_true rfl) rfl (fun ls hl => ?_)
      refine lv_iconst (v := nI 1) hx hb dX3_run_48 rfl ?_
      refine lv_istore_n (lv' := [(2, .int (nI 1)), (1, .int (nI 0)), (0, .ref (o 0))]) hx hb dX3_run_49 rfl hl (Nat.le_of_ble_eq_true rfl) rfl (fun ls hl => ?_)
      have lp50_8 : ∀ (n_ : Nat) (i : Nat) (f : Nat) (ct : Nat) (Sx : b_St) (l_ : List (Nat × Nat × Nat × Nat)), i ≤ tn → tn < f + 1 + i → q_all t tn (f + 1) i = (l_, tn, 1) → J Sx → Sx 0 0 6 = nI 0 → r_run Sx l_ ct = r_all (S, n, L, tn, t) → tn + 1 - i < n_ → ∀ (H9 : Heap) (iw9 : Int32) (lt9 : Int32) (on9 : Int32) (ot9 : Int32) (nu9 : Int32) (di9 : Int32), MW G B0 o H H9 (enc Sx) sp (p_sv sv (enc S) n) (fun j => nI (t j)) (nI (p_sn n)) (nI tn) (nI 0) (nI i) iw9 lt9 on9 ot9 nu9 di9 → ∀ (locs : List Loc), va_S (b_A B0) s.heap H9 locs → ∀ ls : Array Slot, lv_has ls 3 [(1, .int (nI ct)), (2, .int (nI 1)), (0, .ref (o 0))] → W p l e ({ frames := 5, cells := 0, slots := 0, locals := 113 } : Room) s m ([.ref (o 0)] : List Value).toArray below meth c H9 locs 0 0 Q (F0 m 50 ls []) := by
        intro n_
        induction n_ with
        | zero => intro i f ct Sx l_ hi hf2 hq hJx hE hR hlt H9 iw9 lt9 on9 ot9 nu9 di9 hM locs hS ls hl; exact absurd hlt (Nat.not_lt_zero _)
        | succ n_ ih50 =>
          intro i f ct Sx l_ hi hf2 hq hJx hE hR hlt H9 iw9 lt9 on9 ot9 nu9 di9 hM locs hS ls hl
          refine lv_iload_n hx hb dX3_run_50 rfl (lv_at hl 1 rfl) ?_
          refine lv_if_eq (tgt := 95) hx hb dX3_run_51 (by decide) (fun c_51 => ?_) (fun c_51 => ?_)
          · exact absurd c_51 (by decide)
          · refine lv_aload_n hx hb dX3_run_54 rfl (lv_at hl 2 rfl) ?_
            refine b_ci (cs_X3_163 (rest := []) CX hl.1 (m_X3_readOrder l  hM ht (by omega) (by omega)) rfl rfl rfl hM.o0 hS rfl ⟨rfl, rfl, Nat.le_of_ble_eq_true rfl, Nat.le_of_ble_eq_true rfl⟩ (Nat.le_of_ble_eq_true rfl) dX3_run_55 ⟨Nat.le_of_ble_eq_true rfl, Nat.le_of_ble_eq_true rfl⟩) hS (fun r H10 locs hp hS => ?_)
            rcases hp with ⟨p911, a911, b911, c911, d911, di911, hq11, hc11, hp11, rfl, hM9⟩ | ⟨p911, a911, b911, c911, d911, di911, hq11, hc11, hp11, rfl, hM9⟩ | ⟨p911, lt911, on911, ot911, nu911, di911, hq11, hp11, rfl, hM9⟩
            · have hM : MW G B0 o H H10 (enc Sx) sp (p_sv sv (enc S) n) (fun j => nI (t j)) (nI (p_sn n)) (nI tn) (nI 0) (nI (p911 + 1)) (nI 1) (nI a911) (nI b911) (nI c911) (nI d911) di911 := hM.tr hM9
              have hok := (q_ord_ok hq11).2
              have hlt := (q_ord_ok hq11).1
              obtain ⟨l', rfl, hq'⟩ := q_all_c hq11 hc11 (by omega) hq
              refine lv_istore_n (lv' := [(2, .int (nI 1)), (1, .int (nI ct)), (0, .ref (o 0))]) hx hb dX3_run_58 rfl hl (Nat.le_of_ble_eq_true rfl) rfl (fun ls hl => ?_)
              refine lv_aload_n hx hb dX3_run_59 rfl (lv_at hl 2 rfl) ?_
              refine gf_X3_7_8 CX hM.o0 rfl dX3_run_60 ?_
              refine lv_bipush (v := nI 6) hx hb dX3_run_63 rfl ?_
              refine lv_aload_n hx hb dX3_run_65 rfl (lv_at hl 2 rfl) ?_
              refine b_ci0 (cs_X3_170 (rest := [.int (nI 6), .ref (o 1)]) CX hl.1 (m_X3_againstOrder l  hM (hJ.1 _ hJx) hok) rfl rfl rfl hM.o0 hS rfl ⟨rfl, rfl, Nat.le_of_ble_eq_true rfl, Nat.le_of_ble_eq_true rfl⟩ (Nat.le_of_ble_eq_true rfl) dX3_run_66 ⟨Nat.le_of_ble_eq_true rfl, Nat.le_of_ble_eq_true rfl⟩) hS (fun locs hS => ?_)
              refine b_ist CX hM.o1 hS (hM.B (by decide)) (vp_in_nI (by omega) (by omega)) dX3_run_69 (fun H12 locs hat hu hS => ?_)
              have hM : MW G B0 o H H12 (enc ((u3 Sx 0 0 6 (o_why Sx a911 b911 c911 d911)))) sp (p_sv sv (enc S) n) (fun j => nI (t j)) (nI (p_sn n)) (nI tn) (nI 0) (nI (p911 + 1)) (nI 1) (nI a911) (nI b911) (nI c911) (nI d911) di911 := hM.set1 (b_up_nI (by omega) (enc_u0 _ (by decide) _)) hat hu
              refine lv_aload_n hx hb dX3_run_70 rfl (lv_at hl 2 rfl) ?_
              refine gf_X3_7_8 CX hM.o0 rfl dX3_run_71 ?_
              refine lv_bipush (v := nI 6) hx hb dX3_run_74 rfl ?_
              refine b_ild CX hM.o1 (x := o_why Sx a911 b911 c911 d911) (vp_in_nI (by omega) (by omega)) (b_at_nI (by omega) ((enc_0 _ (by decide)).trans (by simp [u3]))) dX3_run_76 ?_
              refine lv_if_ne (tgt := 90) hx hb dX3_run_77 (by decide) (fun c_77 => ?_) (fun c_77 => ?_)
              · refine lv_iconst (v := nI 0) hx hb dX3_run_90 rfl ?_
                refine lv_istore_n (lv' := [(2, .int (nI 0)), (1, .int (nI ct)), (0, .ref (o 0))]) hx hb dX3_run_91 rfl hl (Nat.le_of_ble_eq_true rfl) rfl (fun ls hl => ?_)
                refine lv_goto (tgt := 50) hx hb dX3_run_92 (by decide) ?_
                refine lv_iload_n hx hb dX3_run_50 rfl (lv_at hl 0 rfl) ?_
                refine lv_if_eq (tgt := 95) hx hb dX3_run_51 (by decide) (fun c_51 => ?_) (fun c_51 => ?_)
                · refine lv_aload_n hx hb dX3_run_95 rfl (lv_at hl 2 rfl) ?_
                  refine lv_iconst (v := nI 0) hx hb dX3_run_96 rfl ?_
                  refine pf_X3_129_8 CX hM.o0 hS (hM.B (by decide)) rfl rfl (Nat.le_of_ble_eq_true rfl) dX3_run_97 (fun H13 locs hat hu hS => ?_)
                  have hM : MW G B0 o H H13 (enc ((u3 Sx 0 0 6 (o_why Sx a911 b911 c911 d911)))) sp (p_sv sv (enc S) n) (fun j => nI (t j)) (nI (p_sn n)) (nI 0) (nI 0) (nI (p911 + 1)) (nI 1) (nI a911) (nI b911) (nI c911) (nI d911) di911 := hM.set0 hat hu
                  refine lv_iload_n hx hb dX3_run_100 rfl (lv_at hl 1 rfl) ?_
                  have hR9 := hR.symm.trans (r_run_1 (x := (a911, b911, c911, d911)) c_77)
                  have hR8 : r_all (S, n, L, tn, t) = (ct, (u3 Sx 0 0 6 (o_why Sx a911 b911 c911 d911))) := hR9
                  have ho : o_run (S, n, L, tn, t) = f_ok (nI (ct)) ((u3 Sx 0 0 6 (o_why Sx a911 b911 c911 d911)), p_sn n, p_L L S n, 0, t) := by
                    unfold o_run; rw [hR8]; exact if_neg (by show ¬ ((q_all t tn (tn + 1) 0).2.1 < tn ∨ (q_all t tn (tn + 1) 0).2.2 = 0); rw [h0]; show ¬ (tn < tn ∨ (1 : Nat) = 0); omega)
                  rw [← hQ]
                  exact b_iret CX hr hlk hS (Nat.le_of_ble_eq_true rfl) (Nat.le_of_ble_eq_true rfl) dX3_run_101 ((by rw [ho]; exact ⟨rfl, _, _, _, _, _, _, _, _, _, hM, hSv.save hn _⟩))
                · exact absurd c_51 (by decide)
              · have hw : o_why Sx a911 b911 c911 d911 = nI 0 := c_77
                rw [hw, o_end hE] at hM
                have hwx := hJ.1 _ hJx
                have hx8 := hwx.nb8
                have hx6 := hwx.ns6
                have hin := o_in hwx hw
                refine lv_aload_n hx hb dX3_run_80 rfl (lv_at hl 2 rfl) ?_
                refine b_cv (cs_X3_173 (rest := []) CX hl.1 (m_X3_doOrder l  hM (hJ.1 _ hJx) hok (fun q => by have := hin.1 q; omega) (fun q => by have := hin.2 q; obtain ⟨k1, k2, k3, k4, k5, k6, k7⟩ := hok; omega) (fun q => o_pick hJ hJx hok hw q)) rfl rfl rfl hM.o0 hS rfl ⟨rfl, rfl, Nat.le_of_ble_eq_true rfl, Nat.le_of_ble_eq_true rfl⟩ (Nat.le_of_ble_eq_true rfl) dX3_run_81 ⟨Nat.le_of_ble_eq_true rfl, Nat.le_of_ble_eq_true rfl⟩) hS (fun H14 locs hp hS => ?_)
                have hM9 := hp
                have hM : MW G B0 o H H14 (enc ((o_do Sx a911 b911 c911 d911))) sp (p_sv sv (enc S) n) (fun j => nI (t j)) (nI (p_sn n)) (nI tn) (nI 0) (nI (p911 + 1)) (nI 1) (nI a911) (nI b911) (nI c911) (nI d911) di911 := hM.tr hM9
                refine lv_iinc (v := nI (ct + 1)) (lv' := [(1, .int (nI (ct + 1))), (2, .int (nI 1)), (0, .ref (o 0))]) hx hb dX3_run_84 hl (k := 1) rfl (nI_1 _) (Nat.le_of_ble_eq_true rfl) rfl (fun ls hl => ?_)
                refine lv_goto (tgt := 50) hx hb dX3_run_87 (by decide) ?_
                exact ih50 (p911 + 1) (f - 1) (ct + 1) (o_do Sx a911 b911 c911 d911) l' (by omega) (by omega) hq' (hJ.2.2.1 _ _ _ _ _ hJx hok hw) ((o_do6 _ _ _ _ _).trans hE) ((r_run_0 (x := (a911, b911, c911, d911)) hw).symm.trans hR) (by omega) H14 _ _ _ _ _ _ hM _ hS ls (lv_sub hl [0, 1, 2] rfl)
            · have hM : MW G B0 o H H10 (enc Sx) sp (p_sv sv (enc S) n) (fun j => nI (t j)) (nI (p_sn n)) (nI tn) (nI 0) (nI p911) (nI 1) (nI a911) (nI b911) (nI c911) (nI d911) di911 := hM.tr hM9
              have hok := (q_ord_ok hq11).2
              have hlt := (q_ord_ok hq11).1
              have hq9 := (q_all_e (f := f) hq11 hc11).symm.trans hq
              simp only [Prod.mk.injEq, and_true] at hq9
              obtain ⟨rfl, hpt⟩ := hq9
              refine lv_istore_n (lv' := [(2, .int (nI 0)), (1, .int (nI ct)), (0, .ref (o 0))]) hx hb dX3_run_58 rfl hl (Nat.le_of_ble_eq_true rfl) rfl (fun ls hl => ?_)
              refine lv_aload_n hx hb dX3_run_59 rfl (lv_at hl 2 rfl) ?_
              refine gf_X3_7_8 CX hM.o0 rfl dX3_run_60 ?_
              refine lv_bipush (v := nI 6) hx hb dX3_run_63 rfl ?_
              refine lv_aload_n hx hb dX3_run_65 rfl (lv_at hl 2 rfl) ?_
              refine b_ci0 (cs_X3_170 (rest := [.int (nI 6), .ref (o 1)]) CX hl.1 (m_X3_againstOrder l  hM (hJ.1 _ hJx) hok) rfl rfl rfl hM.o0 hS rfl ⟨rfl, rfl, Nat.le_of_ble_eq_true rfl, Nat.le_of_ble_eq_true rfl⟩ (Nat.le_of_ble_eq_true rfl) dX3_run_66 ⟨Nat.le_of_ble_eq_true rfl, Nat.le_of_ble_eq_true rfl⟩) hS (fun locs hS => ?_)
              refine b_ist CX hM.o1 hS (hM.B (by decide)) (vp_in_nI (by omega) (by omega)) dX3_run_69 (fun H15 locs hat hu hS => ?_)
              have hM : MW G B0 o H H15 (enc ((u3 Sx 0 0 6 (o_why Sx a911 b911 c911 d911)))) sp (p_sv sv (enc S) n) (fun j => nI (t j)) (nI (p_sn n)) (nI tn) (nI 0) (nI p911) (nI 1) (nI a911) (nI b911) (nI c911) (nI d911) di911 := hM.set1 (b_up_nI (by omega) (enc_u0 _ (by decide) _)) hat hu
              refine lv_aload_n hx hb dX3_run_70 rfl (lv_at hl 2 rfl) ?_
              refine gf_X3_7_8 CX hM.o0 rfl dX3_run_71 ?_
              refine lv_bipush (v := nI 6) hx hb dX3_run_74 rfl ?_
              refine b_ild CX hM.o1 (x := o_why Sx a911 b911 c911 d911) (vp_in_nI (by omega) (by omega)) (b_at_nI (by omega) ((enc_0 _ (by decide)).trans (by simp [u3]))) dX3_run_76 ?_
              refine lv_if_ne (tgt := 90) hx hb dX3_run_77 (by decide) (fun c_77 => ?_) (fun c_77 => ?_)
              · refine lv_iconst (v := nI 0) hx hb dX3_run_90 rfl ?_
                refine lv_istore_n (lv' := [(2, .int (nI 0)), (1, .int (nI ct)), (0, .ref (o 0))]) hx hb dX3_run_91 rfl hl (Nat.le_of_ble_eq_true rfl) rfl (fun ls hl => ?_)
                refine lv_goto (tgt := 50) hx hb dX3_run_92 (by decide) ?_
                refine lv_iload_n hx hb dX3_run_50 rfl (lv_at hl 0 rfl) ?_
                refine lv_if_eq (tgt := 95) hx hb dX3_run_51 (by decide) (fun c_51 => ?_) (fun c_51 => ?_)
                · refine lv_aload_n hx hb dX3_run_95 rfl (lv_at hl 2 rfl) ?_
                  refine lv_iconst (v := nI 0) hx hb dX3_run_96 rfl ?_
                  refine pf_X3_129_8 CX hM.o0 hS (hM.B (by decide)) rfl rfl (Nat.le_of_ble_eq_true rfl) dX3_run_97 (fun H16 locs hat hu hS => ?_)
                  have hM : MW G B0 o H H16 (enc ((u3 Sx 0 0 6 (o_why Sx a911 b911 c911 d911)))) sp (p_sv sv (enc S) n) (fun j => nI (t j)) (nI (p_sn n)) (nI 0) (nI 0) (nI p911) (nI 1) (nI a911) (nI b911) (nI c911) (nI d911) di911 := hM.set0 hat hu
                  refine lv_iload_n hx hb dX3_run_100 rfl (lv_at hl 1 rfl) ?_
                  have hR9 := hR.symm.trans (r_run_1 (x := (a911, b911, c911, d911)) c_77)
                  have hR8 : r_all (S, n, L, tn, t) = (ct, (u3 Sx 0 0 6 (o_why Sx a911 b911 c911 d911))) := hR9
                  have ho : o_run (S, n, L, tn, t) = f_ok (nI (ct)) ((u3 Sx 0 0 6 (o_why Sx a911 b911 c911 d911)), p_sn n, p_L L S n, 0, t) := by
                    unfold o_run; rw [hR8]; exact if_neg (by show ¬ ((q_all t tn (tn + 1) 0).2.1 < tn ∨ (q_all t tn (tn + 1) 0).2.2 = 0); rw [h0]; show ¬ (tn < tn ∨ (1 : Nat) = 0); omega)
                  rw [← hQ]
                  exact b_iret CX hr hlk hS (Nat.le_of_ble_eq_true rfl) (Nat.le_of_ble_eq_true rfl) dX3_run_101 ((by rw [ho]; exact ⟨rfl, _, _, _, _, _, _, _, _, _, hM, hSv.save hn _⟩))
                · exact absurd c_51 (by decide)
              · have hw : o_why Sx a911 b911 c911 d911 = nI 0 := c_77
                rw [hw, o_end hE] at hM
                have hwx := hJ.1 _ hJx
                have hx8 := hwx.nb8
                have hx6 := hwx.ns6
                have hin := o_in hwx hw
                refine lv_aload_n hx hb dX3_run_80 rfl (lv_at hl 2 rfl) ?_
                refine b_cv (cs_X3_173 (rest := []) CX hl.1 (m_X3_doOrder l  hM (hJ.1 _ hJx) hok (fun q => by have := hin.1 q; omega) (fun q => by have := hin.2 q; obtain ⟨k1, k2, k3, k4, k5, k6, k7⟩ := hok; omega) (fun q => o_pick hJ hJx hok hw q)) rfl rfl rfl hM.o0 hS rfl ⟨rfl, rfl, Nat.le_of_ble_eq_true rfl, Nat.le_of_ble_eq_true rfl⟩ (Nat.le_of_ble_eq_true rfl) dX3_run_81 ⟨Nat.le_of_ble_eq_true rfl, Nat.le_of_ble_eq_true rfl⟩) hS (fun H17 locs hp hS => ?_)
                have hM9 := hp
                have hM : MW G B0 o H H17 (enc ((o_do Sx a911 b911 c911 d911))) sp (p_sv sv (enc S) n) (fun j => nI (t j)) (nI (p_sn n)) (nI tn) (nI 0) (nI p911) (nI 1) (nI a911) (nI b911) (nI c911) (nI d911) di911 := hM.tr hM9
                refine lv_iinc (v := nI (ct + 1)) (lv' := [(1, .int (nI (ct + 1))), (2, .int (nI 0)), (0, .ref (o 0))]) hx hb dX3_run_84 hl (k := 1) rfl (nI_1 _) (Nat.le_of_ble_eq_true rfl) rfl (fun ls hl => ?_)
                refine lv_goto (tgt := 50) hx hb dX3_run_87 (by decide) ?_
                refine lv_iload_n hx hb dX3_run_50 rfl (lv_at hl 1 rfl) ?_
                refine lv_if_eq (tgt := 95) hx hb dX3_run_51 (by decide) (fun c_51 => ?_) (fun c_51 => ?_)
                · refine lv_aload_n hx hb dX3_run_95 rfl (lv_at hl 2 rfl) ?_
                  refine lv_iconst (v := nI 0) hx hb dX3_run_96 rfl ?_
                  refine pf_X3_129_8 CX hM.o0 hS (hM.B (by decide)) rfl rfl (Nat.le_of_ble_eq_true rfl) dX3_run_97 (fun H18 locs hat hu hS => ?_)
                  have hM : MW G B0 o H H18 (enc ((o_do Sx a911 b911 c911 d911))) sp (p_sv sv (enc S) n) (fun j => nI (t j)) (nI (p_sn n)) (nI 0) (nI 0) (nI p911) (nI 1) (nI a911) (nI b911) (nI c911) (nI d911) di911 := hM.set0 hat hu
                  refine lv_iload_n hx hb dX3_run_100 rfl (lv_at hl 0 rfl) ?_
                  have hR9 := hR.symm.trans ((r_run_0 (x := (a911, b911, c911, d911)) hw).trans rfl)
                  have hR8 : r_all (S, n, L, tn, t) = (ct + 1, (o_do Sx a911 b911 c911 d911)) := hR9
                  have ho : o_run (S, n, L, tn, t) = f_ok (nI (ct + 1)) ((o_do Sx a911 b911 c911 d911), p_sn n, p_L L S n, 0, t) := by
                    unfold o_run; rw [hR8]; exact if_neg (by show ¬ ((q_all t tn (tn + 1) 0).2.1 < tn ∨ (q_all t tn (tn + 1) 0).2.2 = 0); rw [h0]; show ¬ (tn < tn ∨ (1 : Nat) = 0); omega)
                  rw [← hQ]
                  exact b_iret CX hr hlk hS (Nat.le_of_ble_eq_true rfl) (Nat.le_of_ble_eq_true rfl) dX3_run_101 ((by rw [ho]; exact ⟨rfl, _, _, _, _, _, _, _, _, _, hM, hSv.save hn _⟩))
                · exact absurd c_51 (by decide)
            · have hM : MW G B0 o H H10 (enc Sx) sp (p_sv sv (enc S) n) (fun j => nI (t j)) (nI (p_sn n)) (nI tn) (nI 0) (nI p911) (nI 0) lt911 on911 ot911 nu911 di911 := hM.tr hM9
              exact absurd (congrArg (fun z => z.2.2) ((q_all_n (f := f) hq11).symm.trans hq)) (Nat.zero_ne_one)
      exact lp50_8 _ 0 tn 0 (u3 S 0 0 6 (nI 0)) _ (Nat.zero_le _) (by omega) h0 (hJ.2.2.2 _ _ hJS) (by simp [u3]) rfl (Nat.lt_succ_self _) H7 _ _ _ _ _ _ hM _ hS ls (lv_sub hl [1, 0, 2] rfl)
    · refine lv_aload_n hx hb dX3_run_23 rfl (lv_at hl 0 rfl) ?_
      refine lv_iconst (v := nI 1) hx hb dX3_run_24 rfl ?_
      refine b_ci (cs_X3_49 (rest := []) CX hl.1 (m_X3_fails l (code := nI 1) hM ) rfl rfl rfl hM.o0 hS rfl ⟨rfl, rfl, Nat.le_of_ble_eq_true rfl, Nat.le_of_ble_eq_true rfl⟩ (Nat.le_of_ble_eq_true rfl) dX3_run_25 ⟨Nat.le_of_ble_eq_true rfl, Nat.le_of_ble_eq_true rfl⟩) hS (fun r H19 locs hp hS => ?_)
      obtain ⟨rfl, hM9⟩ := hp
      have hM : MW G B0 o H H19 (enc S) sp sv (fun j => nI (t j)) (nI n) (nI tn) (nI 1) (nI p93) (nI w93) lt93 on93 ot93 nu93 di93 := hM.tr hM9
      have hq9 := hq3
      have ho : o_run (S, n, L, tn, t) = f_no 1 (S, n, L, tn, t) := by
        unfold o_run q_row; simp only [hq9]; exact if_pos (by omega)
      rw [← hQ]
      exact b_iret CX hr hlk hS (Nat.le_of_ble_eq_true rfl) (Nat.le_of_ble_eq_true rfl) dX3_run_28 ((by rw [ho]; exact ⟨rfl, _, _, _, _, _, _, _, _, _, hM, hSv⟩))
theorem cs_X3_207 {p : Program} {l : Launch} {e : Env} {R : Room} {s : State} {m : MethodId} {args : Array Value} {below : List Frame} {meth : Method} {c : Code} {H : Heap} {locs : List Loc} {cells slots : Nat} {cc : ByteArray} {pc nL : Nat} {ls : Array Slot} {rest : List Value} {G : b_G} {B0 : Nat} (CX : b_Cx p s m args c cc nL RX3 G B0) (hls : ls.size = nL) {rm : Room} {mc ms : Nat} {As st0 : List Value} {Qc : Array Value → State → Outcome → State → Prop} (hM : Met l yJ22_doubleToLongBits (ws_ yJ22_doubleToLongBits cJ22_doubleToLongBits 2 (Option.some Jvm.ClassFile.FieldType.long)) rm (b_Pc G B0 H As) Qc mc ms (b_A B0)) (hn : As.length = 1) (hS : va_S (b_A B0) s.heap H locs) (hst : st0 = As.reverse ++ rest) (hr : rm.cells = mc ∧ rm.slots = ms ∧ rm.frames + 1 ≤ R.frames ∧ 8 + (2 + 11) + rm.locals ≤ R.locals) (hw : (rest.map fun v => v.category).sum ≤ 8) (hdg : decode cc pc = .ok (.invokestatic 207, 3)) (hf : cells + mc ≤ R.cells ∧ slots + ms ≤ R.slots) : va_Run p l e R s m args below meth c H locs cells slots mc ms (F0 m pc ls st0) rest (Qc As.toArray) (b_A B0) := va_runS CX.fix hM (va_cwS 1 CX.ts (lw_S q2198 q908 q125 q909) rfl hr.1 hr.2.1 (by decide +kernel) ⟨hr.2.2.1, hr.2.2.2⟩) ⟨b_blind G B0 H _, b_pre _ CX.K hS⟩ rfl hn hls hst (lv_room hw) hdg hf
theorem cs_X3_185 {p : Program} {l : Launch} {e : Env} {R : Room} {s : State} {m : MethodId} {args : Array Value} {below : List Frame} {meth : Method} {c : Code} {H : Heap} {locs : List Loc} {cells slots : Nat} {cc : ByteArray} {pc nL a : Nat} {ls : Array Slot} {rest : List Value} {G : b_G} {B0 : Nat} (CX : b_Cx p s m args c cc nL RX3 G B0) (hls : ls.size = nL) {rm : Room} {mc ms : Nat} {As st0 : List Value} {Qc : Array Value → State → Outcome → State → Prop} (hM : Met l yX3_aboutShop (ws_ yX3_aboutShop cX3_aboutShop 3 (Option.some Jvm.ClassFile.FieldType.int)) rm (b_Pc G B0 H (.ref a :: As)) Qc mc ms (b_A B0)) (hn : As.length = 2) {fs : List Value} {ci : Nat} {qc : vw_C} (hc : b_cl[ci]? = some qc) (hq : qc.1 = RX3) (hP : b_at G a (.inr (ci, fs)) H) (hS : va_S (b_A B0) s.heap H locs) (hst : st0 = As.reverse ++ .ref a :: rest) (hr : rm.cells = mc ∧ rm.slots = ms ∧ rm.frames + 1 ≤ R.frames ∧ 8 + (3 + 11) + rm.locals ≤ R.locals) (hw : (rest.map fun v => v.category).sum ≤ 8) (hdg : decode cc pc = .ok (.invokevirtual 185, 3)) (hf : cells + mc ≤ R.cells ∧ slots + ms ≤ R.slots) : va_Run p l e R s m args below meth c H locs cells slots mc ms (F0 m pc ls st0) rest (Qc (Value.ref a :: As).toArray) (b_A B0) := va_runV CX.fix hM (cwV 2 CX.ts (lw_V q2128 q2130 qs71 q88 q2131) rfl hr.1 hr.2.1 (by decide +kernel) ⟨hr.2.2.1, hr.2.2.2⟩) ⟨b_blind G B0 H _, by have h9 := b_recv CX.K hc hP; rw [hq] at h9; exact h9, b_pre _ CX.K hS⟩ rfl hn hls hst (lv_room hw) hdg hf
set_option maxHeartbeats 2000000 in
set_option maxRecDepth 100000 in
theorem m_X3_digest (l : Launch) {G : b_G} {B0 : Nat} {o : Nat → Nat} {Hr H : Heap} {S : b_St} {sp sv : Nat → Int32} {L : Nat → b_St} {t : Nat → Nat} {n tn : Nat} {th pl iw lt on ot nu di : Int32} {J : b_St → Prop} (hM : MW G B0 o Hr H (enc S) sp sv (fun j => nI (t j)) (nI n) (nI tn) th pl iw lt on ot nu di) (hW : b_WF S) (hn : n ≤ 6) (ht : ∀ j, t j < 128) (htn : tn ≤ 60) (hSv : b_Sv sv n L) (hJ : p_J J) (hJS : J S) (hnan : ¬ p_all S = 0 → vf_n64 (FP.ddiv (FP.i2d (p_gone S)) (FP.i2d (p_all S)))) (hnn : p_nn (p_share S)) : Met l yX3_digest (ws_ yX3_digest cX3_digest 5 (Option.some Jvm.ClassFile.FieldType.long)) ({ frames := 5, cells := 0, slots := 0, locals := 119 } : Room) (b_Pc G B0 H [.ref (o 0)]) (b_Ql B0 (fun r H1 => r = p_dig S n tn t ∧ MZ G B0 o H H1 (nI 0) (S, n, L, tn, t))) 0 0 (b_A B0) := by
  refine b_of (by decide) (Nat.le_of_ble_eq_true rfl) ?_
  intro p e s m below meth c CX hr hlk hnm hS ls hl
  have CX : b_Cx p s m _ c cX3_digest 5 RX3 G B0 := CX
  have hx := CX.hx
  have hb := CX.hb
  have hl : lv_has ls 5 [(0, .ref (o 0))] := hl
  generalize hQ : MQ below (b_Ql B0 (fun r H1 => r = p_dig S n tn t ∧ MZ G B0 o H H1 (nI 0) (S, n, L, tn, t))) ([.ref (o 0)] : List Value).toArray s 0 0 (b_A B0) = Q
  have hM := hM.re
  have hn8 := hW.nb8
  have hn6 := hW.ns6
  refine lv_aload_n hx hb dX3_digest_0 rfl (lv_at hl 0 rfl) ?_
  refine lv_iconst (v := nI 0) hx hb dX3_digest_1 rfl ?_
  refine pf_X3_28_8 CX hM.o0 hS (hM.B (by decide)) rfl rfl (Nat.le_of_ble_eq_true rfl) dX3_digest_2 (fun H1 locs hat hu hS => ?_)
  have hM : MW G B0 o H H1 (enc S) sp sv (fun j => nI (t j)) (nI n) (nI tn) (nI 0) pl iw lt on ot nu di := hM.set0 hat hu
  refine lv_ldc2 hx hb CX.ow (CX.ts _ q2196) dX3_digest_5 ?_
  refine lv_lstore_n (lv' := [(1, .long 2411), (0, .ref (o 0))]) hx hb dX3_digest_8 rfl hl (Nat.le_of_ble_eq_true rfl) rfl (fun ls hl => ?_)
  refine lv_iconst (v := nI 0) hx hb dX3_digest_9 rfl ?_
  refine lv_istore_n (lv' := [(3, .int (nI 0)), (1, .long 2411), (0, .ref (o 0))]) hx hb dX3_digest_10 rfl hl (Nat.le_of_ble_eq_true rfl) rfl (fun ls hl => ?_)
  have lp11_2 : ∀ (n_ : Nat) (i : Nat), i ≤ 11 → 11 - i < n_ → ∀ (locs : List Loc), va_S (b_A B0) s.heap H1 locs → ∀ ls : Array Slot, lv_has ls 5 [(1, .long (p_mx 2411 (p_number S n) i)), (3, .int (nI i)), (0, .ref (o 0))] → W p l e ({ frames := 5, cells := 0, slots := 0, locals := 119 } : Room) s m ([.ref (o 0)] : List Value).toArray below meth c H1 locs 0 0 Q (F0 m 11 ls []) := by
    intro n_
    induction n_ with
    | zero => intro i hzi hlt locs hS ls hl; exact absurd hlt (Nat.not_lt_zero _)
    | succ n_ ih11 =>
      intro i hzi hlt locs hS ls hl
      refine lv_iload_n hx hb dX3_digest_11 rfl (lv_at hl 1 rfl) ?_
      refine lv_bipush (v := nI 11) hx hb dX3_digest_12 rfl ?_
      refine b_icmp_geN (tgt := 36) CX (by omega) (by omega) dX3_digest_14 (by decide) (fun c_14 => ?_) (fun c_14 => ?_)
      · obtain rfl : i = 11 := by omega
        refine lv_iconst (v := nI 0) hx hb dX3_digest_36 rfl ?_
        refine lv_istore_n (lv' := [(3, .int (nI 0)), (1, .long (p_mx 2411 (p_number S n) 11)), (0, .ref (o 0))]) hx hb dX3_digest_37 rfl hl (Nat.le_of_ble_eq_true rfl) rfl (fun ls hl => ?_)
        have lp38_3 : ∀ (n_ : Nat) (i : Nat), i ≤ 6 → 6 - i < n_ → ∀ (locs : List Loc), va_S (b_A B0) s.heap H1 locs → ∀ ls : Array Slot, lv_has ls 5 [(1, .long (p_mx (p_d1 S n) (fun j => S 0 0 (7 + j)) i)), (3, .int (nI i)), (0, .ref (o 0))] → W p l e ({ frames := 5, cells := 0, slots := 0, locals := 119 } : Room) s m ([.ref (o 0)] : List Value).toArray below meth c H1 locs 0 0 Q (F0 m 38 ls []) := by
          intro n_
          induction n_ with
          | zero => intro i hzi hlt locs hS ls hl; exact absurd hlt (Nat.not_lt_zero _)
          | succ n_ ih38 =>
            intro i hzi hlt locs hS ls hl
            refine lv_iload_n hx hb dX3_digest_38 rfl (lv_at hl 1 rfl) ?_
            refine lv_bipush (v := nI 6) hx hb dX3_digest_39 rfl ?_
            refine b_icmp_geN (tgt := 67) CX (by omega) (by omega) dX3_digest_41 (by decide) (fun c_41 => ?_) (fun c_41 => ?_)
            · obtain rfl : i = 6 := by omega
              refine lv_iconst (v := nI 0) hx hb dX3_digest_67 rfl ?_
              refine lv_istore_n (lv' := [(3, .int (nI 0)), (1, .long (p_mx (p_d1 S n) (fun j => S 0 0 (7 + j)) 6)), (0, .ref (o 0))]) hx hb dX3_digest_68 rfl hl (Nat.le_of_ble_eq_true rfl) rfl (fun ls hl => ?_)
              have lp69_4 : ∀ (n_ : Nat) (b : Nat), b ≤ nb S → nb S - b < n_ → ∀ (locs : List Loc), va_S (b_A B0) s.heap H1 locs → ∀ ls : Array Slot, lv_has ls 5 [(1, .long (p_mb (p_d2 S n) S b)), (3, .int (nI b)), (0, .ref (o 0))] → W p l e ({ frames := 5, cells := 0, slots := 0, locals := 119 } : Room) s m ([.ref (o 0)] : List Value).toArray below meth c H1 locs 0 0 Q (F0 m 69 ls []) := by
                intro n_
                induction n_ with
                | zero => intro b hzb hlt locs hS ls hl; exact absurd hlt (Nat.not_lt_zero _)
                | succ n_ ih69 =>
                  intro b hzb hlt locs hS ls hl
                  refine lv_iload_n hx hb dX3_digest_69 rfl (lv_at hl 1 rfl) ?_
                  refine lv_aload_n hx hb dX3_digest_70 rfl (lv_at hl 2 rfl) ?_
                  refine gf_X3_7_8 CX hM.o0 rfl dX3_digest_71 ?_
                  refine lv_iconst (v := nI 0) hx hb dX3_digest_74 rfl ?_
                  refine b_ild CX hM.o1 (x := nI (nb S)) (vp_in_nI (by omega) (by omega)) (b_at_nI (by omega) (((enc_0 _ (by decide))).trans hW.nbE)) dX3_digest_75 ?_
                  refine b_icmp_geN (tgt := 166) CX (by omega) (by omega) dX3_digest_76 (by decide) (fun c_76 => ?_) (fun c_76 => ?_)
                  · obtain rfl : b = nb S := by omega
                    refine lv_iconst (v := nI 0) hx hb dX3_digest_166 rfl ?_
                    refine lv_istore_n (lv' := [(3, .int (nI 0)), (1, .long (p_mb (p_d2 S n) S (nb S))), (0, .ref (o 0))]) hx hb dX3_digest_167 rfl hl (Nat.le_of_ble_eq_true rfl) rfl (fun ls hl => ?_)
                    have lp168_5 : ∀ (n_ : Nat) (i : Nat), i ≤ ns S → ns S - i < n_ → ∀ (locs : List Loc), va_S (b_A B0) s.heap H1 locs → ∀ ls : Array Slot, lv_has ls 5 [(1, .long (p_ms (p_d3 S n) S i)), (3, .int (nI i)), (0, .ref (o 0))] → W p l e ({ frames := 5, cells := 0, slots := 0, locals := 119 } : Room) s m ([.ref (o 0)] : List Value).toArray below meth c H1 locs 0 0 Q (F0 m 168 ls []) := by
                      intro n_
                      induction n_ with
                      | zero => intro i hzi hlt locs hS ls hl; exact absurd hlt (Nat.not_lt_zero _)
                      | succ n_ ih168 =>
                        intro i hzi hlt locs hS ls hl
                        refine lv_iload_n hx hb dX3_digest_168 rfl (lv_at hl 1 rfl) ?_
                        refine lv_aload_n hx hb dX3_digest_169 rfl (lv_at hl 2 rfl) ?_
                        refine gf_X3_7_8 CX hM.o0 rfl dX3_digest_170 ?_
                        refine lv_iconst (v := nI 1) hx hb dX3_digest_173 rfl ?_
                        refine b_ild CX hM.o1 (x := nI (ns S)) (vp_in_nI (by omega) (by omega)) (b_at_nI (by omega) (((enc_0 _ (by decide))).trans hW.nsE)) dX3_digest_174 ?_
                        refine b_icmp_geN (tgt := 243) CX (by omega) (by omega) dX3_digest_175 (by decide) (fun c_175 => ?_) (fun c_175 => ?_)
                        · obtain rfl : i = ns S := by omega
                          refine lv_iconst (v := nI 0) hx hb dX3_digest_243 rfl ?_
                          refine lv_istore_n (lv' := [(3, .int (nI 0)), (1, .long (p_ms (p_d3 S n) S (ns S))), (0, .ref (o 0))]) hx hb dX3_digest_244 rfl hl (Nat.le_of_ble_eq_true rfl) rfl (fun ls hl => ?_)
                          have lp245_6 : ∀ (n_ : Nat) (k : Nat), k ≤ 3 → 3 - k < n_ → ∀ (locs : List Loc), va_S (b_A B0) s.heap H1 locs → ∀ ls : Array Slot, lv_has ls 5 [(1, .long (p_mx (p_d4 S n) (fun q => p_shopFor S q) k)), (3, .int (nI k)), (0, .ref (o 0))] → W p l e ({ frames := 5, cells := 0, slots := 0, locals := 119 } : Room) s m ([.ref (o 0)] : List Value).toArray below meth c H1 locs 0 0 Q (F0 m 245 ls []) := by
                            intro n_
                            induction n_ with
                            | zero => intro k hzk hlt locs hS ls hl; exact absurd hlt (Nat.not_lt_zero _)
                            | succ n_ ih245 =>
                              intro k hzk hlt locs hS ls hl
                              refine lv_iload_n hx hb dX3_digest_245 rfl (lv_at hl 1 rfl) ?_
                              refine lv_iconst (v := nI 3) hx hb dX3_digest_246 rfl ?_
                              refine b_icmp_geN (tgt := 269) CX (by omega) (by omega) dX3_digest_247 (by decide) (fun c_247 => ?_) (fun c_247 => ?_)
                              · obtain rfl : k = 3 := by omega
                                refine lv_iconst (v := nI 0) hx hb dX3_digest_269 rfl ?_
                                refine lv_istore_n (lv' := [(3, .int (nI 0)), (1, .long (p_mx (p_d4 S n) (fun q => p_shopFor S q) 3)), (0, .ref (o 0))]) hx hb dX3_digest_270 rfl hl (Nat.le_of_ble_eq_true rfl) rfl (fun ls hl => ?_)
                                have lp271_7 : ∀ (n_ : Nat) (i : Nat), i ≤ ns S → ns S - i < n_ → ∀ (H8 : Heap) (sp7 : Nat → Int32), MW G B0 o H H8 (enc S) sp7 sv (fun j => nI (t j)) (nI n) (nI tn) (nI 0) pl iw lt on ot nu di → ∀ (locs : List Loc), va_S (b_A B0) s.heap H8 locs → ∀ ls : Array Slot, lv_has ls 5 [(1, .long (p_mw (p_d5 S n) S i)), (3, .int (nI i)), (0, .ref (o 0))] → W p l e ({ frames := 5, cells := 0, slots := 0, locals := 119 } : Room) s m ([.ref (o 0)] : List Value).toArray below meth c H8 locs 0 0 Q (F0 m 271 ls []) := by
                                  intro n_
                                  induction n_ with
                                  | zero => intro i hzi hlt H8 sp7 hM locs hS ls hl; exact absurd hlt (Nat.not_lt_zero _)
                                  | succ n_ ih271 =>
                                    intro i hzi hlt H8 sp7 hM locs hS ls hl
                                    refine lv_iload_n hx hb dX3_digest_271 rfl (lv_at hl 1 rfl) ?_
                                    refine lv_aload_n hx hb dX3_digest_272 rfl (lv_at hl 2 rfl) ?_
                                    refine gf_X3_7_8 CX hM.o0 rfl dX3_digest_273 ?_
                                    refine lv_iconst (v := nI 1) hx hb dX3_digest_276 rfl ?_
                                    refine b_ild CX hM.o1 (x := nI (ns S)) (vp_in_nI (by omega) (by omega)) (b_at_nI (by omega) (((enc_0 _ (by decide))).trans hW.nsE)) dX3_digest_277 ?_
                                    refine b_icmp_geN (tgt := 323) CX (by omega) (by omega) dX3_digest_278 (by decide) (fun c_278 => ?_) (fun c_278 => ?_)
                                    · obtain rfl : i = ns S := by omega
                                      refine lv_ldc2 hx hb CX.ow (CX.ts _ q2197) dX3_digest_323 ?_
                                      refine lv_lload_n hx hb dX3_digest_326 rfl (lv_at hl 0 rfl) ?_
                                      refine lv_lmul hx hb dX3_digest_327 ?_
                                      refine lv_aload_n hx hb dX3_digest_328 rfl (lv_at hl 2 rfl) ?_
                                      refine b_cd0 (cs_X3_199 (rest := [.long (31 * (p_mw (p_d5 S n) S (ns S)))]) CX hl.1 (m_X3_gone l  hM hW hnan) rfl rfl rfl hM.o0 hS rfl ⟨rfl, rfl, Nat.le_of_ble_eq_true rfl, Nat.le_of_ble_eq_true rfl⟩ (Nat.le_of_ble_eq_true rfl) dX3_digest_329 ⟨Nat.le_of_ble_eq_true rfl, Nat.le_of_ble_eq_true rfl⟩) hS (fun locs hS => ?_)
                                      refine b_cl0 (cs_X3_207 (rest := [.long (31 * (p_mw (p_d5 S n) S (ns S)))]) CX hl.1 (m_J22_doubleToLongBits l (x := p_share S)  hnn) rfl hS rfl ⟨rfl, rfl, Nat.le_of_ble_eq_true rfl, Nat.le_of_ble_eq_true rfl⟩ (Nat.le_of_ble_eq_true rfl) dX3_digest_332 ⟨Nat.le_of_ble_eq_true rfl, Nat.le_of_ble_eq_true rfl⟩) hS (fun locs hS => ?_)
                                      refine lv_ladd hx hb dX3_digest_335 ?_
                                      refine lv_lstore_n (lv' := [(1, .long ((31 * (p_mw (p_d5 S n) S (ns S))) + ((p_share S).toInt64))), (3, .int (nI (ns S))), (0, .ref (o 0))]) hx hb dX3_digest_336 rfl hl (Nat.le_of_ble_eq_true rfl) rfl (fun ls hl => ?_)
                                      refine lv_ldc2 hx hb CX.ow (CX.ts _ q2197) dX3_digest_337 ?_
                                      refine lv_lload_n hx hb dX3_digest_340 rfl (lv_at hl 0 rfl) ?_
                                      refine lv_lmul hx hb dX3_digest_341 ?_
                                      refine lv_aload_n hx hb dX3_digest_342 rfl (lv_at hl 2 rfl) ?_
                                      refine gf_X3_129_8 CX hM.o0 rfl dX3_digest_343 ?_
                                      refine lv_i2l hx hb dX3_digest_346 rfl ?_
                                      refine lv_ladd hx hb dX3_digest_347 ?_
                                      refine lv_lstore_n (lv' := [(1, .long ((31 * ((31 * (p_mw (p_d5 S n) S (ns S))) + ((p_share S).toInt64))) + ((nI tn).toInt64))), (3, .int (nI (ns S))), (0, .ref (o 0))]) hx hb dX3_digest_348 rfl hl (Nat.le_of_ble_eq_true rfl) rfl (fun ls hl => ?_)
                                      refine lv_iconst (v := nI 0) hx hb dX3_digest_349 rfl ?_
                                      refine lv_istore_n (lv' := [(3, .int (nI 0)), (1, .long ((31 * ((31 * (p_mw (p_d5 S n) S (ns S))) + ((p_share S).toInt64))) + ((nI tn).toInt64))), (0, .ref (o 0))]) hx hb dX3_digest_350 rfl hl (Nat.le_of_ble_eq_true rfl) rfl (fun ls hl => ?_)
                                      have lp351_9 : ∀ (n_ : Nat) (i : Nat), i ≤ tn → tn - i < n_ → ∀ (locs : List Loc), va_S (b_A B0) s.heap H8 locs → ∀ ls : Array Slot, lv_has ls 5 [(1, .long (p_mx (p_d8 S n tn) (fun j => nI (t j)) i)), (3, .int (nI i)), (0, .ref (o 0))] → W p l e ({ frames := 5, cells := 0, slots := 0, locals := 119 } : Room) s m ([.ref (o 0)] : List Value).toArray below meth c H8 locs 0 0 Q (F0 m 351 ls []) := by
                                        intro n_
                                        induction n_ with
                                        | zero => intro i hzi hlt locs hS ls hl; exact absurd hlt (Nat.not_lt_zero _)
                                        | succ n_ ih351 =>
                                          intro i hzi hlt locs hS ls hl
                                          refine lv_iload_n hx hb dX3_digest_351 rfl (lv_at hl 1 rfl) ?_
                                          refine lv_aload_n hx hb dX3_digest_352 rfl (lv_at hl 2 rfl) ?_
                                          refine gf_X3_129_8 CX hM.o0 rfl dX3_digest_353 ?_
                                          refine b_icmp_geN (tgt := 379) CX (by omega) (by omega) dX3_digest_356 (by decide) (fun c_356 => ?_) (fun c_356 => ?_)
                                          · obtain rfl : i = tn := by omega
                                            refine lv_lload_n hx hb dX3_digest_379 rfl (lv_at hl 0 rfl) ?_
                                            rw [← hQ]
                                            exact b_lret CX hr hlk hS (Nat.le_of_ble_eq_true rfl) (Nat.le_of_ble_eq_true rfl) dX3_digest_380 (⟨rfl, _, _, _, _, _, _, _, _, _, hM, hSv⟩)
                                          · refine lv_ldc2 hx hb CX.ow (CX.ts _ q2197) dX3_digest_359 ?_
                                            refine lv_lload_n hx hb dX3_digest_362 rfl (lv_at hl 0 rfl) ?_
                                            refine lv_lmul hx hb dX3_digest_363 ?_
                                            refine lv_aload_n hx hb dX3_digest_364 rfl (lv_at hl 2 rfl) ?_
                                            refine gf_X3_19_8 CX hM.o0 rfl dX3_digest_365 ?_
                                            refine lv_iload_n hx hb dX3_digest_368 rfl (lv_at hl 1 rfl) ?_
                                            have ht_10 := ht i
                                            refine b_ild CX hM.o4 (x := nI (t i)) (vp_in_nI (by omega) (by omega)) (b_at_nI (f := fun j => nI (t j)) (n := i) (by omega) rfl) dX3_digest_369 ?_
                                            refine lv_i2l hx hb dX3_digest_370 rfl ?_
                                            refine lv_ladd hx hb dX3_digest_371 ?_
                                            refine lv_lstore_n (lv' := [(1, .long ((31 * (p_mx (p_d8 S n tn) (fun j => nI (t j)) i)) + ((nI (t i)).toInt64))), (3, .int (nI i)), (0, .ref (o 0))]) hx hb dX3_digest_372 rfl hl (Nat.le_of_ble_eq_true rfl) rfl (fun ls hl => ?_)
                                            refine lv_iinc (v := nI (i + 1)) (lv' := [(3, .int (nI (i + 1))), (1, .long ((31 * (p_mx (p_d8 S n tn) (fun j => nI (t j)) i)) + ((nI (t i)).toInt64))), (0, .ref (o 0))]) hx hb dX3_digest_373 hl (k := 1) rfl (nI_1 _) (Nat.le_of_ble_eq_true rfl) rfl (fun ls hl => ?_)
                                            refine lv_goto (tgt := 351) hx hb dX3_digest_376 (by decide) ?_
                                            exact ih351 (i + 1) (by omega) (by omega) _ hS ls (lv_sub hl [1, 0, 2] rfl)
                                      exact lp351_9 _ 0 (Nat.zero_le _) (Nat.lt_succ_self _) _ hS ls (lv_sub hl [1, 0, 2] rfl)
                                    · refine lv_iconst (v := nI 0) hx hb dX3_digest_281 rfl ?_
                                      refine lv_istore (lv' := [(4, .int (nI 0)), (1, .long (p_mw (p_d5 S n) S i)), (3, .int (nI i)), (0, .ref (o 0))]) hx hb dX3_digest_282 hl (Nat.le_of_ble_eq_true rfl) rfl (fun ls hl => ?_)
                                      have lp284_11 : ∀ (n_ : Nat) (j : Nat), j ≤ nb S → nb S - j < n_ → ∀ (H12 : Heap) (sp7 : Nat → Int32), MW G B0 o H H12 (enc S) sp7 sv (fun j => nI (t j)) (nI n) (nI tn) (nI 0) pl iw lt on ot nu di → ∀ (locs : List Loc), va_S (b_A B0) s.heap H12 locs → ∀ ls : Array Slot, lv_has ls 5 [(1, .long (p_mx (p_mw (p_d5 S n) S i) (fun b => p_would S i b 1) j)), (4, .int (nI j)), (3, .int (nI i)), (0, .ref (o 0))] → W p l e ({ frames := 5, cells := 0, slots := 0, locals := 119 } : Room) s m ([.ref (o 0)] : List Value).toArray below meth c H12 locs 0 0 Q (F0 m 284 ls []) := by
                                        intro n_
                                        induction n_ with
                                        | zero => intro j hzj hlt H12 sp7 hM locs hS ls hl; exact absurd hlt (Nat.not_lt_zero _)
                                        | succ n_ ih284 =>
                                          intro j hzj hlt H12 sp7 hM locs hS ls hl
                                          refine lv_iload hx hb dX3_digest_284 (lv_at hl 1 rfl) ?_
                                          refine lv_aload_n hx hb dX3_digest_286 rfl (lv_at hl 3 rfl) ?_
                                          refine gf_X3_7_8 CX hM.o0 rfl dX3_digest_287 ?_
                                          refine lv_iconst (v := nI 0) hx hb dX3_digest_290 rfl ?_
                                          refine b_ild CX hM.o1 (x := nI (nb S)) (vp_in_nI (by omega) (by omega)) (b_at_nI (by omega) (((enc_0 _ (by decide))).trans hW.nbE)) dX3_digest_291 ?_
                                          refine b_icmp_geN (tgt := 317) CX (by omega) (by omega) dX3_digest_292 (by decide) (fun c_292 => ?_) (fun c_292 => ?_)
                                          · obtain rfl : j = nb S := by omega
                                            refine lv_iinc (v := nI (i + 1)) (lv' := [(3, .int (nI (i + 1))), (1, .long (p_mx (p_mw (p_d5 S n) S i) (fun b => p_would S i b 1) (nb S))), (4, .int (nI (nb S))), (0, .ref (o 0))]) hx hb dX3_digest_317 hl (k := 2) rfl (nI_1 _) (Nat.le_of_ble_eq_true rfl) rfl (fun ls hl => ?_)
                                            refine lv_goto (tgt := 271) hx hb dX3_digest_320 (by decide) ?_
                                            exact ih271 (i + 1) (by omega) (by omega) H12 _ hM _ hS ls (lv_sub hl [1, 0, 3] rfl)
                                          · refine lv_ldc2 hx hb CX.ow (CX.ts _ q2197) dX3_digest_295 ?_
                                            refine lv_lload_n hx hb dX3_digest_298 rfl (lv_at hl 0 rfl) ?_
                                            refine lv_lmul hx hb dX3_digest_299 ?_
                                            refine lv_aload_n hx hb dX3_digest_300 rfl (lv_at hl 3 rfl) ?_
                                            refine lv_iload_n hx hb dX3_digest_301 rfl (lv_at hl 2 rfl) ?_
                                            refine lv_iload hx hb dX3_digest_302 (lv_at hl 1 rfl) ?_
                                            refine lv_iconst (v := nI 1) hx hb dX3_digest_304 rfl ?_
                                            refine b_ci (cs_X3_193 (rest := [.long (31 * (p_mx (p_mw (p_d5 S n) S i) (fun b => p_would S i b 1) j))]) CX hl.1 (m_X3_wouldCollect l (s_ := i) (b := j) (c_ := 1) hM hW (by omega) (by omega) (by omega) (fun q => hJ.2.1 _ _ _ _ hJS (by omega) (hW.kd3 (by omega)) (by omega) (a_coll0 q))) rfl rfl rfl hM.o0 hS rfl ⟨rfl, rfl, Nat.le_of_ble_eq_true rfl, Nat.le_of_ble_eq_true rfl⟩ (Nat.le_of_ble_eq_true rfl) dX3_digest_305 ⟨Nat.le_of_ble_eq_true rfl, Nat.le_of_ble_eq_true rfl⟩) hS (fun r H13 locs hp hS => ?_)
                                            obtain ⟨sp914, rfl, hM9⟩ := hp
                                            have hM : MW G B0 o H H13 (enc S) sp914 sv (fun j => nI (t j)) (nI n) (nI tn) (nI 0) pl iw lt on ot nu di := hM.tr hM9
                                            refine lv_i2l hx hb dX3_digest_308 rfl ?_
                                            refine lv_ladd hx hb dX3_digest_309 ?_
                                            refine lv_lstore_n (lv' := [(1, .long ((31 * (p_mx (p_mw (p_d5 S n) S i) (fun b => p_would S i b 1) j)) + ((p_would S i j 1).toInt64))), (4, .int (nI j)), (3, .int (nI i)), (0, .ref (o 0))]) hx hb dX3_digest_310 rfl hl (Nat.le_of_ble_eq_true rfl) rfl (fun ls hl => ?_)
                                            refine lv_iinc (v := nI (j + 1)) (lv' := [(4, .int (nI (j + 1))), (1, .long ((31 * (p_mx (p_mw (p_d5 S n) S i) (fun b => p_would S i b 1) j)) + ((p_would S i j 1).toInt64))), (3, .int (nI i)), (0, .ref (o 0))]) hx hb dX3_digest_311 hl (k := 1) rfl (nI_1 _) (Nat.le_of_ble_eq_true rfl) rfl (fun ls hl => ?_)
                                            refine lv_goto (tgt := 284) hx hb dX3_digest_314 (by decide) ?_
                                            exact ih284 (j + 1) (by omega) (by omega) H13 _ hM _ hS ls (lv_sub hl [1, 0, 2, 3] rfl)
                                      exact lp284_11 _ 0 (Nat.zero_le _) (Nat.lt_succ_self _) H8 _ hM _ hS ls (lv_sub hl [1, 0, 2, 3] rfl)
                                exact lp271_7 _ 0 (Nat.zero_le _) (Nat.lt_succ_self _) H1 _ hM _ hS ls (lv_sub hl [1, 0, 2] rfl)
                              · refine lv_ldc2 hx hb CX.ow (CX.ts _ q2197) dX3_digest_250 ?_
                                refine lv_lload_n hx hb dX3_digest_253 rfl (lv_at hl 0 rfl) ?_
                                refine lv_lmul hx hb dX3_digest_254 ?_
                                refine lv_aload_n hx hb dX3_digest_255 rfl (lv_at hl 2 rfl) ?_
                                refine lv_iload_n hx hb dX3_digest_256 rfl (lv_at hl 1 rfl) ?_
                                refine b_ci0 (cs_X3_196 (rest := [.long (31 * (p_mx (p_d4 S n) (fun q => p_shopFor S q) k))]) CX hl.1 (m_X3_shopFor l (k := k) hM hW (by omega)) rfl rfl rfl hM.o0 hS rfl ⟨rfl, rfl, Nat.le_of_ble_eq_true rfl, Nat.le_of_ble_eq_true rfl⟩ (Nat.le_of_ble_eq_true rfl) dX3_digest_257 ⟨Nat.le_of_ble_eq_true rfl, Nat.le_of_ble_eq_true rfl⟩) hS (fun locs hS => ?_)
                                refine lv_i2l hx hb dX3_digest_260 rfl ?_
                                refine lv_ladd hx hb dX3_digest_261 ?_
                                refine lv_lstore_n (lv' := [(1, .long ((31 * (p_mx (p_d4 S n) (fun q => p_shopFor S q) k)) + ((p_shopFor S k).toInt64))), (3, .int (nI k)), (0, .ref (o 0))]) hx hb dX3_digest_262 rfl hl (Nat.le_of_ble_eq_true rfl) rfl (fun ls hl => ?_)
                                refine lv_iinc (v := nI (k + 1)) (lv' := [(3, .int (nI (k + 1))), (1, .long ((31 * (p_mx (p_d4 S n) (fun q => p_shopFor S q) k)) + ((p_shopFor S k).toInt64))), (0, .ref (o 0))]) hx hb dX3_digest_263 hl (k := 1) rfl (nI_1 _) (Nat.le_of_ble_eq_true rfl) rfl (fun ls hl => ?_)
                                refine lv_goto (tgt := 245) hx hb dX3_digest_266 (by decide) ?_
                                exact ih245 (k + 1) (by omega) (by omega) _ hS ls (lv_sub hl [1, 0, 2] rfl)
                          exact lp245_6 _ 0 (Nat.zero_le _) (Nat.lt_succ_self _) _ hS ls (lv_sub hl [1, 0, 2] rfl)
                        · refine lv_iconst (v := nI 0) hx hb dX3_digest_178 rfl ?_
                          refine lv_istore (lv' := [(4, .int (nI 0)), (1, .long (p_ms (p_d3 S n) S i)), (3, .int (nI i)), (0, .ref (o 0))]) hx hb dX3_digest_179 hl (Nat.le_of_ble_eq_true rfl) rfl (fun ls hl => ?_)
                          have lp181_15 : ∀ (n_ : Nat) (k : Nat), k ≤ 28 → 28 - k < n_ → ∀ (locs : List Loc), va_S (b_A B0) s.heap H1 locs → ∀ ls : Array Slot, lv_has ls 5 [(1, .long (p_mk (p_ms (p_d3 S n) S i) (p_shop S i) k)), (4, .int (nI k)), (3, .int (nI i)), (0, .ref (o 0))] → W p l e ({ frames := 5, cells := 0, slots := 0, locals := 119 } : Room) s m ([.ref (o 0)] : List Value).toArray below meth c H1 locs 0 0 Q (F0 m 181 ls []) := by
                            intro n_
                            induction n_ with
                            | zero => intro k hzk hlt locs hS ls hl; exact absurd hlt (Nat.not_lt_zero _)
                            | succ n_ ih181 =>
                              intro k hzk hlt locs hS ls hl
                              refine lv_iload hx hb dX3_digest_181 (lv_at hl 1 rfl) ?_
                              refine lv_bipush (v := nI 28) hx hb dX3_digest_183 rfl ?_
                              refine b_icmp_geN (tgt := 237) CX (by omega) (by omega) dX3_digest_185 (by decide) (fun c_185 => ?_) (fun c_185 => ?_)
                              · obtain rfl : k = 28 := by omega
                                refine lv_iinc (v := nI (i + 1)) (lv' := [(3, .int (nI (i + 1))), (1, .long (p_mk (p_ms (p_d3 S n) S i) (p_shop S i) 28)), (4, .int (nI 28)), (0, .ref (o 0))]) hx hb dX3_digest_237 hl (k := 2) rfl (nI_1 _) (Nat.le_of_ble_eq_true rfl) rfl (fun ls hl => ?_)
                                refine lv_goto (tgt := 168) hx hb dX3_digest_240 (by decide) ?_
                                exact ih168 (i + 1) (by omega) (by omega) _ hS ls (lv_sub hl [1, 0, 3] rfl)
                              · refine lv_iload hx hb dX3_digest_188 (lv_at hl 1 rfl) ?_
                                refine lv_bipush (v := nI 7) hx hb dX3_digest_190 rfl ?_
                                refine b_icmp_ltN (tgt := 212) CX (by omega) (by omega) dX3_digest_192 (by decide) (fun c_192 => ?_) (fun c_192 => ?_)
                                · refine lv_ldc2 hx hb CX.ow (CX.ts _ q2197) dX3_digest_212 ?_
                                  refine lv_lload_n hx hb dX3_digest_215 rfl (lv_at hl 0 rfl) ?_
                                  refine lv_lmul hx hb dX3_digest_216 ?_
                                  refine lv_aload_n hx hb dX3_digest_217 rfl (lv_at hl 3 rfl) ?_
                                  refine lv_iload_n hx hb dX3_digest_218 rfl (lv_at hl 2 rfl) ?_
                                  refine lv_iload hx hb dX3_digest_219 (lv_at hl 1 rfl) ?_
                                  refine b_ci0 (cs_X3_185 (rest := [.long (31 * (p_mk (p_ms (p_d3 S n) S i) (p_shop S i) k))]) CX hl.1 (m_X3_aboutShop l (s_ := i) (k := k) hM (by omega) (by omega)) rfl rfl rfl hM.o0 hS rfl ⟨rfl, rfl, Nat.le_of_ble_eq_true rfl, Nat.le_of_ble_eq_true rfl⟩ (Nat.le_of_ble_eq_true rfl) dX3_digest_221 ⟨Nat.le_of_ble_eq_true rfl, Nat.le_of_ble_eq_true rfl⟩) hS (fun locs hS => ?_)
                                  refine lv_i2l hx hb dX3_digest_224 rfl ?_
                                  refine lv_ladd hx hb dX3_digest_225 ?_
                                  refine lv_goto (tgt := 230) hx hb dX3_digest_226 (by decide) ?_
                                  refine b_topL (x := (31 * (p_mk (p_ms (p_d3 S n) S i) (p_shop S i) k)) + ((p_shop S i k).toInt64)) (y := p_mk (p_ms (p_d3 S n) S i) (p_shop S i) (k + 1)) (by show _ = (if _ then _ else _); first | exact (if_pos (by omega)).symm | exact (if_neg (by omega)).symm) ?_
                                  refine lv_lstore_n (lv' := [(1, .long (p_mk (p_ms (p_d3 S n) S i) (p_shop S i) (k + 1))), (4, .int (nI k)), (3, .int (nI i)), (0, .ref (o 0))]) hx hb dX3_digest_230 rfl hl (Nat.le_of_ble_eq_true rfl) rfl (fun ls hl => ?_)
                                  refine lv_iinc (v := nI (k + 1)) (lv' := [(4, .int (nI (k + 1))), (1, .long (p_mk (p_ms (p_d3 S n) S i) (p_shop S i) (k + 1))), (3, .int (nI i)), (0, .ref (o 0))]) hx hb dX3_digest_231 hl (k := 1) rfl (nI_1 _) (Nat.le_of_ble_eq_true rfl) rfl (fun ls hl => ?_)
                                  refine lv_goto (tgt := 181) hx hb dX3_digest_234 (by decide) ?_
                                  exact ih181 (k + 1) (by omega) (by omega) _ hS ls (lv_sub hl [1, 0, 2, 3] rfl)
                                · refine lv_iload hx hb dX3_digest_195 (lv_at hl 1 rfl) ?_
                                  refine lv_bipush (v := nI 10) hx hb dX3_digest_197 rfl ?_
                                  refine lv_irem hx hb dX3_digest_199 (by decide) ?_
                                  refine b_top (x := (nI k) - (nI k) / (nI 10) * (nI 10)) (y := nI (k % 10)) ((pk_rem (by omega) (by decide) (by decide))) ?_
                                  refine lv_bipush (v := nI 8) hx hb dX3_digest_200 rfl ?_
                                  refine b_icmp_geN (tgt := 229) CX (by omega) (by omega) dX3_digest_202 (by decide) (fun c_202 => ?_) (fun c_202 => ?_)
                                  · refine lv_lload_n hx hb dX3_digest_229 rfl (lv_at hl 0 rfl) ?_
                                    refine b_topL (x := p_mk (p_ms (p_d3 S n) S i) (p_shop S i) k) (y := p_mk (p_ms (p_d3 S n) S i) (p_shop S i) (k + 1)) (by show _ = (if _ then _ else _); first | exact (if_pos (by omega)).symm | exact (if_neg (by omega)).symm) ?_
                                    refine lv_lstore_n (lv' := [(1, .long (p_mk (p_ms (p_d3 S n) S i) (p_shop S i) (k + 1))), (4, .int (nI k)), (3, .int (nI i)), (0, .ref (o 0))]) hx hb dX3_digest_230 rfl hl (Nat.le_of_ble_eq_true rfl) rfl (fun ls hl => ?_)
                                    refine lv_iinc (v := nI (k + 1)) (lv' := [(4, .int (nI (k + 1))), (1, .long (p_mk (p_ms (p_d3 S n) S i) (p_shop S i) (k + 1))), (3, .int (nI i)), (0, .ref (o 0))]) hx hb dX3_digest_231 hl (k := 1) rfl (nI_1 _) (Nat.le_of_ble_eq_true rfl) rfl (fun ls hl => ?_)
                                    refine lv_goto (tgt := 181) hx hb dX3_digest_234 (by decide) ?_
                                    exact ih181 (k + 1) (by omega) (by omega) _ hS ls (lv_sub hl [1, 0, 2, 3] rfl)
                                  · refine lv_iload hx hb dX3_digest_205 (lv_at hl 1 rfl) ?_
                                    refine lv_bipush (v := nI 9) hx hb dX3_digest_207 rfl ?_
                                    refine b_icmp_leN (tgt := 229) CX (by omega) (by omega) dX3_digest_209 (by decide) (fun c_209 => ?_) (fun c_209 => ?_)
                                    · refine lv_lload_n hx hb dX3_digest_229 rfl (lv_at hl 0 rfl) ?_
                                      refine b_topL (x := p_mk (p_ms (p_d3 S n) S i) (p_shop S i) k) (y := p_mk (p_ms (p_d3 S n) S i) (p_shop S i) (k + 1)) (by show _ = (if _ then _ else _); first | exact (if_pos (by omega)).symm | exact (if_neg (by omega)).symm) ?_
                                      refine lv_lstore_n (lv' := [(1, .long (p_mk (p_ms (p_d3 S n) S i) (p_shop S i) (k + 1))), (4, .int (nI k)), (3, .int (nI i)), (0, .ref (o 0))]) hx hb dX3_digest_230 rfl hl (Nat.le_of_ble_eq_true rfl) rfl (fun ls hl => ?_)
                                      refine lv_iinc (v := nI (k + 1)) (lv' := [(4, .int (nI (k + 1))), (1, .long (p_mk (p_ms (p_d3 S n) S i) (p_shop S i) (k + 1))), (3, .int (nI i)), (0, .ref (o 0))]) hx hb dX3_digest_231 hl (k := 1) rfl (nI_1 _) (Nat.le_of_ble_eq_true rfl) rfl (fun ls hl => ?_)
                                      refine lv_goto (tgt := 181) hx hb dX3_digest_234 (by decide) ?_
                                      exact ih181 (k + 1) (by omega) (by omega) _ hS ls (lv_sub hl [1, 0, 2, 3] rfl)
                                    · refine lv_ldc2 hx hb CX.ow (CX.ts _ q2197) dX3_digest_212 ?_
                                      refine lv_lload_n hx hb dX3_digest_215 rfl (lv_at hl 0 rfl) ?_
                                      refine lv_lmul hx hb dX3_digest_216 ?_
                                      refine lv_aload_n hx hb dX3_digest_217 rfl (lv_at hl 3 rfl) ?_
                                      refine lv_iload_n hx hb dX3_digest_218 rfl (lv_at hl 2 rfl) ?_
                                      refine lv_iload hx hb dX3_digest_219 (lv_at hl 1 rfl) ?_
                                      refine b_ci0 (cs_X3_185 (rest := [.long (31 * (p_mk (p_ms (p_d3 S n) S i) (p_shop S i) k))]) CX hl.1 (m_X3_aboutShop l (s_ := i) (k := k) hM (by omega) (by omega)) rfl rfl rfl hM.o0 hS rfl ⟨rfl, rfl, Nat.le_of_ble_eq_true rfl, Nat.le_of_ble_eq_true rfl⟩ (Nat.le_of_ble_eq_true rfl) dX3_digest_221 ⟨Nat.le_of_ble_eq_true rfl, Nat.le_of_ble_eq_true rfl⟩) hS (fun locs hS => ?_)
                                      refine lv_i2l hx hb dX3_digest_224 rfl ?_
                                      refine lv_ladd hx hb dX3_digest_225 ?_
                                      refine lv_goto (tgt := 230) hx hb dX3_digest_226 (by decide) ?_
                                      refine b_topL (x := (31 * (p_mk (p_ms (p_d3 S n) S i) (p_shop S i) k)) + ((p_shop S i k).toInt64)) (y := p_mk (p_ms (p_d3 S n) S i) (p_shop S i) (k + 1)) (by show _ = (if _ then _ else _); first | exact (if_pos (by omega)).symm | exact (if_neg (by omega)).symm) ?_
                                      refine lv_lstore_n (lv' := [(1, .long (p_mk (p_ms (p_d3 S n) S i) (p_shop S i) (k + 1))), (4, .int (nI k)), (3, .int (nI i)), (0, .ref (o 0))]) hx hb dX3_digest_230 rfl hl (Nat.le_of_ble_eq_true rfl) rfl (fun ls hl => ?_)
                                      refine lv_iinc (v := nI (k + 1)) (lv' := [(4, .int (nI (k + 1))), (1, .long (p_mk (p_ms (p_d3 S n) S i) (p_shop S i) (k + 1))), (3, .int (nI i)), (0, .ref (o 0))]) hx hb dX3_digest_231 hl (k := 1) rfl (nI_1 _) (Nat.le_of_ble_eq_true rfl) rfl (fun ls hl => ?_)
                                      refine lv_goto (tgt := 181) hx hb dX3_digest_234 (by decide) ?_
                                      exact ih181 (k + 1) (by omega) (by omega) _ hS ls (lv_sub hl [1, 0, 2, 3] rfl)
                          exact lp181_15 _ 0 (Nat.zero_le _) (Nat.lt_succ_self _) _ hS ls (lv_sub hl [1, 0, 2, 3] rfl)
                    exact lp168_5 _ 0 (Nat.zero_le _) (Nat.lt_succ_self _) _ hS ls (lv_sub hl [1, 0, 2] rfl)
                  · refine lv_iconst (v := nI 0) hx hb dX3_digest_79 rfl ?_
                    refine lv_istore (lv' := [(4, .int (nI 0)), (1, .long (p_mb (p_d2 S n) S b)), (3, .int (nI b)), (0, .ref (o 0))]) hx hb dX3_digest_80 hl (Nat.le_of_ble_eq_true rfl) rfl (fun ls hl => ?_)
                    have lp82_16 : ∀ (n_ : Nat) (k : Nat), k ≤ 12 → 12 - k < n_ → ∀ (locs : List Loc), va_S (b_A B0) s.heap H1 locs → ∀ ls : Array Slot, lv_has ls 5 [(1, .long (p_mx (p_mb (p_d2 S n) S b) (p_about S b) k)), (4, .int (nI k)), (3, .int (nI b)), (0, .ref (o 0))] → W p l e ({ frames := 5, cells := 0, slots := 0, locals := 119 } : Room) s m ([.ref (o 0)] : List Value).toArray below meth c H1 locs 0 0 Q (F0 m 82 ls []) := by
                      intro n_
                      induction n_ with
                      | zero => intro k hzk hlt locs hS ls hl; exact absurd hlt (Nat.not_lt_zero _)
                      | succ n_ ih82 =>
                        intro k hzk hlt locs hS ls hl
                        refine lv_iload hx hb dX3_digest_82 (lv_at hl 1 rfl) ?_
                        refine lv_bipush (v := nI 12) hx hb dX3_digest_84 rfl ?_
                        refine b_icmp_geN (tgt := 110) CX (by omega) (by omega) dX3_digest_86 (by decide) (fun c_86 => ?_) (fun c_86 => ?_)
                        · obtain rfl : k = 12 := by omega
                          refine lv_ldc2 hx hb CX.ow (CX.ts _ q2197) dX3_digest_110 ?_
                          refine lv_lload_n hx hb dX3_digest_113 rfl (lv_at hl 0 rfl) ?_
                          refine lv_lmul hx hb dX3_digest_114 ?_
                          refine lv_aload_n hx hb dX3_digest_115 rfl (lv_at hl 3 rfl) ?_
                          refine lv_iload_n hx hb dX3_digest_116 rfl (lv_at hl 2 rfl) ?_
                          refine lv_bipush (v := nI 25) hx hb dX3_digest_117 rfl ?_
                          refine b_ci0 (cs_X3_64 (rest := [.long (31 * (p_mx (p_mb (p_d2 S n) S b) (p_about S b) 12))]) CX hl.1 (m_X3_full l (b := b) (n_ := nI 25) hM hW (by omega)) rfl rfl rfl hM.o0 hS rfl ⟨rfl, rfl, Nat.le_of_ble_eq_true rfl, Nat.le_of_ble_eq_true rfl⟩ (Nat.le_of_ble_eq_true rfl) dX3_digest_119 ⟨Nat.le_of_ble_eq_true rfl, Nat.le_of_ble_eq_true rfl⟩) hS (fun locs hS => ?_)
                          refine lv_i2l hx hb dX3_digest_122 rfl ?_
                          refine lv_ladd hx hb dX3_digest_123 ?_
                          refine lv_lstore_n (lv' := [(1, .long ((31 * (p_mx (p_mb (p_d2 S n) S b) (p_about S b) 12)) + ((p_full S b (nI 25)).toInt64))), (4, .int (nI 12)), (3, .int (nI b)), (0, .ref (o 0))]) hx hb dX3_digest_124 rfl hl (Nat.le_of_ble_eq_true rfl) rfl (fun ls hl => ?_)
                          refine lv_iconst (v := nI 0) hx hb dX3_digest_125 rfl ?_
                          refine lv_istore (lv' := [(4, .int (nI 0)), (1, .long ((31 * (p_mx (p_mb (p_d2 S n) S b) (p_about S b) 12)) + ((p_full S b (nI 25)).toInt64))), (3, .int (nI b)), (0, .ref (o 0))]) hx hb dX3_digest_126 hl (Nat.le_of_ble_eq_true rfl) rfl (fun ls hl => ?_)
                          have lp128_17 : ∀ (n_ : Nat) (j : Nat), j ≤ ns S → ns S - j < n_ → ∀ (locs : List Loc), va_S (b_A B0) s.heap H1 locs → ∀ ls : Array Slot, lv_has ls 5 [(1, .long (p_mx (31 * p_mx (p_mb (p_d2 S n) S b) (p_about S b) 12 + (p_full S b (nI 25)).toInt64) (fun s => nI (p_dl S b s 50 0)) j)), (4, .int (nI j)), (3, .int (nI b)), (0, .ref (o 0))] → W p l e ({ frames := 5, cells := 0, slots := 0, locals := 119 } : Room) s m ([.ref (o 0)] : List Value).toArray below meth c H1 locs 0 0 Q (F0 m 128 ls []) := by
                            intro n_
                            induction n_ with
                            | zero => intro j hzj hlt locs hS ls hl; exact absurd hlt (Nat.not_lt_zero _)
                            | succ n_ ih128 =>
                              intro j hzj hlt locs hS ls hl
                              refine lv_iload hx hb dX3_digest_128 (lv_at hl 1 rfl) ?_
                              refine lv_aload_n hx hb dX3_digest_130 rfl (lv_at hl 3 rfl) ?_
                              refine gf_X3_7_8 CX hM.o0 rfl dX3_digest_131 ?_
                              refine lv_iconst (v := nI 1) hx hb dX3_digest_134 rfl ?_
                              refine b_ild CX hM.o1 (x := nI (ns S)) (vp_in_nI (by omega) (by omega)) (b_at_nI (by omega) (((enc_0 _ (by decide))).trans hW.nsE)) dX3_digest_135 ?_
                              refine b_icmp_geN (tgt := 160) CX (by omega) (by omega) dX3_digest_136 (by decide) (fun c_136 => ?_) (fun c_136 => ?_)
                              · obtain rfl : j = ns S := by omega
                                refine lv_iinc (v := nI (b + 1)) (lv' := [(3, .int (nI (b + 1))), (1, .long (p_mx (31 * p_mx (p_mb (p_d2 S n) S b) (p_about S b) 12 + (p_full S b (nI 25)).toInt64) (fun s => nI (p_dl S b s 50 0)) (ns S))), (4, .int (nI (ns S))), (0, .ref (o 0))]) hx hb dX3_digest_160 hl (k := 2) rfl (nI_1 _) (Nat.le_of_ble_eq_true rfl) rfl (fun ls hl => ?_)
                                refine lv_goto (tgt := 69) hx hb dX3_digest_163 (by decide) ?_
                                exact ih69 (b + 1) (by omega) (by omega) _ hS ls (lv_sub hl [1, 0, 3] rfl)
                              · refine lv_ldc2 hx hb CX.ow (CX.ts _ q2197) dX3_digest_139 ?_
                                refine lv_lload_n hx hb dX3_digest_142 rfl (lv_at hl 0 rfl) ?_
                                refine lv_lmul hx hb dX3_digest_143 ?_
                                refine lv_aload_n hx hb dX3_digest_144 rfl (lv_at hl 3 rfl) ?_
                                refine lv_iload_n hx hb dX3_digest_145 rfl (lv_at hl 2 rfl) ?_
                                refine lv_iload hx hb dX3_digest_146 (lv_at hl 1 rfl) ?_
                                refine b_ci0 (cs_X3_190 (rest := [.long (31 * (p_mx (31 * p_mx (p_mb (p_d2 S n) S b) (p_about S b) 12 + (p_full S b (nI 25)).toInt64) (fun s => nI (p_dl S b s 50 0)) j))]) CX hl.1 (m_X3_deliverable l (b := b) (s_ := j) hM hW (by omega) (by omega)) rfl rfl rfl hM.o0 hS rfl ⟨rfl, rfl, Nat.le_of_ble_eq_true rfl, Nat.le_of_ble_eq_true rfl⟩ (Nat.le_of_ble_eq_true rfl) dX3_digest_148 ⟨Nat.le_of_ble_eq_true rfl, Nat.le_of_ble_eq_true rfl⟩) hS (fun locs hS => ?_)
                                refine lv_i2l hx hb dX3_digest_151 rfl ?_
                                refine lv_ladd hx hb dX3_digest_152 ?_
                                refine lv_lstore_n (lv' := [(1, .long ((31 * (p_mx (31 * p_mx (p_mb (p_d2 S n) S b) (p_about S b) 12 + (p_full S b (nI 25)).toInt64) (fun s => nI (p_dl S b s 50 0)) j)) + ((nI (p_dl S b j 50 0)).toInt64))), (4, .int (nI j)), (3, .int (nI b)), (0, .ref (o 0))]) hx hb dX3_digest_153 rfl hl (Nat.le_of_ble_eq_true rfl) rfl (fun ls hl => ?_)
                                refine lv_iinc (v := nI (j + 1)) (lv' := [(4, .int (nI (j + 1))), (1, .long ((31 * (p_mx (31 * p_mx (p_mb (p_d2 S n) S b) (p_about S b) 12 + (p_full S b (nI 25)).toInt64) (fun s => nI (p_dl S b s 50 0)) j)) + ((nI (p_dl S b j 50 0)).toInt64))), (3, .int (nI b)), (0, .ref (o 0))]) hx hb dX3_digest_154 hl (k := 1) rfl (nI_1 _) (Nat.le_of_ble_eq_true rfl) rfl (fun ls hl => ?_)
                                refine lv_goto (tgt := 128) hx hb dX3_digest_157 (by decide) ?_
                                exact ih128 (j + 1) (by omega) (by omega) _ hS ls (lv_sub hl [1, 0, 2, 3] rfl)
                          exact lp128_17 _ 0 (Nat.zero_le _) (Nat.lt_succ_self _) _ hS ls (lv_sub hl [1, 0, 2, 3] rfl)
                        · refine lv_ldc2 hx hb CX.ow (CX.ts _ q2197) dX3_digest_89 ?_
                          refine lv_lload_n hx hb dX3_digest_92 rfl (lv_at hl 0 rfl) ?_
                          refine lv_lmul hx hb dX3_digest_93 ?_
                          refine lv_aload_n hx hb dX3_digest_94 rfl (lv_at hl 3 rfl) ?_
                          refine lv_iload_n hx hb dX3_digest_95 rfl (lv_at hl 2 rfl) ?_
                          refine lv_iload hx hb dX3_digest_96 (lv_at hl 1 rfl) ?_
                          refine b_ci0 (cs_X3_179 (rest := [.long (31 * (p_mx (p_mb (p_d2 S n) S b) (p_about S b) k))]) CX hl.1 (m_X3_aboutBrand l (b := b) (k := k) hM hW (by omega) (by omega)) rfl rfl rfl hM.o0 hS rfl ⟨rfl, rfl, Nat.le_of_ble_eq_true rfl, Nat.le_of_ble_eq_true rfl⟩ (Nat.le_of_ble_eq_true rfl) dX3_digest_98 ⟨Nat.le_of_ble_eq_true rfl, Nat.le_of_ble_eq_true rfl⟩) hS (fun locs hS => ?_)
                          refine lv_i2l hx hb dX3_digest_101 rfl ?_
                          refine lv_ladd hx hb dX3_digest_102 ?_
                          refine lv_lstore_n (lv' := [(1, .long ((31 * (p_mx (p_mb (p_d2 S n) S b) (p_about S b) k)) + ((p_about S b k).toInt64))), (4, .int (nI k)), (3, .int (nI b)), (0, .ref (o 0))]) hx hb dX3_digest_103 rfl hl (Nat.le_of_ble_eq_true rfl) rfl (fun ls hl => ?_)
                          refine lv_iinc (v := nI (k + 1)) (lv' := [(4, .int (nI (k + 1))), (1, .long ((31 * (p_mx (p_mb (p_d2 S n) S b) (p_about S b) k)) + ((p_about S b k).toInt64))), (3, .int (nI b)), (0, .ref (o 0))]) hx hb dX3_digest_104 hl (k := 1) rfl (nI_1 _) (Nat.le_of_ble_eq_true rfl) rfl (fun ls hl => ?_)
                          refine lv_goto (tgt := 82) hx hb dX3_digest_107 (by decide) ?_
                          exact ih82 (k + 1) (by omega) (by omega) _ hS ls (lv_sub hl [1, 0, 2, 3] rfl)
                    exact lp82_16 _ 0 (Nat.zero_le _) (Nat.lt_succ_self _) _ hS ls (lv_sub hl [1, 0, 2, 3] rfl)
              exact lp69_4 _ 0 (Nat.zero_le _) (Nat.lt_succ_self _) _ hS ls (lv_sub hl [1, 0, 2] rfl)
            · refine lv_ldc2 hx hb CX.ow (CX.ts _ q2197) dX3_digest_44 ?_
              refine lv_lload_n hx hb dX3_digest_47 rfl (lv_at hl 0 rfl) ?_
              refine lv_lmul hx hb dX3_digest_48 ?_
              refine lv_aload_n hx hb dX3_digest_49 rfl (lv_at hl 2 rfl) ?_
              refine gf_X3_7_8 CX hM.o0 rfl dX3_digest_50 ?_
              refine lv_bipush (v := nI 7) hx hb dX3_digest_53 rfl ?_
              refine lv_iload_n hx hb dX3_digest_55 rfl (lv_at hl 1 rfl) ?_
              refine b_iaddN CX dX3_digest_56 ?_
              refine b_ild CX hM.o1 (x := S 0 0 (7 + i)) (vp_in_nI (by omega) (by omega)) (b_at_nI (by omega) ((enc_0 _ (by omega)))) dX3_digest_57 ?_
              refine lv_i2l hx hb dX3_digest_58 rfl ?_
              refine lv_ladd hx hb dX3_digest_59 ?_
              refine lv_lstore_n (lv' := [(1, .long ((31 * (p_mx (p_d1 S n) (fun j => S 0 0 (7 + j)) i)) + ((S 0 0 (7 + i)).toInt64))), (3, .int (nI i)), (0, .ref (o 0))]) hx hb dX3_digest_60 rfl hl (Nat.le_of_ble_eq_true rfl) rfl (fun ls hl => ?_)
              refine lv_iinc (v := nI (i + 1)) (lv' := [(3, .int (nI (i + 1))), (1, .long ((31 * (p_mx (p_d1 S n) (fun j => S 0 0 (7 + j)) i)) + ((S 0 0 (7 + i)).toInt64))), (0, .ref (o 0))]) hx hb dX3_digest_61 hl (k := 1) rfl (nI_1 _) (Nat.le_of_ble_eq_true rfl) rfl (fun ls hl => ?_)
              refine lv_goto (tgt := 38) hx hb dX3_digest_64 (by decide) ?_
              exact ih38 (i + 1) (by omega) (by omega) _ hS ls (lv_sub hl [1, 0, 2] rfl)
        exact lp38_3 _ 0 (Nat.zero_le _) (Nat.lt_succ_self _) _ hS ls (lv_sub hl [1, 0, 2] rfl)
      · refine lv_ldc2 hx hb CX.ow (CX.ts _ q2197) dX3_digest_17 ?_
        refine lv_lload_n hx hb dX3_digest_20 rfl (lv_at hl 0 rfl) ?_
        refine lv_lmul hx hb dX3_digest_21 ?_
        refine lv_aload_n hx hb dX3_digest_22 rfl (lv_at hl 2 rfl) ?_
        refine lv_iload_n hx hb dX3_digest_23 rfl (lv_at hl 1 rfl) ?_
        refine b_ci0 (cs_X3_188 (rest := [.long (31 * (p_mx 2411 (p_number S n) i))]) CX hl.1 (m_X3_number l (k := i) hM hW (by omega)) rfl rfl rfl hM.o0 hS rfl ⟨rfl, rfl, Nat.le_of_ble_eq_true rfl, Nat.le_of_ble_eq_true rfl⟩ (Nat.le_of_ble_eq_true rfl) dX3_digest_24 ⟨Nat.le_of_ble_eq_true rfl, Nat.le_of_ble_eq_true rfl⟩) hS (fun locs hS => ?_)
        refine lv_i2l hx hb dX3_digest_27 rfl ?_
        refine lv_ladd hx hb dX3_digest_28 ?_
        refine lv_lstore_n (lv' := [(1, .long ((31 * (p_mx 2411 (p_number S n) i)) + ((p_number S n i).toInt64))), (3, .int (nI i)), (0, .ref (o 0))]) hx hb dX3_digest_29 rfl hl (Nat.le_of_ble_eq_true rfl) rfl (fun ls hl => ?_)
        refine lv_iinc (v := nI (i + 1)) (lv' := [(3, .int (nI (i + 1))), (1, .long ((31 * (p_mx 2411 (p_number S n) i)) + ((p_number S n i).toInt64))), (0, .ref (o 0))]) hx hb dX3_digest_30 hl (k := 1) rfl (nI_1 _) (Nat.le_of_ble_eq_true rfl) rfl (fun ls hl => ?_)
        refine lv_goto (tgt := 11) hx hb dX3_digest_33 (by decide) ?_
        exact ih11 (i + 1) (by omega) (by omega) _ hS ls (lv_sub hl [1, 0, 2] rfl)
  exact lp11_2 _ 0 (Nat.zero_le _) (Nat.lt_succ_self _) _ hS ls (lv_sub hl [1, 0, 2] rfl)
