/-! the reader of texts -/
set_option maxRecDepth 100000
def q_nx (t : Nat → Nat) (n p : Nat) : Nat := if p < n then t p else 0
theorem q_nx_lt {t : Nat → Nat} {n p : Nat} (ht : ∀ j, t j < 128) : q_nx t n p < 128 := by
  unfold q_nx
  split
  · exact ht p
  · decide
theorem q_nx_p {t : Nat → Nat} {n p : Nat} (h : 0 < q_nx t n p) : p < n := by
  unfold q_nx at h
  split at h
  · assumption
  · exact absurd h (Nat.lt_irrefl 0)
theorem q_nx_v {t : Nat → Nat} {n p : Nat} (h : p < n) : q_nx t n p = t p := if_pos h
theorem q_nx_e {t : Nat → Nat} {n p c : Nat} (hc : 0 < c) : q_nx t n p = c ↔ p < n ∧ t p = c := by
  constructor
  · intro h
    have h1 := q_nx_p (t := t) (n := n) (p := p) (by omega)
    rw [q_nx_v h1] at h
    exact ⟨h1, h⟩
  · rintro ⟨h1, h2⟩
    rw [q_nx_v h1, h2]
theorem q_dgx {t : Nat → Nat} {n p h : Nat} (ht : ∀ j, t j < 128) (hh : h < 10) : (nI 0 ≤ nI (q_nx t n p) - nI 48 ∧ nI (q_nx t n p) - nI 48 ≤ nI h) ↔ (p < n ∧ 48 ≤ t p ∧ t p ≤ 48 + h) := by
  rw [q_dg_in (q_nx_lt ht) hh]
  constructor
  · rintro ⟨a, b⟩
    have h1 := q_nx_p (t := t) (n := n) (p := p) (by omega)
    rw [q_nx_v h1] at a b
    exact ⟨h1, a, b⟩
  · rintro ⟨h1, a, b⟩
    rw [q_nx_v h1]
    exact ⟨a, b⟩
theorem p_inN {a x b : Nat} (ha : a < 2147483648) (hx : x < 2147483648) (hb : b < 2147483648) : (nI a ≤ nI x ∧ nI x ≤ nI b) ↔ (a ≤ x ∧ x ≤ b) := by rw [nI_leI ha hx, nI_leI hx hb]
theorem q_num_x {t : Nat → Nat} {n hi u v : Nat} (h : ¬ (48 ≤ q_nx t n u ∧ q_nx t n u ≤ 57)) : q_num t n hi (n - u) u v = (u, v) := by
  refine q_num_e ?_
  rintro ⟨a, b, c, d⟩
  rw [q_nx_v a] at h
  split at b <;> omega
theorem q_num_y {t : Nat → Nat} {n hi u v : Nat} (h0 : 48 ≤ q_nx t n u) (h : ¬ (1 ≤ 10 * v + q_nx t n u - 48 ∧ 10 * v + q_nx t n u - 48 ≤ hi)) : q_num t n hi (n - u) u v = (u, v) := by
  refine q_num_e ?_
  rintro ⟨a, b, c, d⟩
  rw [q_nx_v a] at h
  split at b <;> omega
theorem q_num_z {t : Nat → Nat} {n hi u v : Nat} (h0 : 48 ≤ q_nx t n u ∧ q_nx t n u ≤ 57) (h : 1 ≤ 10 * v + q_nx t n u - 48 ∧ 10 * v + q_nx t n u - 48 ≤ hi) : q_num t n hi (n - (u + 1)) (u + 1) (10 * v + q_nx t n u - 48) = q_num t n hi (n - u) u v := by
  have a := q_nx_p (t := t) (n := n) (p := u) (by omega)
  rw [q_nx_v a] at h0 h ⊢
  exact q_num_s a (by split <;> omega) h0.2 h.2
theorem nI_ne_m1 {n : Nat} (h : n < 2147483648) : ¬ nI n = (-1 : Int32) := by
  intro q
  have e := congrArg Int32.toInt q
  rw [nI_toInt h] at e
  have h3 : (-1 : Int32).toInt = -1 := rfl
  omega
/-- the orders read so far: the list, its array, the objects -/
def RO (G : b_G) (B0 : Nat) (τ : b_T) (H : Heap) (ro : Nat) (l : List (Nat × Nat × Nat × Nat)) : Prop :=
  ∃ (O : Nat → Nat) (mo : Int32) (so : Bool) (ra : Nat), b_tt G B0 τ H ro 111 (.inr (2, [.int mo, .ref (if so = true then ra else G.2.2 0), .int (nI l.length)])) ∧
    (so = true → b_tt G B0 τ H ra 112 (.inl (G.2.1 2, q_refs 10 (fun j => if j < l.length then some (O j) else none)))) ∧ (so = true ∨ l.length = 0) ∧
    ∀ j x, l[j]? = some x → b_tt G B0 τ H (O j) (120 + j) (.inr (7, [.int (nI x.1), .int (nI x.2.1), .int (nI x.2.2.1), .int (nI x.2.2.2)]))
section ROS
variable {G : b_G} {B0 : Nat} {τ τ1 : b_T} {H H1 : Heap} {ro : Nat} {l : List (Nat × Nat × Nat × Nat)} {T : Nat → Prop} {a b t tb : Nat}
theorem RO.mv (h : RO G B0 τ H ro l) (f : ∀ a t e, t = 111 ∨ t = 112 ∨ (120 ≤ t ∧ t < 120 + l.length) → b_tt G B0 τ H a t e → b_tt G B0 τ1 H1 a t e) : RO G B0 τ1 H1 ro l := by
  obtain ⟨O, mo, so, ra, h1, h2, h3, h4⟩ := h
  exact ⟨O, mo, so, ra, f _ _ _ (Or.inl rfl) h1, fun q => f _ _ _ (Or.inr (Or.inl rfl)) (h2 q), h3, fun j x hj => f _ _ _ (Or.inr (Or.inr ⟨by omega, by have := (List.getElem?_eq_some_iff.mp hj).1; omega⟩)) (h4 j x hj)⟩
theorem RO.fr (h : RO G B0 τ H ro l) (hF : b_Fr τ T H H1) (hT : ∀ i, i = 111 ∨ i = 112 ∨ (120 ≤ i ∧ i < 120 + l.length) → ¬ T i) : RO G B0 τ H1 ro l := h.mv fun _ t _ ht h => h.fr hF (hT t ht)
theorem RO.ca (h : RO G B0 τ H ro l) (hF : b_Fr τ T H H1) (hA : b_Ag τ τ1 H) (hT : ∀ i, i = 111 ∨ i = 112 ∨ (120 ≤ i ∧ i < 120 + l.length) → ¬ T i) : RO G B0 τ1 H1 ro l := h.mv fun _ t _ ht h => h.ca hF hA (hT t ht)
theorem RO.new (h : RO G B0 τ H ro l) (hE : b_Ext H H1) (hq : b = H.size) : RO G B0 (upT τ b tb) H1 ro l := h.mv fun _ _ _ _ h => h.new hE hq
theorem RO.ad (h : RO G B0 τ H ro l) (hE : b_Ext H H1) (hq : H.size ≤ b) : RO G B0 (upT τ b tb) H1 ro l := h.mv fun _ _ _ _ h => h.ad hE hq
theorem RO.ext (h : RO G B0 τ H ro l) (hE : b_Ext H H1) : RO G B0 τ H1 ro l := h.mv fun _ _ _ _ h => h.ext hE
theorem RO.up (h : RO G B0 τ H ro l) (hu : b_Up a H H1) (ha : τ a = t) (ht : ∀ i, i = 111 ∨ i = 112 ∨ (120 ≤ i ∧ i < 120 + l.length) → ¬ i = t) : RO G B0 τ H1 ro l := h.mv fun _ i _ hi h => h.up hu ha (ht i hi)
theorem RO.push {O : Nat → Nat} {mo : Int32} {r q : Nat} {x : Nat × Nat × Nat × Nat} (h1 : b_tt G B0 τ H ro 111 (.inr (2, [.int mo, .ref r, .int (nI (l.length + 1))])))
    (h2 : b_tt G B0 τ H r 112 (.inl (G.2.1 2, q_refs 10 (fun j => if j < l.length + 1 then some (if j = l.length then q else O j) else none))))
    (h3 : b_tt G B0 τ H q (120 + l.length) (.inr (7, [.int (nI x.1), .int (nI x.2.1), .int (nI x.2.2.1), .int (nI x.2.2.2)])))
    (h4 : ∀ j x, l[j]? = some x → b_tt G B0 τ H (O j) (120 + j) (.inr (7, [.int (nI x.1), .int (nI x.2.1), .int (nI x.2.2.1), .int (nI x.2.2.2)]))) : RO G B0 τ H ro (l ++ [x]) := by
  have e : (l ++ [x]).length = l.length + 1 := by simp
  refine ⟨fun j => if j = l.length then q else O j, mo, true, r, by rw [e]; exact h1, fun _ => by rw [e]; exact h2, Or.inl rfl, fun j y hj => ?_⟩
  by_cases c : j = l.length
  · subst c
    have hy : x = y := by simpa using hj
    subst hy
    dsimp only
    rw [if_pos rfl]
    exact h3
  · have hj2 := (List.getElem?_eq_some_iff.mp hj).1
    rw [e] at hj2
    dsimp only
    rw [if_neg c]
    rw [List.getElem?_append_left (by omega)] at hj
    exact h4 j y hj
end ROS
theorem gf_X20_22_6 {p : Program} {l : Launch} {e : Env} {R : Room} {s : State} {m : MethodId} {args : Array Value} {below : List Frame} {meth : Method} {c : Code} {H : Heap} {locs : List Loc} {cells slots : Nat} {Q : State → Prop} {cc : ByteArray} {pc nL a : Nat} {ls : Array Slot} {rest : List Value} {G : b_G} {B0 : Nat} (CX : b_Cx p s m args c cc nL RX20 G B0) {fs : List Value} (hP : b_at G a (.inr (6, fs)) H) {v : Value} (hv : fs[1]? = some v) (hdg : decode cc pc = .ok (.getfield 22, 3)) (kk : W p l e R s m args below meth c H locs cells slots Q (F0 m (pc + 3) ls (v :: rest))) : W p l e R s m args below meth c H locs cells slots Q (F0 m pc ls (.ref a :: rest)) := b_get CX in_X20 rfl 1 (by decide) q643 (Or.inl rfl) hP hv hdg kk
theorem gf_X20_3_6 {p : Program} {l : Launch} {e : Env} {R : Room} {s : State} {m : MethodId} {args : Array Value} {below : List Frame} {meth : Method} {c : Code} {H : Heap} {locs : List Loc} {cells slots : Nat} {Q : State → Prop} {cc : ByteArray} {pc nL a : Nat} {ls : Array Slot} {rest : List Value} {G : b_G} {B0 : Nat} (CX : b_Cx p s m args c cc nL RX20 G B0) {fs : List Value} (hP : b_at G a (.inr (6, fs)) H) {v : Value} (hv : fs[2]? = some v) (hdg : decode cc pc = .ok (.getfield 3, 3)) (kk : W p l e R s m args below meth c H locs cells slots Q (F0 m (pc + 3) ls (v :: rest))) : W p l e R s m args below meth c H locs cells slots Q (F0 m pc ls (.ref a :: rest)) := b_get CX in_X20 rfl 2 (by decide) q645 (Or.inl rfl) hP hv hdg kk
theorem gf_X20_26_0 {p : Program} {l : Launch} {e : Env} {R : Room} {s : State} {m : MethodId} {args : Array Value} {below : List Frame} {meth : Method} {c : Code} {H : Heap} {locs : List Loc} {cells slots : Nat} {Q : State → Prop} {cc : ByteArray} {pc nL a : Nat} {ls : Array Slot} {rest : List Value} {G : b_G} {B0 : Nat} (CX : b_Cx p s m args c cc nL RX20 G B0) {fs : List Value} (hP : b_at G a (.inr (0, fs)) H) {v : Value} (hv : fs[2]? = some v) (hdg : decode cc pc = .ok (.getfield 26, 3)) (kk : W p l e R s m args below meth c H locs cells slots Q (F0 m (pc + 3) ls (v :: rest))) : W p l e R s m args below meth c H locs cells slots Q (F0 m pc ls (.ref a :: rest)) := b_getN CX in_X1 rfl 2 (by decide) q259 (Or.inl rfl) hP hv hdg kk
theorem cs_X20_30 {p : Program} {l : Launch} {e : Env} {R : Room} {s : State} {m : MethodId} {args : Array Value} {below : List Frame} {meth : Method} {c : Code} {H : Heap} {locs : List Loc} {cells slots : Nat} {cc : ByteArray} {pc nL a : Nat} {ls : Array Slot} {rest : List Value} {G : b_G} {B0 : Nat} (CX : b_Cx p s m args c cc nL RX20 G B0) (hls : ls.size = nL) {rm : Room} {mc ms : Nat} {As st0 : List Value} {Qc : Array Value → State → Outcome → State → Prop} (hM : Met l yJ4_length (ws_ yJ4_length cJ4_length 1 (Option.some Jvm.ClassFile.FieldType.int)) rm (b_Pc G B0 H (.ref a :: As)) Qc mc ms (b_A B0)) (hn : As.length = 0) {fs : List Value} {ci : Nat} {qc : vw_C} (hc : b_cl[ci]? = some qc) (hq : qc.1 = RJ4) (hP : b_at G a (.inr (ci, fs)) H) (hS : va_S (b_A B0) s.heap H locs) (hst : st0 = As.reverse ++ .ref a :: rest) (hr : rm.cells = mc ∧ rm.slots = ms ∧ rm.frames + 1 ≤ R.frames ∧ 8 + (1 + 11) + rm.locals ≤ R.locals) (hw : (rest.map fun v => v.category).sum ≤ 8) (hdg : decode cc pc = .ok (.invokevirtual 30, 3)) (hf : cells + mc ≤ R.cells ∧ slots + ms ≤ R.slots) : va_Run p l e R s m args below meth c H locs cells slots mc ms (F0 m pc ls st0) rest (Qc (Value.ref a :: As).toArray) (b_A B0) := va_runV CX.fix hM (cwV 0 CX.ts (lw_V q665 q280 q281 q85 q282) rfl hr.1 hr.2.1 (by decide +kernel) ⟨hr.2.2.1, hr.2.2.2⟩) ⟨b_blind G B0 H _, by have h9 := b_recv CX.K hc hP; rw [hq] at h9; exact h9, b_pre _ CX.K hS⟩ rfl hn hls hst (lv_room hw) hdg hf
theorem cs_X20_36 {p : Program} {l : Launch} {e : Env} {R : Room} {s : State} {m : MethodId} {args : Array Value} {below : List Frame} {meth : Method} {c : Code} {H : Heap} {locs : List Loc} {cells slots : Nat} {cc : ByteArray} {pc nL a : Nat} {ls : Array Slot} {rest : List Value} {G : b_G} {B0 : Nat} (CX : b_Cx p s m args c cc nL RX20 G B0) (hls : ls.size = nL) {rm : Room} {mc ms : Nat} {As st0 : List Value} {Qc : Array Value → State → Outcome → State → Prop} (hM : Met l yJ4_charAt (ws_ yJ4_charAt cJ4_charAt 2 (Option.some Jvm.ClassFile.FieldType.char)) rm (b_Pc G B0 H (.ref a :: As)) Qc mc ms (b_A B0)) (hn : As.length = 1) {fs : List Value} {ci : Nat} {qc : vw_C} (hc : b_cl[ci]? = some qc) (hq : qc.1 = RJ4) (hP : b_at G a (.inr (ci, fs)) H) (hS : va_S (b_A B0) s.heap H locs) (hst : st0 = As.reverse ++ .ref a :: rest) (hr : rm.cells = mc ∧ rm.slots = ms ∧ rm.frames + 1 ≤ R.frames ∧ 8 + (2 + 11) + rm.locals ≤ R.locals) (hw : (rest.map fun v => v.category).sum ≤ 8) (hdg : decode cc pc = .ok (.invokevirtual 36, 3)) (hf : cells + mc ≤ R.cells ∧ slots + ms ≤ R.slots) : va_Run p l e R s m args below meth c H locs cells slots mc ms (F0 m pc ls st0) rest (Qc (Value.ref a :: As).toArray) (b_A B0) := va_runV CX.fix hM (cwV 1 CX.ts (lw_V q666 q667 q668 q85 q669) rfl hr.1 hr.2.1 (by decide +kernel) ⟨hr.2.2.1, hr.2.2.2⟩) ⟨b_blind G B0 H _, by have h9 := b_recv CX.K hc hP; rw [hq] at h9; exact h9, b_pre _ CX.K hS⟩ rfl hn hls hst (lv_room hw) hdg hf
set_option maxHeartbeats 2000000 in
set_option maxRecDepth 100000 in
theorem m_X20_next (l : Launch) {G : b_G} {B0 : Nat} {H : Heap} {τ : b_T} {t : Nat → Nat} {rr : Nat} {ro : Nat} {pp : Nat} {a : Nat} {f0 : Nat} {asv : Nat} {atx : Nat} {atk : Nat} {hs : Int64} {va : Nat} {ml : Int32} {tn : Nat} {bt : Nat → Int32} (hc_rd : b_tt G B0 τ H rr 110 (.inr (6, [.ref ro, .int (nI pp), .ref a]))) (hc_X : b_tt G B0 τ H a 0 (.inr (0, [.ref f0, .ref asv, .ref atx, .ref atk, .long hs]))) (hc_tx : b_tt G B0 τ H atx 3 (.inr (3, [.ref va, .int (nI 0), .int ml, .int (nI tn)]))) (hc_tb : b_tt G B0 τ H va 4 (.inl (G.2.1 1, 60, .inl bt))) (hbt : ∀ j, j < tn → bt j = nI (t j)) (ht : ∀ j, t j < 128) (htn : tn ≤ 60) (hpl : pp ≤ tn) : Met l yX20_next (ws_ yX20_next cX20_next 1 (Option.some Jvm.ClassFile.FieldType.int)) ({ frames := 4, cells := 0, slots := 0, locals := 88 } : Room) (b_Pc G B0 H [.ref rr]) (b_Qi B0 (fun r H1 => r = nI (q_nx t tn pp) ∧ H1 = H)) 0 0 (b_A B0) := by
  refine b_of (by decide) (Nat.le_of_ble_eq_true rfl) ?_
  intro p e s m below meth c CX hr hlk hnm hS ls hl
  have CX : b_Cx p s m _ c cX20_next 1 RX20 G B0 := CX
  have hx := CX.hx
  have hb := CX.hb
  have hl : lv_has ls 1 [(0, .ref rr)] := hl
  generalize hQ : MQ below (b_Qi B0 (fun r H1 => r = nI (q_nx t tn pp) ∧ H1 = H)) ([.ref rr] : List Value).toArray s 0 0 (b_A B0) = Q
  refine lv_aload_n hx hb dX20_next_0 rfl (lv_at hl 0 rfl) ?_
  refine gf_X20_22_6 CX hc_rd.at rfl dX20_next_1 ?_
  refine lv_aload_n hx hb dX20_next_4 rfl (lv_at hl 0 rfl) ?_
  refine gf_X20_3_6 CX hc_rd.at rfl dX20_next_5 ?_
  refine gf_X20_26_0 CX hc_X.at rfl dX20_next_8 ?_
  refine b_ci0 (cs_X20_30 (rest := [.int (nI pp)]) CX hl.1 (m_J4_length l (a := atx) (ta := 3) (va := va) (tv := 4) (f := bt) (ml := ml) (n := tn) hc_tx hc_tb) rfl rfl rfl hc_tx.at hS rfl ⟨rfl, rfl, Nat.le_of_ble_eq_true rfl, Nat.le_of_ble_eq_true rfl⟩ (Nat.le_of_ble_eq_true rfl) dX20_next_11 ⟨Nat.le_of_ble_eq_true rfl, Nat.le_of_ble_eq_true rfl⟩) hS (fun locs hS => ?_)
  refine b_icmp_geN (tgt := 34) CX (by omega) (by omega) dX20_next_14 (by decide) (fun c_14 => ?_) (fun c_14 => ?_)
  · refine lv_iconst (v := nI 0) hx hb dX20_next_34 rfl ?_
    rw [← hQ]
    exact b_iret CX hr hlk hS (Nat.le_of_ble_eq_true rfl) (Nat.le_of_ble_eq_true rfl) dX20_next_35 (⟨(by first | exact congrArg nI (if_pos (by omega)).symm | exact congrArg nI (if_neg (by omega)).symm), rfl⟩)
  · refine lv_aload_n hx hb dX20_next_17 rfl (lv_at hl 0 rfl) ?_
    refine gf_X20_3_6 CX hc_rd.at rfl dX20_next_18 ?_
    refine gf_X20_26_0 CX hc_X.at rfl dX20_next_21 ?_
    refine lv_aload_n hx hb dX20_next_24 rfl (lv_at hl 0 rfl) ?_
    refine gf_X20_22_6 CX hc_rd.at rfl dX20_next_25 ?_
    have hf := hbt pp (by omega)
    have htp := ht pp
    refine b_ci0 (cs_X20_36 (rest := []) CX hl.1 (m_J4_charAt l (a := atx) (ta := 3) (va := va) (tv := 4) (f := bt) (ml := ml) (n := tn) (i := pp) (k := t pp) hc_tx hc_tb (by omega) (by omega) hf (by omega)) rfl rfl rfl hc_tx.at hS rfl ⟨rfl, rfl, Nat.le_of_ble_eq_true rfl, Nat.le_of_ble_eq_true rfl⟩ (Nat.le_of_ble_eq_true rfl) dX20_next_28 ⟨Nat.le_of_ble_eq_true rfl, Nat.le_of_ble_eq_true rfl⟩) hS (fun locs hS => ?_)
    refine lv_goto (tgt := 35) hx hb dX20_next_31 (by decide) ?_
    rw [← hQ]
    exact b_iret CX hr hlk hS (Nat.le_of_ble_eq_true rfl) (Nat.le_of_ble_eq_true rfl) dX20_next_35 (⟨(by first | exact congrArg nI (if_pos (by omega)).symm | exact congrArg nI (if_neg (by omega)).symm), rfl⟩)
theorem cs_X20_40 {p : Program} {l : Launch} {e : Env} {R : Room} {s : State} {m : MethodId} {args : Array Value} {below : List Frame} {meth : Method} {c : Code} {H : Heap} {locs : List Loc} {cells slots : Nat} {cc : ByteArray} {pc nL a : Nat} {ls : Array Slot} {rest : List Value} {G : b_G} {B0 : Nat} (CX : b_Cx p s m args c cc nL RX20 G B0) (hls : ls.size = nL) {rm : Room} {mc ms : Nat} {As st0 : List Value} {Qc : Array Value → State → Outcome → State → Prop} (hM : Met l yX20_next (ws_ yX20_next cX20_next 1 (Option.some Jvm.ClassFile.FieldType.int)) rm (b_Pc G B0 H (.ref a :: As)) Qc mc ms (b_A B0)) (hn : As.length = 0) {fs : List Value} {ci : Nat} {qc : vw_C} (hc : b_cl[ci]? = some qc) (hq : qc.1 = RX20) (hP : b_at G a (.inr (ci, fs)) H) (hS : va_S (b_A B0) s.heap H locs) (hst : st0 = As.reverse ++ .ref a :: rest) (hr : rm.cells = mc ∧ rm.slots = ms ∧ rm.frames + 1 ≤ R.frames ∧ 8 + (1 + 11) + rm.locals ≤ R.locals) (hw : (rest.map fun v => v.category).sum ≤ 8) (hdg : decode cc pc = .ok (.invokevirtual 40, 3)) (hf : cells + mc ≤ R.cells ∧ slots + ms ≤ R.slots) : va_Run p l e R s m args below meth c H locs cells slots mc ms (F0 m pc ls st0) rest (Qc (Value.ref a :: As).toArray) (b_A B0) := va_runV CX.fix hM (cwV 0 CX.ts (lw_V q661 q663 qs2 q122 q664) rfl hr.1 hr.2.1 (by decide +kernel) ⟨hr.2.2.1, hr.2.2.2⟩) ⟨b_blind G B0 H _, by have h9 := b_recv CX.K hc hP; rw [hq] at h9; exact h9, b_pre _ CX.K hS⟩ rfl hn hls hst (lv_room hw) hdg hf
theorem pf_X20_22_6 {p : Program} {l : Launch} {e : Env} {R : Room} {s : State} {m : MethodId} {args : Array Value} {below : List Frame} {meth : Method} {c : Code} {H : Heap} {locs : List Loc} {cells slots : Nat} {Q : State → Prop} {cc : ByteArray} {pc nL a : Nat} {ls : Array Slot} {rest : List Value} {G : b_G} {B0 : Nat} (CX : b_Cx p s m args c cc nL RX20 G B0) {fs : List Value} (hP : b_at G a (.inr (6, fs)) H) (hS : va_S (b_A B0) s.heap H locs) (ha : B0 ≤ a) {v : Value} (hn : narrow (tyX20 1) v = v) (hfit : fits (tyX20 1) v = true) (hl : 1 < fs.length) (hdg : decode cc pc = .ok (.putfield 22, 3)) (kk : ∀ (H1 : Heap) (locs1 : List Loc), b_at G a (.inr (6, fs.set 1 v)) H1 → b_Up a H H1 → va_S (b_A B0) s.heap H1 locs1 → W p l e R s m args below meth c H1 locs1 cells slots Q (F0 m (pc + 3) ls rest)) : W p l e R s m args below meth c H locs cells slots Q (F0 m pc ls (v :: .ref a :: rest)) := b_put CX in_X20 tyX20 tyX20_ok rfl 1 (by decide) (by decide +kernel) q643 (Or.inl rfl) rfl hP hS ha hn hfit hl hdg kk
set_option maxHeartbeats 2000000 in
set_option maxRecDepth 100000 in
theorem m_X20_takes (l : Launch) {G : b_G} {B0 : Nat} {H : Heap} {τ : b_T} {t : Nat → Nat} {rr : Nat} {ro : Nat} {pp : Nat} {a : Nat} {f0 : Nat} {asv : Nat} {atx : Nat} {atk : Nat} {hs : Int64} {va : Nat} {ml : Int32} {tn : Nat} {bt : Nat → Int32} {ch : Nat} (hc_rd : b_tt G B0 τ H rr 110 (.inr (6, [.ref ro, .int (nI pp), .ref a]))) (hc_X : b_tt G B0 τ H a 0 (.inr (0, [.ref f0, .ref asv, .ref atx, .ref atk, .long hs]))) (hc_tx : b_tt G B0 τ H atx 3 (.inr (3, [.ref va, .int (nI 0), .int ml, .int (nI tn)]))) (hc_tb : b_tt G B0 τ H va 4 (.inl (G.2.1 1, 60, .inl bt))) (hbt : ∀ j, j < tn → bt j = nI (t j)) (ht : ∀ j, t j < 128) (htn : tn ≤ 60) (hpl : pp ≤ tn) (hch : 0 < ch) (hch2 : ch < 128) : Met l yX20_takes (ws_ yX20_takes cX20_takes 3 (Option.some Jvm.ClassFile.FieldType.boolean)) ({ frames := 5, cells := 0, slots := 0, locals := 108 } : Room) (b_Pc G B0 H [.ref rr, .int (nI ch)]) (b_Qi B0 (fun r H1 => r = bI (pp < tn ∧ t pp = ch) ∧ b_Fr τ (fun t => t = 110) H H1 ∧ b_tt G B0 τ H1 rr 110 (.inr (6, [.ref ro, .int (nI ((if pp < tn ∧ t pp = ch then pp + 1 else pp))), .ref a])))) 0 0 (b_A B0) := by
  refine b_of (by decide) (Nat.le_of_ble_eq_true rfl) ?_
  intro p e s m below meth c CX hr hlk hnm hS ls hl
  have CX : b_Cx p s m _ c cX20_takes 3 RX20 G B0 := CX
  have hx := CX.hx
  have hb := CX.hb
  have hl : lv_has ls 3 [(0, .ref rr), (1, .int (nI ch))] := hl
  generalize hQ : MQ below (b_Qi B0 (fun r H1 => r = bI (pp < tn ∧ t pp = ch) ∧ b_Fr τ (fun t => t = 110) H H1 ∧ b_tt G B0 τ H1 rr 110 (.inr (6, [.ref ro, .int (nI ((if pp < tn ∧ t pp = ch then pp + 1 else pp))), .ref a])))) ([.ref rr, .int (nI ch)] : List Value).toArray s 0 0 (b_A B0) = Q
  have hF : b_Fr τ (fun t => t = 110) H H := b_Fr.rf
  have hA : b_Ag τ τ H := b_Ag.rf
  have hq8 := q_nx_lt ht (n := tn) (p := pp)
  refine lv_aload_n hx hb dX20_takes_0 rfl (lv_at hl 0 rfl) ?_
  refine b_ci0 (cs_X20_40 (rest := []) CX hl.1 (m_X20_next l (rr := rr) (ro := ro) (pp := pp) (a := a) (f0 := f0) (asv := asv) (atx := atx) (va := va) (bt := bt) (ml := ml) (tn := tn) (atk := atk) (hs := hs) hc_rd hc_X hc_tx hc_tb hbt ht (by omega) (by omega)) rfl rfl rfl hc_rd.at hS rfl ⟨rfl, rfl, Nat.le_of_ble_eq_true rfl, Nat.le_of_ble_eq_true rfl⟩ (Nat.le_of_ble_eq_true rfl) dX20_takes_1 ⟨Nat.le_of_ble_eq_true rfl, Nat.le_of_ble_eq_true rfl⟩) hS (fun locs hS => ?_)
  refine lv_iload_n hx hb dX20_takes_4 rfl (lv_at hl 1 rfl) ?_
  refine b_icmp_neN (tgt := 12) CX (by omega) (by omega) dX20_takes_5 (by decide) (fun c_5 => ?_) (fun c_5 => ?_)
  · have hq := fun h9 => c_5 ((q_nx_e hch).mpr h9)
    refine lv_iconst (v := nI 0) hx hb dX20_takes_12 rfl ?_
    refine lv_istore_n (lv' := [(2, .int (nI 0)), (0, .ref rr), (1, .int (nI ch))]) hx hb dX20_takes_13 rfl hl (Nat.le_of_ble_eq_true rfl) rfl (fun ls hl => ?_)
    refine lv_aload_n hx hb dX20_takes_14 rfl (lv_at hl 1 rfl) ?_
    refine lv_dup hx hb dX20_takes_15 rfl ?_
    refine gf_X20_22_6 CX hc_rd.at rfl dX20_takes_16 ?_
    refine lv_iload_n hx hb dX20_takes_19 rfl (lv_at hl 0 rfl) ?_
    refine lv_if_eq (tgt := 27) hx hb dX20_takes_20 (by decide) (fun c_20 => ?_) (fun c_20 => ?_)
    · refine lv_iconst (v := nI 0) hx hb dX20_takes_27 rfl ?_
      refine b_iaddN CX dX20_takes_28 ?_
      refine pf_X20_22_6 CX hc_rd.at hS hc_rd.B rfl rfl (Nat.le_of_ble_eq_true rfl) dX20_takes_29 (fun H2 locs hat hu hS => ?_)
      have hc_X := hc_X.up hu hc_rd.tag (by decide)
      have hc_tx := hc_tx.up hu hc_rd.tag (by decide)
      have hc_tb := hc_tb.up hu hc_rd.tag (by decide)
      have hF := hF.up hA hu hc_rd.tag (fun _ => show 110 = 110 by omega)
      have hc_rd : b_tt G B0 τ H2 rr 110 (.inr (6, [.ref ro, .int (nI (pp + 0)), .ref a])) := hc_rd.set hat
      have hc_rd : b_tt G B0 τ H2 rr 110 (.inr (6, [.ref ro, .int (nI ((if pp < tn ∧ t pp = ch then pp + 1 else pp))), .ref a])) := hc_rd.cg (by rw [if_neg hq] <;> rfl)
      refine lv_iload_n hx hb dX20_takes_32 rfl (lv_at hl 0 rfl) ?_
      rw [← hQ]
      exact b_zret CX hr hlk hS (Nat.le_of_ble_eq_true rfl) (Nat.le_of_ble_eq_true rfl) rfl dX20_takes_33 (⟨(by first | exact (bI_t hq).symm | exact (bI_f hq).symm), hF, hc_rd⟩)
    · exact absurd c_20 (by decide)
  · have hq := (q_nx_e hch).mp c_5
    refine lv_iconst (v := nI 1) hx hb dX20_takes_8 rfl ?_
    refine lv_goto (tgt := 13) hx hb dX20_takes_9 (by decide) ?_
    refine lv_istore_n (lv' := [(2, .int (nI 1)), (0, .ref rr), (1, .int (nI ch))]) hx hb dX20_takes_13 rfl hl (Nat.le_of_ble_eq_true rfl) rfl (fun ls hl => ?_)
    refine lv_aload_n hx hb dX20_takes_14 rfl (lv_at hl 1 rfl) ?_
    refine lv_dup hx hb dX20_takes_15 rfl ?_
    refine gf_X20_22_6 CX hc_rd.at rfl dX20_takes_16 ?_
    refine lv_iload_n hx hb dX20_takes_19 rfl (lv_at hl 0 rfl) ?_
    refine lv_if_eq (tgt := 27) hx hb dX20_takes_20 (by decide) (fun c_20 => ?_) (fun c_20 => ?_)
    · exact absurd c_20 (by decide)
    · refine lv_iconst (v := nI 1) hx hb dX20_takes_23 rfl ?_
      refine lv_goto (tgt := 28) hx hb dX20_takes_24 (by decide) ?_
      refine b_iaddN CX dX20_takes_28 ?_
      refine pf_X20_22_6 CX hc_rd.at hS hc_rd.B rfl rfl (Nat.le_of_ble_eq_true rfl) dX20_takes_29 (fun H3 locs hat hu hS => ?_)
      have hc_X := hc_X.up hu hc_rd.tag (by decide)
      have hc_tx := hc_tx.up hu hc_rd.tag (by decide)
      have hc_tb := hc_tb.up hu hc_rd.tag (by decide)
      have hF := hF.up hA hu hc_rd.tag (fun _ => show 110 = 110 by omega)
      have hc_rd : b_tt G B0 τ H3 rr 110 (.inr (6, [.ref ro, .int (nI (pp + 1)), .ref a])) := hc_rd.set hat
      have hc_rd : b_tt G B0 τ H3 rr 110 (.inr (6, [.ref ro, .int (nI ((if pp < tn ∧ t pp = ch then pp + 1 else pp))), .ref a])) := hc_rd.cg (by rw [if_pos hq] <;> rfl)
      refine lv_iload_n hx hb dX20_takes_32 rfl (lv_at hl 0 rfl) ?_
      rw [← hQ]
      exact b_zret CX hr hlk hS (Nat.le_of_ble_eq_true rfl) (Nat.le_of_ble_eq_true rfl) rfl dX20_takes_33 (⟨(by first | exact (bI_t hq).symm | exact (bI_f hq).symm), hF, hc_rd⟩)
theorem cs_X20_43 {p : Program} {l : Launch} {e : Env} {R : Room} {s : State} {m : MethodId} {args : Array Value} {below : List Frame} {meth : Method} {c : Code} {H : Heap} {locs : List Loc} {cells slots : Nat} {cc : ByteArray} {pc nL : Nat} {ls : Array Slot} {rest : List Value} {G : b_G} {B0 : Nat} (CX : b_Cx p s m args c cc nL RX20 G B0) (hls : ls.size = nL) {rm : Room} {mc ms : Nat} {As st0 : List Value} {Qc : Array Value → State → Outcome → State → Prop} (hM : Met l yX1_in (ws_ yX1_in cX1_in 3 (Option.some Jvm.ClassFile.FieldType.boolean)) rm (b_Pc G B0 H As) Qc mc ms (b_A B0)) (hn : As.length = 3) (hS : va_S (b_A B0) s.heap H locs) (hst : st0 = As.reverse ++ rest) (hr : rm.cells = mc ∧ rm.slots = ms ∧ rm.frames + 1 ≤ R.frames ∧ 8 + (3 + 11) + rm.locals ≤ R.locals) (hw : (rest.map fun v => v.category).sum ≤ 8) (hdg : decode cc pc = .ok (.invokestatic 43, 3)) (hf : cells + mc ≤ R.cells ∧ slots + ms ≤ R.slots) : va_Run p l e R s m args below meth c H locs cells slots mc ms (F0 m pc ls st0) rest (Qc As.toArray) (b_A B0) := va_runSN CX.fix hM (⟨va_cnB 3 CX.ts (lw_meth q695) rfl hr.1 hr.2.1 (CX.K.2.1 _ q693 rfl) (CX.ts _ q79) (by decide +kernel) ⟨hr.2.2.1, hr.2.2.2⟩, CX.ts _ q694, trivial⟩) ⟨b_blind G B0 H _, b_pre _ CX.K hS⟩ rfl hn hls hst (lv_room hw) hdg hf
set_option maxHeartbeats 2000000 in
set_option maxRecDepth 100000 in
theorem m_X20_digit (l : Launch) {G : b_G} {B0 : Nat} {H : Heap} {τ : b_T} {t : Nat → Nat} {rr : Nat} {ro : Nat} {pp : Nat} {a : Nat} {f0 : Nat} {asv : Nat} {atx : Nat} {atk : Nat} {hs : Int64} {va : Nat} {ml : Int32} {tn : Nat} {bt : Nat → Int32} {hh : Nat} (hc_rd : b_tt G B0 τ H rr 110 (.inr (6, [.ref ro, .int (nI pp), .ref a]))) (hc_X : b_tt G B0 τ H a 0 (.inr (0, [.ref f0, .ref asv, .ref atx, .ref atk, .long hs]))) (hc_tx : b_tt G B0 τ H atx 3 (.inr (3, [.ref va, .int (nI 0), .int ml, .int (nI tn)]))) (hc_tb : b_tt G B0 τ H va 4 (.inl (G.2.1 1, 60, .inl bt))) (hbt : ∀ j, j < tn → bt j = nI (t j)) (ht : ∀ j, t j < 128) (htn : tn ≤ 60) (hpl : pp ≤ tn) (hh9 : hh < 10) : Met l yX20_digit (ws_ yX20_digit cX20_digit 4 (Option.some Jvm.ClassFile.FieldType.int)) ({ frames := 5, cells := 0, slots := 0, locals := 108 } : Room) (b_Pc G B0 H [.ref rr, .int (nI hh)]) (b_Qi B0 (fun r H1 => r = (if pp < tn ∧ 48 ≤ t pp ∧ t pp ≤ 48 + hh then nI (t pp - 48) else -1) ∧ b_Fr τ (fun t => t = 110) H H1 ∧ b_tt G B0 τ H1 rr 110 (.inr (6, [.ref ro, .int (nI ((if pp < tn ∧ 48 ≤ t pp ∧ t pp ≤ 48 + hh then pp + 1 else pp))), .ref a])))) 0 0 (b_A B0) := by
  refine b_of (by decide) (Nat.le_of_ble_eq_true rfl) ?_
  intro p e s m below meth c CX hr hlk hnm hS ls hl
  have CX : b_Cx p s m _ c cX20_digit 4 RX20 G B0 := CX
  have hx := CX.hx
  have hb := CX.hb
  have hl : lv_has ls 4 [(0, .ref rr), (1, .int (nI hh))] := hl
  generalize hQ : MQ below (b_Qi B0 (fun r H1 => r = (if pp < tn ∧ 48 ≤ t pp ∧ t pp ≤ 48 + hh then nI (t pp - 48) else -1) ∧ b_Fr τ (fun t => t = 110) H H1 ∧ b_tt G B0 τ H1 rr 110 (.inr (6, [.ref ro, .int (nI ((if pp < tn ∧ 48 ≤ t pp ∧ t pp ≤ 48 + hh then pp + 1 else pp))), .ref a])))) ([.ref rr, .int (nI hh)] : List Value).toArray s 0 0 (b_A B0) = Q
  have hF : b_Fr τ (fun t => t = 110) H H := b_Fr.rf
  have hA : b_Ag τ τ H := b_Ag.rf
  have hq8 := q_nx_lt ht (n := tn) (p := pp)
  refine lv_aload_n hx hb dX20_digit_0 rfl (lv_at hl 0 rfl) ?_
  refine b_ci0 (cs_X20_40 (rest := []) CX hl.1 (m_X20_next l (rr := rr) (ro := ro) (pp := pp) (a := a) (f0 := f0) (asv := asv) (atx := atx) (va := va) (bt := bt) (ml := ml) (tn := tn) (atk := atk) (hs := hs) hc_rd hc_X hc_tx hc_tb hbt ht (by omega) (by omega)) rfl rfl rfl hc_rd.at hS rfl ⟨rfl, rfl, Nat.le_of_ble_eq_true rfl, Nat.le_of_ble_eq_true rfl⟩ (Nat.le_of_ble_eq_true rfl) dX20_digit_1 ⟨Nat.le_of_ble_eq_true rfl, Nat.le_of_ble_eq_true rfl⟩) hS (fun locs hS => ?_)
  refine lv_bipush (v := nI 48) hx hb dX20_digit_4 rfl ?_
  refine lv_isub hx hb dX20_digit_6 ?_
  refine lv_istore_n (lv' := [(2, .int ((nI (q_nx t tn pp)) - (nI 48))), (0, .ref rr), (1, .int (nI hh))]) hx hb dX20_digit_7 rfl hl (Nat.le_of_ble_eq_true rfl) rfl (fun ls hl => ?_)
  refine lv_iload_n hx hb dX20_digit_8 rfl (lv_at hl 0 rfl) ?_
  refine lv_iconst (v := nI 0) hx hb dX20_digit_9 rfl ?_
  refine lv_iload_n hx hb dX20_digit_10 rfl (lv_at hl 2 rfl) ?_
  refine b_ci0 (cs_X20_43 (rest := []) CX hl.1 (m_X1_in l (x := (nI (q_nx t tn pp)) - (nI 48)) (lo := nI 0) (hi := nI hh) ) rfl hS rfl ⟨rfl, rfl, Nat.le_of_ble_eq_true rfl, Nat.le_of_ble_eq_true rfl⟩ (Nat.le_of_ble_eq_true rfl) dX20_digit_11 ⟨Nat.le_of_ble_eq_true rfl, Nat.le_of_ble_eq_true rfl⟩) hS (fun locs hS => ?_)
  refine lv_istore_n (lv' := [(3, .int (bI ((nI 0) ≤ ((nI (q_nx t tn pp)) - (nI 48)) ∧ ((nI (q_nx t tn pp)) - (nI 48)) ≤ (nI hh)))), (2, .int ((nI (q_nx t tn pp)) - (nI 48))), (0, .ref rr), (1, .int (nI hh))]) hx hb dX20_digit_14 rfl hl (Nat.le_of_ble_eq_true rfl) rfl (fun ls hl => ?_)
  refine lv_aload_n hx hb dX20_digit_15 rfl (lv_at hl 2 rfl) ?_
  refine lv_dup hx hb dX20_digit_16 rfl ?_
  refine gf_X20_22_6 CX hc_rd.at rfl dX20_digit_17 ?_
  refine lv_iload_n hx hb dX20_digit_20 rfl (lv_at hl 0 rfl) ?_
  refine b_ifeq (tgt := 28) CX dX20_digit_21 (by decide) (fun c_21 => ?_) (fun c_21 => ?_)
  · rw [bI_f c_21] at hl
    have hq := fun h9 => c_21 ((q_dgx ht hh9).mpr h9)
    refine lv_iconst (v := nI 0) hx hb dX20_digit_28 rfl ?_
    refine b_iaddN CX dX20_digit_29 ?_
    refine pf_X20_22_6 CX hc_rd.at hS hc_rd.B rfl rfl (Nat.le_of_ble_eq_true rfl) dX20_digit_30 (fun H3 locs hat hu hS => ?_)
    have hc_X := hc_X.up hu hc_rd.tag (by decide)
    have hc_tx := hc_tx.up hu hc_rd.tag (by decide)
    have hc_tb := hc_tb.up hu hc_rd.tag (by decide)
    have hF := hF.up hA hu hc_rd.tag (fun _ => show 110 = 110 by omega)
    have hc_rd : b_tt G B0 τ H3 rr 110 (.inr (6, [.ref ro, .int (nI (pp + 0)), .ref a])) := hc_rd.set hat
    have hc_rd : b_tt G B0 τ H3 rr 110 (.inr (6, [.ref ro, .int (nI ((if pp < tn ∧ 48 ≤ t pp ∧ t pp ≤ 48 + hh then pp + 1 else pp))), .ref a])) := hc_rd.cg (by rw [if_neg hq] <;> rfl)
    refine lv_iload_n hx hb dX20_digit_33 rfl (lv_at hl 0 rfl) ?_
    refine lv_if_eq (tgt := 41) hx hb dX20_digit_34 (by decide) (fun c_34 => ?_) (fun c_34 => ?_)
    · refine lv_iconst (v := -1) hx hb dX20_digit_41 rfl ?_
      rw [← hQ]
      exact b_iret CX hr hlk hS (Nat.le_of_ble_eq_true rfl) (Nat.le_of_ble_eq_true rfl) dX20_digit_42 (⟨(by first | (rw [if_pos hq, q_nx_v hq.1, pk_sub hq.2.1]) | (rw [if_neg hq])), hF, hc_rd⟩)
    · exact absurd c_34 (by decide)
  · rw [bI_t c_21] at hl
    have hq := (q_dgx ht hh9).mp c_21
    refine lv_iconst (v := nI 1) hx hb dX20_digit_24 rfl ?_
    refine lv_goto (tgt := 29) hx hb dX20_digit_25 (by decide) ?_
    refine b_iaddN CX dX20_digit_29 ?_
    refine pf_X20_22_6 CX hc_rd.at hS hc_rd.B rfl rfl (Nat.le_of_ble_eq_true rfl) dX20_digit_30 (fun H4 locs hat hu hS => ?_)
    have hc_X := hc_X.up hu hc_rd.tag (by decide)
    have hc_tx := hc_tx.up hu hc_rd.tag (by decide)
    have hc_tb := hc_tb.up hu hc_rd.tag (by decide)
    have hF := hF.up hA hu hc_rd.tag (fun _ => show 110 = 110 by omega)
    have hc_rd : b_tt G B0 τ H4 rr 110 (.inr (6, [.ref ro, .int (nI (pp + 1)), .ref a])) := hc_rd.set hat
    have hc_rd : b_tt G B0 τ H4 rr 110 (.inr (6, [.ref ro, .int (nI ((if pp < tn ∧ 48 ≤ t pp ∧ t pp ≤ 48 + hh then pp + 1 else pp))), .ref a])) := hc_rd.cg (by rw [if_pos hq] <;> rfl)
    refine lv_iload_n hx hb dX20_digit_33 rfl (lv_at hl 0 rfl) ?_
    refine lv_if_eq (tgt := 41) hx hb dX20_digit_34 (by decide) (fun c_34 => ?_) (fun c_34 => ?_)
    · exact absurd c_34 (by decide)
    · refine lv_iload_n hx hb dX20_digit_37 rfl (lv_at hl 1 rfl) ?_
      refine lv_goto (tgt := 42) hx hb dX20_digit_38 (by decide) ?_
      rw [← hQ]
      exact b_iret CX hr hlk hS (Nat.le_of_ble_eq_true rfl) (Nat.le_of_ble_eq_true rfl) dX20_digit_42 (⟨(by first | (rw [if_pos hq, q_nx_v hq.1, pk_sub hq.2.1]) | (rw [if_neg hq])), hF, hc_rd⟩)
set_option maxHeartbeats 2000000 in
set_option maxRecDepth 100000 in
theorem m_X20_number (l : Launch) {G : b_G} {B0 : Nat} {H : Heap} {τ : b_T} {t : Nat → Nat} {rr : Nat} {ro : Nat} {pp : Nat} {a : Nat} {f0 : Nat} {asv : Nat} {atx : Nat} {atk : Nat} {hs : Int64} {va : Nat} {ml : Int32} {tn : Nat} {bt : Nat → Int32} {hh : Nat} (hc_rd : b_tt G B0 τ H rr 110 (.inr (6, [.ref ro, .int (nI pp), .ref a]))) (hc_X : b_tt G B0 τ H a 0 (.inr (0, [.ref f0, .ref asv, .ref atx, .ref atk, .long hs]))) (hc_tx : b_tt G B0 τ H atx 3 (.inr (3, [.ref va, .int (nI 0), .int ml, .int (nI tn)]))) (hc_tb : b_tt G B0 τ H va 4 (.inl (G.2.1 1, 60, .inl bt))) (hbt : ∀ j, j < tn → bt j = nI (t j)) (ht : ∀ j, t j < 128) (htn : tn ≤ 60) (hh9 : hh < 1000) (hpl : pp ≤ tn) : Met l yX20_number (ws_ yX20_number cX20_number 3 (Option.some Jvm.ClassFile.FieldType.int)) ({ frames := 5, cells := 0, slots := 0, locals := 108 } : Room) (b_Pc G B0 H [.ref rr, .int (nI hh)]) (b_Qi B0 (fun r H1 => r = (if (q_num t tn hh (tn - pp) pp 0).2 = 0 then -1 else nI (q_num t tn hh (tn - pp) pp 0).2) ∧ b_Fr τ (fun t => t = 110) H H1 ∧ b_tt G B0 τ H1 rr 110 (.inr (6, [.ref ro, .int (nI ((q_num t tn hh (tn - pp) pp 0).1)), .ref a])))) 0 0 (b_A B0) := by
  refine b_of (by decide) (Nat.le_of_ble_eq_true rfl) ?_
  intro p e s m below meth c CX hr hlk hnm hS ls hl
  have CX : b_Cx p s m _ c cX20_number 3 RX20 G B0 := CX
  have hx := CX.hx
  have hb := CX.hb
  have hl : lv_has ls 3 [(0, .ref rr), (1, .int (nI hh))] := hl
  generalize hQ : MQ below (b_Qi B0 (fun r H1 => r = (if (q_num t tn hh (tn - pp) pp 0).2 = 0 then -1 else nI (q_num t tn hh (tn - pp) pp 0).2) ∧ b_Fr τ (fun t => t = 110) H H1 ∧ b_tt G B0 τ H1 rr 110 (.inr (6, [.ref ro, .int (nI ((q_num t tn hh (tn - pp) pp 0).1)), .ref a])))) ([.ref rr, .int (nI hh)] : List Value).toArray s 0 0 (b_A B0) = Q
  have hF : b_Fr τ (fun t => t = 110) H H := b_Fr.rf
  have hA : b_Ag τ τ H := b_Ag.rf
  refine lv_iconst (v := nI 0) hx hb dX20_number_0 rfl ?_
  refine lv_istore_n (lv' := [(2, .int (nI 0)), (0, .ref rr), (1, .int (nI hh))]) hx hb dX20_number_1 rfl hl (Nat.le_of_ble_eq_true rfl) rfl (fun ls hl => ?_)
  have lp2_1 : ∀ (n_ : Nat) (u : Nat) (v : Nat), u ≤ tn → v ≤ hh → q_num t tn hh (tn - u) u v = (q_num t tn hh (tn - pp) pp 0) → tn - u < n_ → ∀ (H2 : Heap), b_tt G B0 τ H2 rr 110 (.inr (6, [.ref ro, .int (nI u), .ref a])) → b_tt G B0 τ H2 a 0 (.inr (0, [.ref f0, .ref asv, .ref atx, .ref atk, .long hs])) → b_tt G B0 τ H2 atx 3 (.inr (3, [.ref va, .int (nI 0), .int ml, .int (nI tn)])) → b_tt G B0 τ H2 va 4 (.inl (G.2.1 1, 60, .inl bt)) → b_Fr τ (fun t => t = 110) H H2 → ∀ (locs : List Loc), va_S (b_A B0) s.heap H2 locs → ∀ ls : Array Slot, lv_has ls 3 [(2, .int (nI v)), (0, .ref rr), (1, .int (nI hh))] → W p l e ({ frames := 5, cells := 0, slots := 0, locals := 108 } : Room) s m ([.ref rr, .int (nI hh)] : List Value).toArray below meth c H2 locs 0 0 Q (F0 m 2 ls []) := by
    intro n_
    induction n_ with
    | zero => intro u v hu hv hq hlt H2 hc_rd hc_X hc_tx hc_tb hF locs hS ls hl; exact absurd hlt (Nat.not_lt_zero _)
    | succ n_ ih2 =>
      intro u v hu hv hq hlt H2 hc_rd hc_X hc_tx hc_tb hF locs hS ls hl
      refine lv_aload_n hx hb dX20_number_2 rfl (lv_at hl 1 rfl) ?_
      refine b_ci0 (cs_X20_40 (rest := []) CX hl.1 (m_X20_next l (rr := rr) (ro := ro) (pp := u) (a := a) (f0 := f0) (asv := asv) (atx := atx) (va := va) (bt := bt) (ml := ml) (tn := tn) (atk := atk) (hs := hs) hc_rd hc_X hc_tx hc_tb hbt ht (by omega) (by omega)) rfl rfl rfl hc_rd.at hS rfl ⟨rfl, rfl, Nat.le_of_ble_eq_true rfl, Nat.le_of_ble_eq_true rfl⟩ (Nat.le_of_ble_eq_true rfl) dX20_number_3 ⟨Nat.le_of_ble_eq_true rfl, Nat.le_of_ble_eq_true rfl⟩) hS (fun locs hS => ?_)
      have hq8 := q_nx_lt ht (n := tn) (p := u)
      refine lv_bipush (v := nI 48) hx hb dX20_number_6 rfl ?_
      refine lv_bipush (v := nI 57) hx hb dX20_number_8 rfl ?_
      refine b_ci0 (cs_X20_43 (rest := []) CX hl.1 (m_X1_in l (x := nI (q_nx t tn u)) (lo := nI 48) (hi := nI 57) ) rfl hS rfl ⟨rfl, rfl, Nat.le_of_ble_eq_true rfl, Nat.le_of_ble_eq_true rfl⟩ (Nat.le_of_ble_eq_true rfl) dX20_number_10 ⟨Nat.le_of_ble_eq_true rfl, Nat.le_of_ble_eq_true rfl⟩) hS (fun locs hS => ?_)
      refine b_ifeq (tgt := 62) CX dX20_number_13 (by decide) (fun c_13 => ?_) (fun c_13 => ?_)
      · have h13 := fun q => c_13 ((p_inN (by omega) (by omega) (by omega)).mpr q)
        have he : (q_num t tn hh (tn - pp) pp 0) = (u, v) := hq.symm.trans (q_num_x h13)
        have hc_rd : b_tt G B0 τ H2 rr 110 (.inr (6, [.ref ro, .int (nI ((q_num t tn hh (tn - pp) pp 0).1)), .ref a])) := hc_rd.cg (by rw [he] <;> rfl)
        refine lv_iload_n hx hb dX20_number_62 rfl (lv_at hl 0 rfl) ?_
        refine b_if_neN (tgt := 70) CX (by omega) dX20_number_63 (by decide) (fun c_63 => ?_) (fun c_63 => ?_)
        · refine lv_iload_n hx hb dX20_number_70 rfl (lv_at hl 0 rfl) ?_
          rw [← hQ]
          exact b_iret CX hr hlk hS (Nat.le_of_ble_eq_true rfl) (Nat.le_of_ble_eq_true rfl) dX20_number_71 (⟨(by rw [he]; first | exact (if_pos c_63).symm | exact (if_neg c_63).symm), hF, hc_rd⟩)
        · refine lv_iconst (v := -1) hx hb dX20_number_66 rfl ?_
          refine lv_goto (tgt := 71) hx hb dX20_number_67 (by decide) ?_
          rw [← hQ]
          exact b_iret CX hr hlk hS (Nat.le_of_ble_eq_true rfl) (Nat.le_of_ble_eq_true rfl) dX20_number_71 (⟨(by rw [he]; first | exact (if_pos c_63).symm | exact (if_neg c_63).symm), hF, hc_rd⟩)
      · have h13 := (p_inN (by omega) (by omega) (by omega)).mp c_13
        have hup := q_nx_p (t := t) (n := tn) (p := u) (by omega)
        refine lv_bipush (v := nI 10) hx hb dX20_number_16 rfl ?_
        refine lv_iload_n hx hb dX20_number_18 rfl (lv_at hl 0 rfl) ?_
        refine b_imulN CX dX20_number_19 ?_
        refine lv_aload_n hx hb dX20_number_20 rfl (lv_at hl 1 rfl) ?_
        refine b_ci0 (cs_X20_40 (rest := [.int (nI (10 * v))]) CX hl.1 (m_X20_next l (rr := rr) (ro := ro) (pp := u) (a := a) (f0 := f0) (asv := asv) (atx := atx) (va := va) (bt := bt) (ml := ml) (tn := tn) (atk := atk) (hs := hs) hc_rd hc_X hc_tx hc_tb hbt ht (by omega) (by omega)) rfl rfl rfl hc_rd.at hS rfl ⟨rfl, rfl, Nat.le_of_ble_eq_true rfl, Nat.le_of_ble_eq_true rfl⟩ (Nat.le_of_ble_eq_true rfl) dX20_number_21 ⟨Nat.le_of_ble_eq_true rfl, Nat.le_of_ble_eq_true rfl⟩) hS (fun locs hS => ?_)
        refine b_iaddN CX dX20_number_24 ?_
        refine lv_bipush (v := nI 48) hx hb dX20_number_25 rfl ?_
        refine b_isubN CX (by omega) dX20_number_27 ?_
        refine lv_iconst (v := nI 1) hx hb dX20_number_28 rfl ?_
        refine lv_iload_n hx hb dX20_number_29 rfl (lv_at hl 2 rfl) ?_
        refine b_ci0 (cs_X20_43 (rest := []) CX hl.1 (m_X1_in l (x := nI (10 * v + (q_nx t tn u) - 48)) (lo := nI 1) (hi := nI hh) ) rfl hS rfl ⟨rfl, rfl, Nat.le_of_ble_eq_true rfl, Nat.le_of_ble_eq_true rfl⟩ (Nat.le_of_ble_eq_true rfl) dX20_number_30 ⟨Nat.le_of_ble_eq_true rfl, Nat.le_of_ble_eq_true rfl⟩) hS (fun locs hS => ?_)
        refine b_ifeq (tgt := 62) CX dX20_number_33 (by decide) (fun c_33 => ?_) (fun c_33 => ?_)
        · have h33 := fun q => c_33 ((p_inN (by omega) (by omega) (by omega)).mpr q)
          have he : (q_num t tn hh (tn - pp) pp 0) = (u, v) := hq.symm.trans (q_num_y h13.1 h33)
          have hc_rd : b_tt G B0 τ H2 rr 110 (.inr (6, [.ref ro, .int (nI ((q_num t tn hh (tn - pp) pp 0).1)), .ref a])) := hc_rd.cg (by rw [he] <;> rfl)
          refine lv_iload_n hx hb dX20_number_62 rfl (lv_at hl 0 rfl) ?_
          refine b_if_neN (tgt := 70) CX (by omega) dX20_number_63 (by decide) (fun c_63 => ?_) (fun c_63 => ?_)
          · refine lv_iload_n hx hb dX20_number_70 rfl (lv_at hl 0 rfl) ?_
            rw [← hQ]
            exact b_iret CX hr hlk hS (Nat.le_of_ble_eq_true rfl) (Nat.le_of_ble_eq_true rfl) dX20_number_71 (⟨(by rw [he]; first | exact (if_pos c_63).symm | exact (if_neg c_63).symm), hF, hc_rd⟩)
          · refine lv_iconst (v := -1) hx hb dX20_number_66 rfl ?_
            refine lv_goto (tgt := 71) hx hb dX20_number_67 (by decide) ?_
            rw [← hQ]
            exact b_iret CX hr hlk hS (Nat.le_of_ble_eq_true rfl) (Nat.le_of_ble_eq_true rfl) dX20_number_71 (⟨(by rw [he]; first | exact (if_pos c_63).symm | exact (if_neg c_63).symm), hF, hc_rd⟩)
        · have h33 := (p_inN (by omega) (by omega) (by omega)).mp c_33
          refine lv_bipush (v := nI 10) hx hb dX20_number_36 rfl ?_
          refine lv_iload_n hx hb dX20_number_38 rfl (lv_at hl 0 rfl) ?_
          refine b_imulN CX dX20_number_39 ?_
          refine lv_aload_n hx hb dX20_number_40 rfl (lv_at hl 1 rfl) ?_
          refine b_ci0 (cs_X20_40 (rest := [.int (nI (10 * v))]) CX hl.1 (m_X20_next l (rr := rr) (ro := ro) (pp := u) (a := a) (f0 := f0) (asv := asv) (atx := atx) (va := va) (bt := bt) (ml := ml) (tn := tn) (atk := atk) (hs := hs) hc_rd hc_X hc_tx hc_tb hbt ht (by omega) (by omega)) rfl rfl rfl hc_rd.at hS rfl ⟨rfl, rfl, Nat.le_of_ble_eq_true rfl, Nat.le_of_ble_eq_true rfl⟩ (Nat.le_of_ble_eq_true rfl) dX20_number_41 ⟨Nat.le_of_ble_eq_true rfl, Nat.le_of_ble_eq_true rfl⟩) hS (fun locs hS => ?_)
          refine b_iaddN CX dX20_number_44 ?_
          refine lv_bipush (v := nI 48) hx hb dX20_number_45 rfl ?_
          refine b_isubN CX (by omega) dX20_number_47 ?_
          refine lv_istore_n (lv' := [(2, .int (nI (10 * v + (q_nx t tn u) - 48))), (0, .ref rr), (1, .int (nI hh))]) hx hb dX20_number_48 rfl hl (Nat.le_of_ble_eq_true rfl) rfl (fun ls hl => ?_)
          refine lv_aload_n hx hb dX20_number_49 rfl (lv_at hl 1 rfl) ?_
          refine lv_dup hx hb dX20_number_50 rfl ?_
          refine gf_X20_22_6 CX hc_rd.at rfl dX20_number_51 ?_
          refine lv_iconst (v := nI 1) hx hb dX20_number_54 rfl ?_
          refine b_iaddN CX dX20_number_55 ?_
          refine pf_X20_22_6 CX hc_rd.at hS hc_rd.B rfl rfl (Nat.le_of_ble_eq_true rfl) dX20_number_56 (fun H8 locs hat hu hS => ?_)
          have hc_X := hc_X.up hu hc_rd.tag (by decide)
          have hc_tx := hc_tx.up hu hc_rd.tag (by decide)
          have hc_tb := hc_tb.up hu hc_rd.tag (by decide)
          have hF := hF.up hA hu hc_rd.tag (fun _ => show 110 = 110 by omega)
          have hc_rd : b_tt G B0 τ H8 rr 110 (.inr (6, [.ref ro, .int (nI (u + 1)), .ref a])) := hc_rd.set hat
          refine lv_goto (tgt := 2) hx hb dX20_number_59 (by decide) ?_
          exact ih2 (u + 1) (10 * v + q_nx t tn u - 48) (by omega) h33.2 ((q_num_z h13 h33).trans hq) (by omega) H8 hc_rd hc_X hc_tx hc_tb hF _ hS ls (lv_sub hl [0, 1, 2] rfl)
  exact lp2_1 _ pp 0 hpl (Nat.zero_le _) rfl (Nat.lt_succ_self _) H hc_rd hc_X hc_tx hc_tb hF _ hS ls (lv_sub hl [0, 1, 2] rfl)
def q_rest (t : Nat → Nat) (n p ha sep hc hi : Nat) : Nat × Option (Nat × Nat × Nat) :=
  if p < n ∧ 48 ≤ t p ∧ t p ≤ 48 + ha then
    if p + 1 < n ∧ t (p + 1) = sep then
      if p + 1 + 1 < n ∧ 48 ≤ t (p + 1 + 1) ∧ t (p + 1 + 1) ≤ 48 + hc then
        if p + 1 + 1 + 1 < n ∧ t (p + 1 + 1 + 1) = 42 then
          if (q_num t n hi (n - (p + 1 + 1 + 1 + 1)) (p + 1 + 1 + 1 + 1) 0).2 = 0 then ((q_num t n hi (n - (p + 1 + 1 + 1 + 1)) (p + 1 + 1 + 1 + 1) 0).1, none)
          else ((q_num t n hi (n - (p + 1 + 1 + 1 + 1)) (p + 1 + 1 + 1 + 1) 0).1, some (t p - 48, t (p + 1 + 1) - 48, (q_num t n hi (n - (p + 1 + 1 + 1 + 1)) (p + 1 + 1 + 1 + 1) 0).2))
        else (p + 1 + 1 + 1, none)
      else (p + 1 + 1, none)
    else (p + 1, none)
  else (p, none)
theorem cs_X20_47 {p : Program} {l : Launch} {e : Env} {R : Room} {s : State} {m : MethodId} {args : Array Value} {below : List Frame} {meth : Method} {c : Code} {H : Heap} {locs : List Loc} {cells slots : Nat} {cc : ByteArray} {pc nL a : Nat} {ls : Array Slot} {rest : List Value} {G : b_G} {B0 : Nat} (CX : b_Cx p s m args c cc nL RX20 G B0) (hls : ls.size = nL) {rm : Room} {mc ms : Nat} {As st0 : List Value} {Qc : Array Value → State → Outcome → State → Prop} (hM : Met l yX20_digit (ws_ yX20_digit cX20_digit 4 (Option.some Jvm.ClassFile.FieldType.int)) rm (b_Pc G B0 H (.ref a :: As)) Qc mc ms (b_A B0)) (hn : As.length = 1) {fs : List Value} {ci : Nat} {qc : vw_C} (hc : b_cl[ci]? = some qc) (hq : qc.1 = RX20) (hP : b_at G a (.inr (ci, fs)) H) (hS : va_S (b_A B0) s.heap H locs) (hst : st0 = As.reverse ++ .ref a :: rest) (hr : rm.cells = mc ∧ rm.slots = ms ∧ rm.frames + 1 ≤ R.frames ∧ 8 + (4 + 11) + rm.locals ≤ R.locals) (hw : (rest.map fun v => v.category).sum ≤ 8) (hdg : decode cc pc = .ok (.invokevirtual 47, 3)) (hf : cells + mc ≤ R.cells ∧ slots + ms ≤ R.slots) : va_Run p l e R s m args below meth c H locs cells slots mc ms (F0 m pc ls st0) rest (Qc (Value.ref a :: As).toArray) (b_A B0) := va_runV CX.fix hM (cwV 1 CX.ts (lw_V q689 q691 qs5 q122 q692) rfl hr.1 hr.2.1 (by decide +kernel) ⟨hr.2.2.1, hr.2.2.2⟩) ⟨b_blind G B0 H _, by have h9 := b_recv CX.K hc hP; rw [hq] at h9; exact h9, b_pre _ CX.K hS⟩ rfl hn hls hst (lv_room hw) hdg hf
theorem cs_X20_51 {p : Program} {l : Launch} {e : Env} {R : Room} {s : State} {m : MethodId} {args : Array Value} {below : List Frame} {meth : Method} {c : Code} {H : Heap} {locs : List Loc} {cells slots : Nat} {cc : ByteArray} {pc nL a : Nat} {ls : Array Slot} {rest : List Value} {G : b_G} {B0 : Nat} (CX : b_Cx p s m args c cc nL RX20 G B0) (hls : ls.size = nL) {rm : Room} {mc ms : Nat} {As st0 : List Value} {Qc : Array Value → State → Outcome → State → Prop} (hM : Met l yX20_takes (ws_ yX20_takes cX20_takes 3 (Option.some Jvm.ClassFile.FieldType.boolean)) rm (b_Pc G B0 H (.ref a :: As)) Qc mc ms (b_A B0)) (hn : As.length = 1) {fs : List Value} {ci : Nat} {qc : vw_C} (hc : b_cl[ci]? = some qc) (hq : qc.1 = RX20) (hP : b_at G a (.inr (ci, fs)) H) (hS : va_S (b_A B0) s.heap H locs) (hst : st0 = As.reverse ++ .ref a :: rest) (hr : rm.cells = mc ∧ rm.slots = ms ∧ rm.frames + 1 ≤ R.frames ∧ 8 + (3 + 11) + rm.locals ≤ R.locals) (hw : (rest.map fun v => v.category).sum ≤ 8) (hdg : decode cc pc = .ok (.invokevirtual 51, 3)) (hf : cells + mc ≤ R.cells ∧ slots + ms ≤ R.slots) : va_Run p l e R s m args below meth c H locs cells slots mc ms (F0 m pc ls st0) rest (Qc (Value.ref a :: As).toArray) (b_A B0) := va_runV CX.fix hM (cwV 1 CX.ts (lw_V q681 q683 qs3 q122 q684) rfl hr.1 hr.2.1 (by decide +kernel) ⟨hr.2.2.1, hr.2.2.2⟩) ⟨b_blind G B0 H _, by have h9 := b_recv CX.K hc hP; rw [hq] at h9; exact h9, b_pre _ CX.K hS⟩ rfl hn hls hst (lv_room hw) hdg hf
theorem cs_X20_55 {p : Program} {l : Launch} {e : Env} {R : Room} {s : State} {m : MethodId} {args : Array Value} {below : List Frame} {meth : Method} {c : Code} {H : Heap} {locs : List Loc} {cells slots : Nat} {cc : ByteArray} {pc nL a : Nat} {ls : Array Slot} {rest : List Value} {G : b_G} {B0 : Nat} (CX : b_Cx p s m args c cc nL RX20 G B0) (hls : ls.size = nL) {rm : Room} {mc ms : Nat} {As st0 : List Value} {Qc : Array Value → State → Outcome → State → Prop} (hM : Met l yX20_number (ws_ yX20_number cX20_number 3 (Option.some Jvm.ClassFile.FieldType.int)) rm (b_Pc G B0 H (.ref a :: As)) Qc mc ms (b_A B0)) (hn : As.length = 1) {fs : List Value} {ci : Nat} {qc : vw_C} (hc : b_cl[ci]? = some qc) (hq : qc.1 = RX20) (hP : b_at G a (.inr (ci, fs)) H) (hS : va_S (b_A B0) s.heap H locs) (hst : st0 = As.reverse ++ .ref a :: rest) (hr : rm.cells = mc ∧ rm.slots = ms ∧ rm.frames + 1 ≤ R.frames ∧ 8 + (3 + 11) + rm.locals ≤ R.locals) (hw : (rest.map fun v => v.category).sum ≤ 8) (hdg : decode cc pc = .ok (.invokevirtual 55, 3)) (hf : cells + mc ≤ R.cells ∧ slots + ms ≤ R.slots) : va_Run p l e R s m args below meth c H locs cells slots mc ms (F0 m pc ls st0) rest (Qc (Value.ref a :: As).toArray) (b_A B0) := va_runV CX.fix hM (cwV 1 CX.ts (lw_V q696 q698 qs6 q122 q699) rfl hr.1 hr.2.1 (by decide +kernel) ⟨hr.2.2.1, hr.2.2.2⟩) ⟨b_blind G B0 H _, by have h9 := b_recv CX.K hc hP; rw [hq] at h9; exact h9, b_pre _ CX.K hS⟩ rfl hn hls hst (lv_room hw) hdg hf
theorem gf_X20_18_6 {p : Program} {l : Launch} {e : Env} {R : Room} {s : State} {m : MethodId} {args : Array Value} {below : List Frame} {meth : Method} {c : Code} {H : Heap} {locs : List Loc} {cells slots : Nat} {Q : State → Prop} {cc : ByteArray} {pc nL a : Nat} {ls : Array Slot} {rest : List Value} {G : b_G} {B0 : Nat} (CX : b_Cx p s m args c cc nL RX20 G B0) {fs : List Value} (hP : b_at G a (.inr (6, fs)) H) {v : Value} (hv : fs[0]? = some v) (hdg : decode cc pc = .ok (.getfield 18, 3)) (kk : W p l e R s m args below meth c H locs cells slots Q (F0 m (pc + 3) ls (v :: rest))) : W p l e R s m args below meth c H locs cells slots Q (F0 m pc ls (.ref a :: rest)) := b_get CX in_X20 rfl 0 (by decide) q641 (Or.inl rfl) hP hv hdg kk
theorem cs_X20_60 {p : Program} {l : Launch} {e : Env} {R : Room} {s : State} {m : MethodId} {args : Array Value} {below : List Frame} {meth : Method} {c : Code} {H : Heap} {locs : List Loc} {cells slots : Nat} {cc : ByteArray} {pc nL a : Nat} {ls : Array Slot} {rest : List Value} {G : b_G} {B0 : Nat} (CX : b_Cx p s m args c cc nL RX20 G B0) (hls : ls.size = nL) {rm : Room} {mc ms : Nat} {As st0 : List Value} {Qc : Array Value → State → Outcome → State → Prop} (hM : Met l yX21_init (ws_ yX21_init cX21_init 5 (Option.none)) rm (b_Pc G B0 H (.ref a :: As)) Qc mc ms (b_A B0)) (hn : As.length = 4) (hS : va_S (b_A B0) s.heap H locs) (hst : st0 = As.reverse ++ .ref a :: rest) (hr : rm.cells = mc ∧ rm.slots = ms ∧ rm.frames + 1 ≤ R.frames ∧ 8 + (5 + 11) + rm.locals ≤ R.locals) (hw : (rest.map fun v => v.category).sum ≤ 8) (hdg : decode cc pc = .ok (.invokespecial 60, 3)) (hf : cells + mc ≤ R.cells ∧ slots + ms ≤ R.slots) : va_Run p l e R s m args below meth c H locs cells slots mc ms (F0 m pc ls st0) rest (Qc (Value.ref a :: As).toArray) (b_A B0) := va_runI CX.fix hM (cwI 4 CX.ts (lw_meth q704) rfl hr.1 hr.2.1 (CX.ts _ q123) (CX.ts _ q702) (CX.ts _ q703) rfl (by decide +kernel) ⟨hr.2.2.1, hr.2.2.2⟩) ⟨b_blind G B0 H _, b_pre _ CX.K hS⟩ rfl hn hls hst (lv_room hw) hdg hf
theorem cs_X20_63 {p : Program} {l : Launch} {e : Env} {R : Room} {s : State} {m : MethodId} {args : Array Value} {below : List Frame} {meth : Method} {c : Code} {H : Heap} {locs : List Loc} {cells slots : Nat} {cc : ByteArray} {pc nL a : Nat} {ls : Array Slot} {rest : List Value} {G : b_G} {B0 : Nat} (CX : b_Cx p s m args c cc nL RX20 G B0) (hls : ls.size = nL) {rm : Room} {mc ms : Nat} {As st0 : List Value} {Qc : Array Value → State → Outcome → State → Prop} (hM : Met l yJ2_add (ws_ yJ2_add cJ2_add 2 (Option.some Jvm.ClassFile.FieldType.boolean)) rm (b_Pc G B0 H (.ref a :: As)) Qc mc ms (b_A B0)) (hn : As.length = 1) {fs : List Value} {ci : Nat} {qc : vw_C} (hc : b_cl[ci]? = some qc) (hq : qc.1 = RJ2) (hP : b_at G a (.inr (ci, fs)) H) (hS : va_S (b_A B0) s.heap H locs) (hst : st0 = As.reverse ++ .ref a :: rest) (hr : rm.cells = mc ∧ rm.slots = ms ∧ rm.frames + 1 ≤ R.frames ∧ 8 + (2 + 11) + rm.locals ≤ R.locals) (hw : (rest.map fun v => v.category).sum ≤ 8) (hdg : decode cc pc = .ok (.invokevirtual 63, 3)) (hf : cells + mc ≤ R.cells ∧ slots + ms ≤ R.slots) : va_Run p l e R s m args below meth c H locs cells slots mc ms (F0 m pc ls st0) rest (Qc (Value.ref a :: As).toArray) (b_A B0) := va_runV CX.fix hM (cwV 1 CX.ts (lw_V q723 q724 q725 q83 q726) rfl hr.1 hr.2.1 (by decide +kernel) ⟨hr.2.2.1, hr.2.2.2⟩) ⟨b_blind G B0 H _, by have h9 := b_recv CX.K hc hP; rw [hq] at h9; exact h9, b_pre _ CX.K hS⟩ rfl hn hls hst (lv_room hw) hdg hf
set_option maxHeartbeats 2000000 in
set_option maxRecDepth 100000 in
theorem m_X20_rest (l : Launch) {G : b_G} {B0 : Nat} {H : Heap} {τ : b_T} {t : Nat → Nat} {lo9 : List (Nat × Nat × Nat × Nat)} {rr : Nat} {ro : Nat} {pp : Nat} {a : Nat} {f0 : Nat} {asv : Nat} {atx : Nat} {atk : Nat} {hs : Int64} {va : Nat} {ml : Int32} {tn : Nat} {bt : Nat → Int32} {sg : Nat} {ha : Nat} {sep : Nat} {hcc : Nat} {hi : Nat} (hc_rd : b_tt G B0 τ H rr 110 (.inr (6, [.ref ro, .int (nI pp), .ref a]))) (hc_X : b_tt G B0 τ H a 0 (.inr (0, [.ref f0, .ref asv, .ref atx, .ref atk, .long hs]))) (hc_tx : b_tt G B0 τ H atx 3 (.inr (3, [.ref va, .int (nI 0), .int ml, .int (nI tn)]))) (hc_tb : b_tt G B0 τ H va 4 (.inl (G.2.1 1, 60, .inl bt))) (hbt : ∀ j, j < tn → bt j = nI (t j)) (ht : ∀ j, t j < 128) (htn : tn ≤ 60) (hpl : pp ≤ tn) (hRO : RO G B0 τ H ro lo9) (hll : lo9.length < 9) (h1a : ha < 10) (h1b : 0 < sep ∧ sep < 128) (h1c : hcc < 10) (h1d : hi < 1000) (h1e : sg < 128) : Met l yX20_rest (ws_ yX20_rest cX20_rest 9 (Option.some Jvm.ClassFile.FieldType.boolean)) ({ frames := 6, cells := 2, slots := 14, locals := 131 } : Room) (b_Pc G B0 H [.ref rr, .int (nI sg), .int (nI ha), .int (nI sep), .int (nI hcc), .int (nI hi)]) (b_Qi B0 (fun r H1 => ∃ τ1 : b_T, b_Ag τ τ1 H ∧ b_Fr τ (fun t => 110 ≤ t ∧ t < 200) H H1 ∧ b_tt G B0 τ1 H1 rr 110 (.inr (6, [.ref ro, .int (nI (q_rest t tn pp ha sep hcc hi).1), .ref a])) ∧ ((∃ x, (q_rest t tn pp ha sep hcc hi).2 = some x ∧ r = nI 1 ∧ RO G B0 τ1 H1 ro (lo9 ++ [(sg, x)])) ∨ ((q_rest t tn pp ha sep hcc hi).2 = none ∧ r = nI 0)))) 2 14 (b_A B0) := by
  refine b_of (by decide) (Nat.le_of_ble_eq_true rfl) ?_
  intro p e s m below meth c CX hr hlk hnm hS ls hl
  have CX : b_Cx p s m _ c cX20_rest 9 RX20 G B0 := CX
  have hx := CX.hx
  have hb := CX.hb
  have hl : lv_has ls 9 [(0, .ref rr), (1, .int (nI sg)), (2, .int (nI ha)), (3, .int (nI sep)), (4, .int (nI hcc)), (5, .int (nI hi))] := hl
  generalize hQ : MQ below (b_Qi B0 (fun r H1 => ∃ τ1 : b_T, b_Ag τ τ1 H ∧ b_Fr τ (fun t => 110 ≤ t ∧ t < 200) H H1 ∧ b_tt G B0 τ1 H1 rr 110 (.inr (6, [.ref ro, .int (nI (q_rest t tn pp ha sep hcc hi).1), .ref a])) ∧ ((∃ x, (q_rest t tn pp ha sep hcc hi).2 = some x ∧ r = nI 1 ∧ RO G B0 τ1 H1 ro (lo9 ++ [(sg, x)])) ∨ ((q_rest t tn pp ha sep hcc hi).2 = none ∧ r = nI 0)))) ([.ref rr, .int (nI sg), .int (nI ha), .int (nI sep), .int (nI hcc), .int (nI hi)] : List Value).toArray s 2 14 (b_A B0) = Q
  have hF : b_Fr τ (fun t => 110 ≤ t ∧ t < 200) H H := b_Fr.rf
  have hA : b_Ag τ τ H := b_Ag.rf
  refine lv_aload_n hx hb dX20_rest_0 rfl (lv_at hl 0 rfl) ?_
  refine lv_iload_n hx hb dX20_rest_1 rfl (lv_at hl 2 rfl) ?_
  refine b_ci (cs_X20_47 (rest := []) CX hl.1 (m_X20_digit l (rr := rr) (ro := ro) (pp := pp) (a := a) (f0 := f0) (asv := asv) (atx := atx) (va := va) (bt := bt) (ml := ml) (tn := tn) (atk := atk) (hs := hs) (hh := ha) hc_rd hc_X hc_tx hc_tb hbt ht (by omega) (by omega) (by omega)) rfl rfl rfl hc_rd.at hS rfl ⟨rfl, rfl, Nat.le_of_ble_eq_true rfl, Nat.le_of_ble_eq_true rfl⟩ (Nat.le_of_ble_eq_true rfl) dX20_rest_2 ⟨Nat.le_of_ble_eq_true rfl, Nat.le_of_ble_eq_true rfl⟩) hS (fun r H1 locs hp hS => ?_)
  obtain ⟨rfl, hF9, hx0⟩ := hp
  have hc_X := hc_X.fr hF9 (show ¬ (0 = 110) by omega)
  have hc_tx := hc_tx.fr hF9 (show ¬ (3 = 110) by omega)
  have hc_tb := hc_tb.fr hF9 (show ¬ (4 = 110) by omega)
  have hRO := hRO.fr hF9 (fun i9 hi9 => show ¬ (i9 = 110) by omega)
  have hz9 := hF.1
  have hF0 := hF.tr hA hF9 (fun q9 hq9 x9 => by have x8 : τ q9 = 110 := x9; show 110 ≤ τ q9 ∧ τ q9 < 200; omega)
  have hF := hF0
  have hc_rd : b_tt G B0 τ H1 rr 110 (.inr (6, [.ref ro, .int (nI ((if pp < tn ∧ 48 ≤ t pp ∧ t pp ≤ 48 + ha then pp + 1 else pp))), .ref a])) := hx0
  by_cases cq_2 : pp < tn ∧ 48 ≤ t pp ∧ t pp ≤ 48 + ha
  · refine b_top (x := (if pp < tn ∧ 48 ≤ t pp ∧ t pp ≤ 48 + ha then nI (t pp - 48) else -1)) (y := nI ((t pp) - 48)) (if_pos cq_2) ?_
    have hc_rd : b_tt G B0 τ H1 rr 110 (.inr (6, [.ref ro, .int (nI (pp + 1)), .ref a])) := hc_rd.cg (by rw [if_pos cq_2] <;> rfl)
    refine lv_istore (lv' := [(6, .int (nI ((t pp) - 48))), (0, .ref rr), (1, .int (nI sg)), (2, .int (nI ha)), (3, .int (nI sep)), (4, .int (nI hcc)), (5, .int (nI hi))]) hx hb dX20_rest_5 hl (Nat.le_of_ble_eq_true rfl) rfl (fun ls hl => ?_)
    refine lv_iload hx hb dX20_rest_7 (lv_at hl 0 rfl) ?_
    refine lv_iconst (v := -1) hx hb dX20_rest_9 rfl ?_
    refine lv_icmp_eq (tgt := 21) hx hb dX20_rest_10 (by decide) (fun c_10 => ?_) (fun c_10 => ?_)
    · exact absurd c_10 (by exact nI_ne_m1 (by have := ht pp; omega))
    · refine lv_aload_n hx hb dX20_rest_13 rfl (lv_at hl 1 rfl) ?_
      refine lv_iload_n hx hb dX20_rest_14 rfl (lv_at hl 4 rfl) ?_
      refine b_ci (cs_X20_51 (rest := []) CX hl.1 (m_X20_takes l (rr := rr) (ro := ro) (pp := pp + 1) (a := a) (f0 := f0) (asv := asv) (atx := atx) (va := va) (bt := bt) (ml := ml) (tn := tn) (atk := atk) (hs := hs) (ch := sep) hc_rd hc_X hc_tx hc_tb hbt ht (by omega) (by omega) (by omega) (by omega)) rfl rfl rfl hc_rd.at hS rfl ⟨rfl, rfl, Nat.le_of_ble_eq_true rfl, Nat.le_of_ble_eq_true rfl⟩ (Nat.le_of_ble_eq_true rfl) dX20_rest_15 ⟨Nat.le_of_ble_eq_true rfl, Nat.le_of_ble_eq_true rfl⟩) hS (fun r H2 locs hp hS => ?_)
      obtain ⟨rfl, hF9, hx0⟩ := hp
      have hc_X := hc_X.fr hF9 (show ¬ (0 = 110) by omega)
      have hc_tx := hc_tx.fr hF9 (show ¬ (3 = 110) by omega)
      have hc_tb := hc_tb.fr hF9 (show ¬ (4 = 110) by omega)
      have hRO := hRO.fr hF9 (fun i9 hi9 => show ¬ (i9 = 110) by omega)
      have hz9 := hF.1
      have hF0 := hF.tr hA hF9 (fun q9 hq9 x9 => by have x8 : τ q9 = 110 := x9; show 110 ≤ τ q9 ∧ τ q9 < 200; omega)
      have hF := hF0
      have hc_rd : b_tt G B0 τ H2 rr 110 (.inr (6, [.ref ro, .int (nI ((if (pp + 1) < tn ∧ t (pp + 1) = sep then (pp + 1) + 1 else (pp + 1)))), .ref a])) := hx0
      by_cases cq_15 : (pp + 1) < tn ∧ t (pp + 1) = sep
      · refine b_top (x := bI ((pp + 1) < tn ∧ t (pp + 1) = sep)) (y := nI 1) (bI_t cq_15) ?_
        have hc_rd : b_tt G B0 τ H2 rr 110 (.inr (6, [.ref ro, .int (nI (pp + 1 + 1)), .ref a])) := hc_rd.cg (by rw [if_pos cq_15] <;> rfl)
        refine lv_if_ne (tgt := 23) hx hb dX20_rest_18 (by decide) (fun c_18 => ?_) (fun c_18 => ?_)
        · refine lv_aload_n hx hb dX20_rest_23 rfl (lv_at hl 1 rfl) ?_
          refine lv_iload hx hb dX20_rest_24 (lv_at hl 5 rfl) ?_
          refine b_ci (cs_X20_47 (rest := []) CX hl.1 (m_X20_digit l (rr := rr) (ro := ro) (pp := pp + 1 + 1) (a := a) (f0 := f0) (asv := asv) (atx := atx) (va := va) (bt := bt) (ml := ml) (tn := tn) (atk := atk) (hs := hs) (hh := hcc) hc_rd hc_X hc_tx hc_tb hbt ht (by omega) (by omega) (by omega)) rfl rfl rfl hc_rd.at hS rfl ⟨rfl, rfl, Nat.le_of_ble_eq_true rfl, Nat.le_of_ble_eq_true rfl⟩ (Nat.le_of_ble_eq_true rfl) dX20_rest_26 ⟨Nat.le_of_ble_eq_true rfl, Nat.le_of_ble_eq_true rfl⟩) hS (fun r H3 locs hp hS => ?_)
          obtain ⟨rfl, hF9, hx0⟩ := hp
          have hc_X := hc_X.fr hF9 (show ¬ (0 = 110) by omega)
          have hc_tx := hc_tx.fr hF9 (show ¬ (3 = 110) by omega)
          have hc_tb := hc_tb.fr hF9 (show ¬ (4 = 110) by omega)
          have hRO := hRO.fr hF9 (fun i9 hi9 => show ¬ (i9 = 110) by omega)
          have hz9 := hF.1
          have hF0 := hF.tr hA hF9 (fun q9 hq9 x9 => by have x8 : τ q9 = 110 := x9; show 110 ≤ τ q9 ∧ τ q9 < 200; omega)
          have hF := hF0
          have hc_rd : b_tt G B0 τ H3 rr 110 (.inr (6, [.ref ro, .int (nI ((if (pp + 1 + 1) < tn ∧ 48 ≤ t (pp + 1 + 1) ∧ t (pp + 1 + 1) ≤ 48 + hcc then (pp + 1 + 1) + 1 else (pp + 1 + 1)))), .ref a])) := hx0
          by_cases cq_26 : (pp + 1 + 1) < tn ∧ 48 ≤ t (pp + 1 + 1) ∧ t (pp + 1 + 1) ≤ 48 + hcc
          · refine b_top (x := (if (pp + 1 + 1) < tn ∧ 48 ≤ t (pp + 1 + 1) ∧ t (pp + 1 + 1) ≤ 48 + hcc then nI (t (pp + 1 + 1) - 48) else -1)) (y := nI ((t (pp + 1 + 1)) - 48)) (if_pos cq_26) ?_
            have hc_rd : b_tt G B0 τ H3 rr 110 (.inr (6, [.ref ro, .int (nI (pp + 1 + 1 + 1)), .ref a])) := hc_rd.cg (by rw [if_pos cq_26] <;> rfl)
            refine lv_istore (lv' := [(7, .int (nI ((t (pp + 1 + 1)) - 48))), (6, .int (nI ((t pp) - 48))), (0, .ref rr), (1, .int (nI sg)), (2, .int (nI ha)), (3, .int (nI sep)), (4, .int (nI hcc)), (5, .int (nI hi))]) hx hb dX20_rest_29 hl (Nat.le_of_ble_eq_true rfl) rfl (fun ls hl => ?_)
            refine lv_iload hx hb dX20_rest_31 (lv_at hl 0 rfl) ?_
            refine lv_iconst (v := -1) hx hb dX20_rest_33 rfl ?_
            refine lv_icmp_eq (tgt := 46) hx hb dX20_rest_34 (by decide) (fun c_34 => ?_) (fun c_34 => ?_)
            · exact absurd c_34 (by exact nI_ne_m1 (by have := ht (pp + 1 + 1); omega))
            · refine lv_aload_n hx hb dX20_rest_37 rfl (lv_at hl 2 rfl) ?_
              refine lv_bipush (v := nI 42) hx hb dX20_rest_38 rfl ?_
              refine b_ci (cs_X20_51 (rest := []) CX hl.1 (m_X20_takes l (rr := rr) (ro := ro) (pp := pp + 1 + 1 + 1) (a := a) (f0 := f0) (asv := asv) (atx := atx) (va := va) (bt := bt) (ml := ml) (tn := tn) (atk := atk) (hs := hs) (ch := 42) hc_rd hc_X hc_tx hc_tb hbt ht (by omega) (by omega) (by omega) (by omega)) rfl rfl rfl hc_rd.at hS rfl ⟨rfl, rfl, Nat.le_of_ble_eq_true rfl, Nat.le_of_ble_eq_true rfl⟩ (Nat.le_of_ble_eq_true rfl) dX20_rest_40 ⟨Nat.le_of_ble_eq_true rfl, Nat.le_of_ble_eq_true rfl⟩) hS (fun r H4 locs hp hS => ?_)
              obtain ⟨rfl, hF9, hx0⟩ := hp
              have hc_X := hc_X.fr hF9 (show ¬ (0 = 110) by omega)
              have hc_tx := hc_tx.fr hF9 (show ¬ (3 = 110) by omega)
              have hc_tb := hc_tb.fr hF9 (show ¬ (4 = 110) by omega)
              have hRO := hRO.fr hF9 (fun i9 hi9 => show ¬ (i9 = 110) by omega)
              have hz9 := hF.1
              have hF0 := hF.tr hA hF9 (fun q9 hq9 x9 => by have x8 : τ q9 = 110 := x9; show 110 ≤ τ q9 ∧ τ q9 < 200; omega)
              have hF := hF0
              have hc_rd : b_tt G B0 τ H4 rr 110 (.inr (6, [.ref ro, .int (nI ((if (pp + 1 + 1 + 1) < tn ∧ t (pp + 1 + 1 + 1) = 42 then (pp + 1 + 1 + 1) + 1 else (pp + 1 + 1 + 1)))), .ref a])) := hx0
              by_cases cq_40 : (pp + 1 + 1 + 1) < tn ∧ t (pp + 1 + 1 + 1) = 42
              · refine b_top (x := bI ((pp + 1 + 1 + 1) < tn ∧ t (pp + 1 + 1 + 1) = 42)) (y := nI 1) (bI_t cq_40) ?_
                have hc_rd : b_tt G B0 τ H4 rr 110 (.inr (6, [.ref ro, .int (nI (pp + 1 + 1 + 1 + 1)), .ref a])) := hc_rd.cg (by rw [if_pos cq_40] <;> rfl)
                refine lv_if_ne (tgt := 48) hx hb dX20_rest_43 (by decide) (fun c_43 => ?_) (fun c_43 => ?_)
                · refine lv_aload_n hx hb dX20_rest_48 rfl (lv_at hl 2 rfl) ?_
                  refine lv_iload hx hb dX20_rest_49 (lv_at hl 7 rfl) ?_
                  refine b_ci (cs_X20_55 (rest := []) CX hl.1 (m_X20_number l (rr := rr) (ro := ro) (pp := pp + 1 + 1 + 1 + 1) (a := a) (f0 := f0) (asv := asv) (atx := atx) (va := va) (bt := bt) (ml := ml) (tn := tn) (atk := atk) (hs := hs) (hh := hi) hc_rd hc_X hc_tx hc_tb hbt ht (by omega) (by omega) (by omega)) rfl rfl rfl hc_rd.at hS rfl ⟨rfl, rfl, Nat.le_of_ble_eq_true rfl, Nat.le_of_ble_eq_true rfl⟩ (Nat.le_of_ble_eq_true rfl) dX20_rest_51 ⟨Nat.le_of_ble_eq_true rfl, Nat.le_of_ble_eq_true rfl⟩) hS (fun r H5 locs hp hS => ?_)
                  obtain ⟨rfl, hF9, hx0⟩ := hp
                  have hc_X := hc_X.fr hF9 (show ¬ (0 = 110) by omega)
                  have hc_tx := hc_tx.fr hF9 (show ¬ (3 = 110) by omega)
                  have hc_tb := hc_tb.fr hF9 (show ¬ (4 = 110) by omega)
                  have hRO := hRO.fr hF9 (fun i9 hi9 => show ¬ (i9 = 110) by omega)
                  have hz9 := hF.1
                  have hF0 := hF.tr hA hF9 (fun q9 hq9 x9 => by have x8 : τ q9 = 110 := x9; show 110 ≤ τ q9 ∧ τ q9 < 200; omega)
                  have hF := hF0
                  have hc_rd : b_tt G B0 τ H5 rr 110 (.inr (6, [.ref ro, .int (nI ((q_num t tn hi (tn - (pp + 1 + 1 + 1 + 1)) (pp + 1 + 1 + 1 + 1) 0).1)), .ref a])) := hx0
                  by_cases cq_51 : (q_num t tn hi (tn - (pp + 1 + 1 + 1 + 1)) (pp + 1 + 1 + 1 + 1) 0).2 = 0
                  · refine b_top (x := (if (q_num t tn hi (tn - (pp + 1 + 1 + 1 + 1)) (pp + 1 + 1 + 1 + 1) 0).2 = 0 then -1 else nI (q_num t tn hi (tn - (pp + 1 + 1 + 1 + 1)) (pp + 1 + 1 + 1 + 1) 0).2)) (y := -1) (if_pos cq_51) ?_
                    refine lv_istore (lv' := [(8, .int (-1)), (7, .int (nI ((t (pp + 1 + 1)) - 48))), (6, .int (nI ((t pp) - 48))), (0, .ref rr), (1, .int (nI sg)), (2, .int (nI ha)), (3, .int (nI sep)), (4, .int (nI hcc)), (5, .int (nI hi))]) hx hb dX20_rest_54 hl (Nat.le_of_ble_eq_true rfl) rfl (fun ls hl => ?_)
                    refine lv_aload_n hx hb dX20_rest_56 rfl (lv_at hl 3 rfl) ?_
                    refine gf_X20_18_6 CX hc_rd.at rfl dX20_rest_57 ?_
                    refine b_new CX in_X21 tyX21 tyX21_ok (ci := 7) rfl q700 q701 q123 (fs := [.int (nI 0), .int (nI 0), .int (nI 0), .int (nI 0)]) (nofn_X21) hS (Nat.le_of_ble_eq_true rfl) (Nat.le_of_ble_eq_true rfl) dX20_rest_60 (fun q6 H6 hq hB hat hsz hE hS => ?_)
                    have hc_rd := hc_rd.new (tb := (120 + lo9.length)) hE hq
                    have hc_X := hc_X.new (tb := (120 + lo9.length)) hE hq
                    have hc_tx := hc_tx.new (tb := (120 + lo9.length)) hE hq
                    have hc_tb := hc_tb.new (tb := (120 + lo9.length)) hE hq
                    have hRO := hRO.new (tb := (120 + lo9.length)) hE hq
                    have fr_or : H.size ≤ q6 := by rw [hq]; exact hF.1
                    have hA := hA.tr (b_Ag.new (t := (120 + lo9.length)) hq) hF.1
                    have hF := hF.ext hE
                    have hc_or : b_tt G B0 ((upT τ q6 ((120 + lo9.length)))) H6 q6 ((120 + lo9.length)) (.inr (7, [.int (nI 0), .int (nI 0), .int (nI 0), .int (nI 0)])) := b_tt.mk hat hB
                    refine lv_dup hx hb dX20_rest_63 rfl ?_
                    refine lv_iload_n hx hb dX20_rest_64 rfl (lv_at hl 4 rfl) ?_
                    refine lv_iload hx hb dX20_rest_65 (lv_at hl 2 rfl) ?_
                    refine lv_iload hx hb dX20_rest_67 (lv_at hl 1 rfl) ?_
                    refine lv_iload hx hb dX20_rest_69 (lv_at hl 0 rfl) ?_
                    refine b_cv (cs_X20_60 (rest := [.ref q6, .ref ro]) CX hl.1 (m_X21_init l (a := q6) (ta := (120 + lo9.length)) (x := nI sg) (y := nI ((t pp) - 48)) (z := nI ((t (pp + 1 + 1)) - 48)) (w := -1) hc_or) rfl hS rfl ⟨rfl, rfl, Nat.le_of_ble_eq_true rfl, Nat.le_of_ble_eq_true rfl⟩ (Nat.le_of_ble_eq_true rfl) dX20_rest_71 ⟨Nat.le_of_ble_eq_true rfl, Nat.le_of_ble_eq_true rfl⟩) hS (fun H7 locs hp hS => ?_)
                    obtain ⟨hF9, hx0⟩ := hp
                    have hc_rd := hc_rd.fr hF9 (show ¬ (110 = ((120 + lo9.length))) by omega)
                    have hc_X := hc_X.fr hF9 (show ¬ (0 = ((120 + lo9.length))) by omega)
                    have hc_tx := hc_tx.fr hF9 (show ¬ (3 = ((120 + lo9.length))) by omega)
                    have hc_tb := hc_tb.fr hF9 (show ¬ (4 = ((120 + lo9.length))) by omega)
                    have hRO := hRO.fr hF9 (fun i9 hi9 => show ¬ (i9 = ((120 + lo9.length))) by omega)
                    have hz9 := hF.1
                    have hF0 := hF.tr hA hF9 (fun q9 hq9 x9 => by have x8 : τ q9 = ((120 + lo9.length)) := x9; show 110 ≤ τ q9 ∧ τ q9 < 200; omega)
                    have hF := hF0
                    have hc_or : b_tt G B0 ((upT τ q6 ((120 + lo9.length)))) H7 q6 ((120 + lo9.length)) (.inr (7, [.int ((nI sg)), .int ((nI ((t pp) - 48))), .int ((nI ((t (pp + 1 + 1)) - 48))), .int ((-1))])) := hx0
                    obtain ⟨O, mo, so, ra, hc_ol, hso, hse9, hO⟩ := hRO
                    rcases hso1 : so with _ | _
                    · have hl0 : lo9.length = 0 := hse9.resolve_left (by rw [hso1]; decide)
                      have hc_ol : b_tt G B0 ((upT τ q6 ((120 + lo9.length)))) H7 ro 111 (.inr (2, [.int mo, .ref ((G.2.2 0)), .int (nI 0)])) := hc_ol.cg (by rw [hso1, hl0] <;> rfl)
                      have hO : ∀ j x, lo9[j]? = some x → b_tt G B0 ((upT τ q6 ((120 + lo9.length)))) H7 (O j) (120 + j) (.inr (7, [.int (nI x.1), .int (nI x.2.1), .int (nI x.2.2.1), .int (nI x.2.2.2)])) := hO
                      refine b_ci (cs_X20_63 (rest := []) CX hl.1 (m_J2_add_s l (a := ro) (ta := 111) (mc := mo) (v := q6) (tv := (120 + lo9.length)) (ci := 7) (fs := [.int ((nI sg)), .int ((nI ((t pp) - 48))), .int ((nI ((t (pp + 1 + 1)) - 48))), .int ((-1))]) (tr := 112) hc_ol hc_or ⟨_, rfl, q2256⟩ (by omega) (by omega) (by omega)) rfl rfl rfl hc_ol.at hS rfl ⟨rfl, rfl, Nat.le_of_ble_eq_true rfl, Nat.le_of_ble_eq_true rfl⟩ (Nat.le_of_ble_eq_true rfl) dX20_rest_74 ⟨Nat.le_of_ble_eq_true rfl, Nat.le_of_ble_eq_true rfl⟩) hS (fun r H8 locs hp hS => ?_)
                      obtain ⟨τ8, q8, rfl, hA9, hF9, hr0, hx0, hx1⟩ := hp
                      have hc_rd := hc_rd.ca hF9 hA9 (show ¬ (110 = 111 ∨ 110 = 112) by omega)
                      have hc_X := hc_X.ca hF9 hA9 (show ¬ (0 = 111 ∨ 0 = 112) by omega)
                      have hc_tx := hc_tx.ca hF9 hA9 (show ¬ (3 = 111 ∨ 3 = 112) by omega)
                      have hc_tb := hc_tb.ca hF9 hA9 (show ¬ (4 = 111 ∨ 4 = 112) by omega)
                      have hc_or := hc_or.ca hF9 hA9 (show ¬ (((120 + lo9.length)) = 111 ∨ ((120 + lo9.length)) = 112) by omega)
                      have hO := fun j x (hj : lo9[j]? = some x) => (hO j x hj).ca hF9 hA9 (show ¬ ((120 + j) = 111 ∨ (120 + j) = 112) by have := (List.getElem?_eq_some_iff.mp hj).1; omega)
                      have hz9 := hF.1
                      have hF0 := hF.tr hA hF9 (fun q9 hq9 x9 => by have x8 : τ q9 = 111 ∨ τ q9 = 112 := x9; show 110 ≤ τ q9 ∧ τ q9 < 200; omega)
                      have hA := hA.tr hA9 hF.1
                      have hF := hF0
                      have hc_ol : b_tt G B0 τ8 H8 ro 111 (.inr (2, [.int (mo + 1), .ref q8, .int (nI 1)])) := hx0
                      have hc_arr8 : b_tt G B0 τ8 H8 q8 112 (.inl (G.2.1 2, q_refs 10 ((fun j => if j < 1 then some q6 else none)))) := hx1
                      have fr_arr8 : H.size ≤ q8 := Nat.le_trans hz9 hr0
                      refine lv_pop hx hb dX20_rest_77 rfl ?_
                      refine lv_iload hx hb dX20_rest_78 (lv_at hl 0 rfl) ?_
                      refine lv_iconst (v := -1) hx hb dX20_rest_80 rfl ?_
                      refine lv_icmp_eq (tgt := 88) hx hb dX20_rest_81 (by decide) (fun c_81 => ?_) (fun c_81 => ?_)
                      · refine lv_iconst (v := nI 0) hx hb dX20_rest_88 rfl ?_
                        have hqr : q_rest t tn pp ha sep hcc hi = ((q_num t tn hi (tn - (pp + 1 + 1 + 1 + 1)) (pp + 1 + 1 + 1 + 1) 0).1, none) := by
                          unfold q_rest
                          repeat (first | rw [if_pos (by assumption)] | rw [if_neg (by assumption)])
                        rw [← hQ]
                        exact b_zret CX hr hlk hS (Nat.le_of_ble_eq_true rfl) (Nat.le_of_ble_eq_true rfl) rfl dX20_rest_89 (⟨_, hA, hF, (by rw [hqr]; exact hc_rd), Or.inr ⟨congrArg Prod.snd hqr, rfl⟩⟩)
                      · exfalso; exact c_81 rfl
                    · have hc_oa := hso hso1
                      rw [hso1] at hc_ol
                      have hc_ol : b_tt G B0 ((upT τ q6 ((120 + lo9.length)))) H7 ro 111 (.inr (2, [.int mo, .ref ra, .int (nI lo9.length)])) := hc_ol
                      have hc_oa : b_tt G B0 ((upT τ q6 ((120 + lo9.length)))) H7 ra 112 (.inl (G.2.1 2, q_refs 10 ((fun j => if j < lo9.length then some (O j) else none)))) := hc_oa
                      have hO : ∀ j x, lo9[j]? = some x → b_tt G B0 ((upT τ q6 ((120 + lo9.length)))) H7 (O j) (120 + j) (.inr (7, [.int (nI x.1), .int (nI x.2.1), .int (nI x.2.2.1), .int (nI x.2.2.2)])) := hO
                      refine b_ci (cs_X20_63 (rest := []) CX hl.1 (m_J2_add_d l (a := ro) (ta := 111) (mc := mo) (ra := ra) (tr := 112) (f := O) (n := lo9.length) (v := q6) (tv := (120 + lo9.length)) (ci := 7) (fs := [.int ((nI sg)), .int ((nI ((t pp) - 48))), .int ((nI ((t (pp + 1 + 1)) - 48))), .int ((-1))]) hc_ol hc_oa hc_or ⟨_, rfl, q2256⟩ (by omega) (by omega) (by omega) (by omega)) rfl rfl rfl hc_ol.at hS rfl ⟨rfl, rfl, Nat.le_of_ble_eq_true rfl, Nat.le_of_ble_eq_true rfl⟩ (Nat.le_of_ble_eq_true rfl) dX20_rest_74 ⟨Nat.le_of_ble_eq_true rfl, Nat.le_of_ble_eq_true rfl⟩) hS (fun r H9 locs hp hS => ?_)
                      obtain ⟨rfl, hF9, hx0, hx1⟩ := hp
                      have hc_rd := hc_rd.fr hF9 (show ¬ (110 = 111 ∨ 110 = 112) by omega)
                      have hc_X := hc_X.fr hF9 (show ¬ (0 = 111 ∨ 0 = 112) by omega)
                      have hc_tx := hc_tx.fr hF9 (show ¬ (3 = 111 ∨ 3 = 112) by omega)
                      have hc_tb := hc_tb.fr hF9 (show ¬ (4 = 111 ∨ 4 = 112) by omega)
                      have hc_or := hc_or.fr hF9 (show ¬ (((120 + lo9.length)) = 111 ∨ ((120 + lo9.length)) = 112) by omega)
                      have hO := fun j x (hj : lo9[j]? = some x) => (hO j x hj).fr hF9 (show ¬ ((120 + j) = 111 ∨ (120 + j) = 112) by have := (List.getElem?_eq_some_iff.mp hj).1; omega)
                      have hz9 := hF.1
                      have hF0 := hF.tr hA hF9 (fun q9 hq9 x9 => by have x8 : τ q9 = 111 ∨ τ q9 = 112 := x9; show 110 ≤ τ q9 ∧ τ q9 < 200; omega)
                      have hF := hF0
                      have hc_ol : b_tt G B0 ((upT τ q6 ((120 + lo9.length)))) H9 ro 111 (.inr (2, [.int (mo + 1), .ref ra, .int (nI (lo9.length + 1))])) := hx0
                      have hc_oa : b_tt G B0 ((upT τ q6 ((120 + lo9.length)))) H9 ra 112 (.inl (G.2.1 2, q_refs 10 ((fun j => if j < lo9.length + 1 then some (if j = lo9.length then q6 else O j) else none)))) := hx1
                      refine lv_pop hx hb dX20_rest_77 rfl ?_
                      refine lv_iload hx hb dX20_rest_78 (lv_at hl 0 rfl) ?_
                      refine lv_iconst (v := -1) hx hb dX20_rest_80 rfl ?_
                      refine lv_icmp_eq (tgt := 88) hx hb dX20_rest_81 (by decide) (fun c_81 => ?_) (fun c_81 => ?_)
                      · refine lv_iconst (v := nI 0) hx hb dX20_rest_88 rfl ?_
                        have hqr : q_rest t tn pp ha sep hcc hi = ((q_num t tn hi (tn - (pp + 1 + 1 + 1 + 1)) (pp + 1 + 1 + 1 + 1) 0).1, none) := by
                          unfold q_rest
                          repeat (first | rw [if_pos (by assumption)] | rw [if_neg (by assumption)])
                        rw [← hQ]
                        exact b_zret CX hr hlk hS (Nat.le_of_ble_eq_true rfl) (Nat.le_of_ble_eq_true rfl) rfl dX20_rest_89 (⟨_, hA, hF, (by rw [hqr]; exact hc_rd), Or.inr ⟨congrArg Prod.snd hqr, rfl⟩⟩)
                      · exfalso; exact c_81 rfl
                  · refine b_top (x := (if (q_num t tn hi (tn - (pp + 1 + 1 + 1 + 1)) (pp + 1 + 1 + 1 + 1) 0).2 = 0 then -1 else nI (q_num t tn hi (tn - (pp + 1 + 1 + 1 + 1)) (pp + 1 + 1 + 1 + 1) 0).2)) (y := nI ((q_num t tn hi (tn - (pp + 1 + 1 + 1 + 1)) (pp + 1 + 1 + 1 + 1) 0).2)) (if_neg cq_51) ?_
                    refine lv_istore (lv' := [(8, .int (nI ((q_num t tn hi (tn - (pp + 1 + 1 + 1 + 1)) (pp + 1 + 1 + 1 + 1) 0).2))), (7, .int (nI ((t (pp + 1 + 1)) - 48))), (6, .int (nI ((t pp) - 48))), (0, .ref rr), (1, .int (nI sg)), (2, .int (nI ha)), (3, .int (nI sep)), (4, .int (nI hcc)), (5, .int (nI hi))]) hx hb dX20_rest_54 hl (Nat.le_of_ble_eq_true rfl) rfl (fun ls hl => ?_)
                    refine lv_aload_n hx hb dX20_rest_56 rfl (lv_at hl 3 rfl) ?_
                    refine gf_X20_18_6 CX hc_rd.at rfl dX20_rest_57 ?_
                    refine b_new CX in_X21 tyX21 tyX21_ok (ci := 7) rfl q700 q701 q123 (fs := [.int (nI 0), .int (nI 0), .int (nI 0), .int (nI 0)]) (nofn_X21) hS (Nat.le_of_ble_eq_true rfl) (Nat.le_of_ble_eq_true rfl) dX20_rest_60 (fun q10 H10 hq hB hat hsz hE hS => ?_)
                    have hc_rd := hc_rd.new (tb := (120 + lo9.length)) hE hq
                    have hc_X := hc_X.new (tb := (120 + lo9.length)) hE hq
                    have hc_tx := hc_tx.new (tb := (120 + lo9.length)) hE hq
                    have hc_tb := hc_tb.new (tb := (120 + lo9.length)) hE hq
                    have hRO := hRO.new (tb := (120 + lo9.length)) hE hq
                    have fr_or : H.size ≤ q10 := by rw [hq]; exact hF.1
                    have hA := hA.tr (b_Ag.new (t := (120 + lo9.length)) hq) hF.1
                    have hF := hF.ext hE
                    have hc_or : b_tt G B0 ((upT τ q10 ((120 + lo9.length)))) H10 q10 ((120 + lo9.length)) (.inr (7, [.int (nI 0), .int (nI 0), .int (nI 0), .int (nI 0)])) := b_tt.mk hat hB
                    refine lv_dup hx hb dX20_rest_63 rfl ?_
                    refine lv_iload_n hx hb dX20_rest_64 rfl (lv_at hl 4 rfl) ?_
                    refine lv_iload hx hb dX20_rest_65 (lv_at hl 2 rfl) ?_
                    refine lv_iload hx hb dX20_rest_67 (lv_at hl 1 rfl) ?_
                    refine lv_iload hx hb dX20_rest_69 (lv_at hl 0 rfl) ?_
                    refine b_cv (cs_X20_60 (rest := [.ref q10, .ref ro]) CX hl.1 (m_X21_init l (a := q10) (ta := (120 + lo9.length)) (x := nI sg) (y := nI ((t pp) - 48)) (z := nI ((t (pp + 1 + 1)) - 48)) (w := nI ((q_num t tn hi (tn - (pp + 1 + 1 + 1 + 1)) (pp + 1 + 1 + 1 + 1) 0).2)) hc_or) rfl hS rfl ⟨rfl, rfl, Nat.le_of_ble_eq_true rfl, Nat.le_of_ble_eq_true rfl⟩ (Nat.le_of_ble_eq_true rfl) dX20_rest_71 ⟨Nat.le_of_ble_eq_true rfl, Nat.le_of_ble_eq_true rfl⟩) hS (fun H11 locs hp hS => ?_)
                    obtain ⟨hF9, hx0⟩ := hp
                    have hc_rd := hc_rd.fr hF9 (show ¬ (110 = ((120 + lo9.length))) by omega)
                    have hc_X := hc_X.fr hF9 (show ¬ (0 = ((120 + lo9.length))) by omega)
                    have hc_tx := hc_tx.fr hF9 (show ¬ (3 = ((120 + lo9.length))) by omega)
                    have hc_tb := hc_tb.fr hF9 (show ¬ (4 = ((120 + lo9.length))) by omega)
                    have hRO := hRO.fr hF9 (fun i9 hi9 => show ¬ (i9 = ((120 + lo9.length))) by omega)
                    have hz9 := hF.1
                    have hF0 := hF.tr hA hF9 (fun q9 hq9 x9 => by have x8 : τ q9 = ((120 + lo9.length)) := x9; show 110 ≤ τ q9 ∧ τ q9 < 200; omega)
                    have hF := hF0
                    have hc_or : b_tt G B0 ((upT τ q10 ((120 + lo9.length)))) H11 q10 ((120 + lo9.length)) (.inr (7, [.int ((nI sg)), .int ((nI ((t pp) - 48))), .int ((nI ((t (pp + 1 + 1)) - 48))), .int ((nI ((q_num t tn hi (tn - (pp + 1 + 1 + 1 + 1)) (pp + 1 + 1 + 1 + 1) 0).2)))])) := hx0
                    obtain ⟨O, mo, so, ra, hc_ol, hso, hse9, hO⟩ := hRO
                    rcases hso1 : so with _ | _
                    · have hl0 : lo9.length = 0 := hse9.resolve_left (by rw [hso1]; decide)
                      have hc_ol : b_tt G B0 ((upT τ q10 ((120 + lo9.length)))) H11 ro 111 (.inr (2, [.int mo, .ref ((G.2.2 0)), .int (nI 0)])) := hc_ol.cg (by rw [hso1, hl0] <;> rfl)
                      have hO : ∀ j x, lo9[j]? = some x → b_tt G B0 ((upT τ q10 ((120 + lo9.length)))) H11 (O j) (120 + j) (.inr (7, [.int (nI x.1), .int (nI x.2.1), .int (nI x.2.2.1), .int (nI x.2.2.2)])) := hO
                      refine b_ci (cs_X20_63 (rest := []) CX hl.1 (m_J2_add_s l (a := ro) (ta := 111) (mc := mo) (v := q10) (tv := (120 + lo9.length)) (ci := 7) (fs := [.int ((nI sg)), .int ((nI ((t pp) - 48))), .int ((nI ((t (pp + 1 + 1)) - 48))), .int ((nI ((q_num t tn hi (tn - (pp + 1 + 1 + 1 + 1)) (pp + 1 + 1 + 1 + 1) 0).2)))]) (tr := 112) hc_ol hc_or ⟨_, rfl, q2256⟩ (by omega) (by omega) (by omega)) rfl rfl rfl hc_ol.at hS rfl ⟨rfl, rfl, Nat.le_of_ble_eq_true rfl, Nat.le_of_ble_eq_true rfl⟩ (Nat.le_of_ble_eq_true rfl) dX20_rest_74 ⟨Nat.le_of_ble_eq_true rfl, Nat.le_of_ble_eq_true rfl⟩) hS (fun r H12 locs hp hS => ?_)
                      obtain ⟨τ12, q12, rfl, hA9, hF9, hr0, hx0, hx1⟩ := hp
                      have hc_rd := hc_rd.ca hF9 hA9 (show ¬ (110 = 111 ∨ 110 = 112) by omega)
                      have hc_X := hc_X.ca hF9 hA9 (show ¬ (0 = 111 ∨ 0 = 112) by omega)
                      have hc_tx := hc_tx.ca hF9 hA9 (show ¬ (3 = 111 ∨ 3 = 112) by omega)
                      have hc_tb := hc_tb.ca hF9 hA9 (show ¬ (4 = 111 ∨ 4 = 112) by omega)
                      have hc_or := hc_or.ca hF9 hA9 (show ¬ (((120 + lo9.length)) = 111 ∨ ((120 + lo9.length)) = 112) by omega)
                      have hO := fun j x (hj : lo9[j]? = some x) => (hO j x hj).ca hF9 hA9 (show ¬ ((120 + j) = 111 ∨ (120 + j) = 112) by have := (List.getElem?_eq_some_iff.mp hj).1; omega)
                      have hz9 := hF.1
                      have hF0 := hF.tr hA hF9 (fun q9 hq9 x9 => by have x8 : τ q9 = 111 ∨ τ q9 = 112 := x9; show 110 ≤ τ q9 ∧ τ q9 < 200; omega)
                      have hA := hA.tr hA9 hF.1
                      have hF := hF0
                      have hc_ol : b_tt G B0 τ12 H12 ro 111 (.inr (2, [.int (mo + 1), .ref q12, .int (nI 1)])) := hx0
                      have hc_arr12 : b_tt G B0 τ12 H12 q12 112 (.inl (G.2.1 2, q_refs 10 ((fun j => if j < 1 then some q10 else none)))) := hx1
                      have fr_arr12 : H.size ≤ q12 := Nat.le_trans hz9 hr0
                      have hc_ol : b_tt G B0 τ12 H12 ro 111 (.inr (2, [.int (mo + 1), .ref q12, .int (nI (lo9.length + 1))])) := hc_ol.cg (by rw [hl0] <;> rfl)
                      have hc_oa : b_tt G B0 τ12 H12 q12 112 (.inl (G.2.1 2, q_refs 10 (fun j => if j < lo9.length + 1 then some (if j = lo9.length then q10 else O j) else none))) := b_tt.cgr hc_arr12 (fun j hj => by show (if j < 1 then _ else _) = _; by_cases c9 : j < 1 <;> first | rw [if_pos c9, if_pos (by omega), if_pos (by omega)] | rw [if_neg c9, if_neg (by omega)])
                      have hRO : RO G B0 τ12 H12 ro (lo9 ++ [(sg, (t pp) - 48, (t (pp + 1 + 1)) - 48, (q_num t tn hi (tn - (pp + 1 + 1 + 1 + 1)) (pp + 1 + 1 + 1 + 1) 0).2)]) := RO.push (x := (sg, (t pp) - 48, (t (pp + 1 + 1)) - 48, (q_num t tn hi (tn - (pp + 1 + 1 + 1 + 1)) (pp + 1 + 1 + 1 + 1) 0).2)) hc_ol hc_oa hc_or hO
                      refine lv_pop hx hb dX20_rest_77 rfl ?_
                      refine lv_iload hx hb dX20_rest_78 (lv_at hl 0 rfl) ?_
                      refine lv_iconst (v := -1) hx hb dX20_rest_80 rfl ?_
                      refine lv_icmp_eq (tgt := 88) hx hb dX20_rest_81 (by decide) (fun c_81 => ?_) (fun c_81 => ?_)
                      · exact absurd c_81 (by exact nI_ne_m1 (by have := q_num_v (t := t) (n := tn) (hi := hi) (tn - (pp + 1 + 1 + 1 + 1)) (pp + 1 + 1 + 1 + 1) 0 (Nat.zero_le _); omega))
                      · refine lv_iconst (v := nI 1) hx hb dX20_rest_84 rfl ?_
                        refine lv_goto (tgt := 89) hx hb dX20_rest_85 (by decide) ?_
                        have hqr : q_rest t tn pp ha sep hcc hi = ((q_num t tn hi (tn - (pp + 1 + 1 + 1 + 1)) (pp + 1 + 1 + 1 + 1) 0).1, some ((t pp) - 48, (t (pp + 1 + 1)) - 48, (q_num t tn hi (tn - (pp + 1 + 1 + 1 + 1)) (pp + 1 + 1 + 1 + 1) 0).2)) := by
                          unfold q_rest
                          repeat (first | rw [if_pos (by assumption)] | rw [if_neg (by assumption)])
                        rw [← hQ]
                        exact b_zret CX hr hlk hS (Nat.le_of_ble_eq_true rfl) (Nat.le_of_ble_eq_true rfl) rfl dX20_rest_89 (⟨_, hA, hF, (by rw [hqr]; exact hc_rd), Or.inl ⟨_, congrArg Prod.snd hqr, rfl, hRO⟩⟩)
                    · have hc_oa := hso hso1
                      rw [hso1] at hc_ol
                      have hc_ol : b_tt G B0 ((upT τ q10 ((120 + lo9.length)))) H11 ro 111 (.inr (2, [.int mo, .ref ra, .int (nI lo9.length)])) := hc_ol
                      have hc_oa : b_tt G B0 ((upT τ q10 ((120 + lo9.length)))) H11 ra 112 (.inl (G.2.1 2, q_refs 10 ((fun j => if j < lo9.length then some (O j) else none)))) := hc_oa
                      have hO : ∀ j x, lo9[j]? = some x → b_tt G B0 ((upT τ q10 ((120 + lo9.length)))) H11 (O j) (120 + j) (.inr (7, [.int (nI x.1), .int (nI x.2.1), .int (nI x.2.2.1), .int (nI x.2.2.2)])) := hO
                      refine b_ci (cs_X20_63 (rest := []) CX hl.1 (m_J2_add_d l (a := ro) (ta := 111) (mc := mo) (ra := ra) (tr := 112) (f := O) (n := lo9.length) (v := q10) (tv := (120 + lo9.length)) (ci := 7) (fs := [.int ((nI sg)), .int ((nI ((t pp) - 48))), .int ((nI ((t (pp + 1 + 1)) - 48))), .int ((nI ((q_num t tn hi (tn - (pp + 1 + 1 + 1 + 1)) (pp + 1 + 1 + 1 + 1) 0).2)))]) hc_ol hc_oa hc_or ⟨_, rfl, q2256⟩ (by omega) (by omega) (by omega) (by omega)) rfl rfl rfl hc_ol.at hS rfl ⟨rfl, rfl, Nat.le_of_ble_eq_true rfl, Nat.le_of_ble_eq_true rfl⟩ (Nat.le_of_ble_eq_true rfl) dX20_rest_74 ⟨Nat.le_of_ble_eq_true rfl, Nat.le_of_ble_eq_true rfl⟩) hS (fun r H13 locs hp hS => ?_)
                      obtain ⟨rfl, hF9, hx0, hx1⟩ := hp
                      have hc_rd := hc_rd.fr hF9 (show ¬ (110 = 111 ∨ 110 = 112) by omega)
                      have hc_X := hc_X.fr hF9 (show ¬ (0 = 111 ∨ 0 = 112) by omega)
                      have hc_tx := hc_tx.fr hF9 (show ¬ (3 = 111 ∨ 3 = 112) by omega)
                      have hc_tb := hc_tb.fr hF9 (show ¬ (4 = 111 ∨ 4 = 112) by omega)
                      have hc_or := hc_or.fr hF9 (show ¬ (((120 + lo9.length)) = 111 ∨ ((120 + lo9.length)) = 112) by omega)
                      have hO := fun j x (hj : lo9[j]? = some x) => (hO j x hj).fr hF9 (show ¬ ((120 + j) = 111 ∨ (120 + j) = 112) by have := (List.getElem?_eq_some_iff.mp hj).1; omega)
                      have hz9 := hF.1
                      have hF0 := hF.tr hA hF9 (fun q9 hq9 x9 => by have x8 : τ q9 = 111 ∨ τ q9 = 112 := x9; show 110 ≤ τ q9 ∧ τ q9 < 200; omega)
                      have hF := hF0
                      have hc_ol : b_tt G B0 ((upT τ q10 ((120 + lo9.length)))) H13 ro 111 (.inr (2, [.int (mo + 1), .ref ra, .int (nI (lo9.length + 1))])) := hx0
                      have hc_oa : b_tt G B0 ((upT τ q10 ((120 + lo9.length)))) H13 ra 112 (.inl (G.2.1 2, q_refs 10 ((fun j => if j < lo9.length + 1 then some (if j = lo9.length then q10 else O j) else none)))) := hx1
                      have hc_ol : b_tt G B0 (upT τ q10 ((120 + lo9.length))) H13 ro 111 (.inr (2, [.int (mo + 1), .ref ra, .int (nI (lo9.length + 1))])) := hc_ol
                      have hc_oa : b_tt G B0 (upT τ q10 ((120 + lo9.length))) H13 ra 112 (.inl (G.2.1 2, q_refs 10 (fun j => if j < lo9.length + 1 then some (if j = lo9.length then q10 else O j) else none))) := hc_oa
                      have hRO : RO G B0 (upT τ q10 ((120 + lo9.length))) H13 ro (lo9 ++ [(sg, (t pp) - 48, (t (pp + 1 + 1)) - 48, (q_num t tn hi (tn - (pp + 1 + 1 + 1 + 1)) (pp + 1 + 1 + 1 + 1) 0).2)]) := RO.push (x := (sg, (t pp) - 48, (t (pp + 1 + 1)) - 48, (q_num t tn hi (tn - (pp + 1 + 1 + 1 + 1)) (pp + 1 + 1 + 1 + 1) 0).2)) hc_ol hc_oa hc_or hO
                      refine lv_pop hx hb dX20_rest_77 rfl ?_
                      refine lv_iload hx hb dX20_rest_78 (lv_at hl 0 rfl) ?_
                      refine lv_iconst (v := -1) hx hb dX20_rest_80 rfl ?_
                      refine lv_icmp_eq (tgt := 88) hx hb dX20_rest_81 (by decide) (fun c_81 => ?_) (fun c_81 => ?_)
                      · exact absurd c_81 (by exact nI_ne_m1 (by have := q_num_v (t := t) (n := tn) (hi := hi) (tn - (pp + 1 + 1 + 1 + 1)) (pp + 1 + 1 + 1 + 1) 0 (Nat.zero_le _); omega))
                      · refine lv_iconst (v := nI 1) hx hb dX20_rest_84 rfl ?_
                        refine lv_goto (tgt := 89) hx hb dX20_rest_85 (by decide) ?_
                        have hqr : q_rest t tn pp ha sep hcc hi = ((q_num t tn hi (tn - (pp + 1 + 1 + 1 + 1)) (pp + 1 + 1 + 1 + 1) 0).1, some ((t pp) - 48, (t (pp + 1 + 1)) - 48, (q_num t tn hi (tn - (pp + 1 + 1 + 1 + 1)) (pp + 1 + 1 + 1 + 1) 0).2)) := by
                          unfold q_rest
                          repeat (first | rw [if_pos (by assumption)] | rw [if_neg (by assumption)])
                        rw [← hQ]
                        exact b_zret CX hr hlk hS (Nat.le_of_ble_eq_true rfl) (Nat.le_of_ble_eq_true rfl) rfl dX20_rest_89 (⟨_, hA, hF, (by rw [hqr]; exact hc_rd), Or.inl ⟨_, congrArg Prod.snd hqr, rfl, hRO⟩⟩)
                · exact absurd c_43 (by decide)
              · refine b_top (x := bI ((pp + 1 + 1 + 1) < tn ∧ t (pp + 1 + 1 + 1) = 42)) (y := nI 0) (bI_f cq_40) ?_
                have hc_rd : b_tt G B0 τ H4 rr 110 (.inr (6, [.ref ro, .int (nI (pp + 1 + 1 + 1)), .ref a])) := hc_rd.cg (by rw [if_neg cq_40] <;> rfl)
                refine lv_if_ne (tgt := 48) hx hb dX20_rest_43 (by decide) (fun c_43 => ?_) (fun c_43 => ?_)
                · exact absurd c_43 (by decide)
                · refine lv_iconst (v := nI 0) hx hb dX20_rest_46 rfl ?_
                  have hqr : q_rest t tn pp ha sep hcc hi = (pp + 1 + 1 + 1, none) := by
                    unfold q_rest
                    repeat (first | rw [if_pos (by assumption)] | rw [if_neg (by assumption)])
                  rw [← hQ]
                  exact b_zret CX hr hlk hS (Nat.le_of_ble_eq_true rfl) (Nat.le_of_ble_eq_true rfl) rfl dX20_rest_47 (⟨_, hA, hF, (by rw [hqr]; exact hc_rd), Or.inr ⟨congrArg Prod.snd hqr, rfl⟩⟩)
          · refine b_top (x := (if (pp + 1 + 1) < tn ∧ 48 ≤ t (pp + 1 + 1) ∧ t (pp + 1 + 1) ≤ 48 + hcc then nI (t (pp + 1 + 1) - 48) else -1)) (y := -1) (if_neg cq_26) ?_
            have hc_rd : b_tt G B0 τ H3 rr 110 (.inr (6, [.ref ro, .int (nI (pp + 1 + 1)), .ref a])) := hc_rd.cg (by rw [if_neg cq_26] <;> rfl)
            refine lv_istore (lv' := [(7, .int (-1)), (6, .int (nI ((t pp) - 48))), (0, .ref rr), (1, .int (nI sg)), (2, .int (nI ha)), (3, .int (nI sep)), (4, .int (nI hcc)), (5, .int (nI hi))]) hx hb dX20_rest_29 hl (Nat.le_of_ble_eq_true rfl) rfl (fun ls hl => ?_)
            refine lv_iload hx hb dX20_rest_31 (lv_at hl 0 rfl) ?_
            refine lv_iconst (v := -1) hx hb dX20_rest_33 rfl ?_
            refine lv_icmp_eq (tgt := 46) hx hb dX20_rest_34 (by decide) (fun c_34 => ?_) (fun c_34 => ?_)
            · refine lv_iconst (v := nI 0) hx hb dX20_rest_46 rfl ?_
              have hqr : q_rest t tn pp ha sep hcc hi = (pp + 1 + 1, none) := by
                unfold q_rest
                repeat (first | rw [if_pos (by assumption)] | rw [if_neg (by assumption)])
              rw [← hQ]
              exact b_zret CX hr hlk hS (Nat.le_of_ble_eq_true rfl) (Nat.le_of_ble_eq_true rfl) rfl dX20_rest_47 (⟨_, hA, hF, (by rw [hqr]; exact hc_rd), Or.inr ⟨congrArg Prod.snd hqr, rfl⟩⟩)
            · exfalso; exact c_34 rfl
        · exact absurd c_18 (by decide)
      · refine b_top (x := bI ((pp + 1) < tn ∧ t (pp + 1) = sep)) (y := nI 0) (bI_f cq_15) ?_
        have hc_rd : b_tt G B0 τ H2 rr 110 (.inr (6, [.ref ro, .int (nI (pp + 1)), .ref a])) := hc_rd.cg (by rw [if_neg cq_15] <;> rfl)
        refine lv_if_ne (tgt := 23) hx hb dX20_rest_18 (by decide) (fun c_18 => ?_) (fun c_18 => ?_)
        · exact absurd c_18 (by decide)
        · refine lv_iconst (v := nI 0) hx hb dX20_rest_21 rfl ?_
          have hqr : q_rest t tn pp ha sep hcc hi = (pp + 1, none) := by
            unfold q_rest
            repeat (first | rw [if_pos (by assumption)] | rw [if_neg (by assumption)])
          rw [← hQ]
          exact b_zret CX hr hlk hS (Nat.le_of_ble_eq_true rfl) (Nat.le_of_ble_eq_true rfl) rfl dX20_rest_22 (⟨_, hA, hF, (by rw [hqr]; exact hc_rd), Or.inr ⟨congrArg Prod.snd hqr, rfl⟩⟩)
  · refine b_top (x := (if pp < tn ∧ 48 ≤ t pp ∧ t pp ≤ 48 + ha then nI (t pp - 48) else -1)) (y := -1) (if_neg cq_2) ?_
    have hc_rd : b_tt G B0 τ H1 rr 110 (.inr (6, [.ref ro, .int (nI pp), .ref a])) := hc_rd.cg (by rw [if_neg cq_2] <;> rfl)
    refine lv_istore (lv' := [(6, .int (-1)), (0, .ref rr), (1, .int (nI sg)), (2, .int (nI ha)), (3, .int (nI sep)), (4, .int (nI hcc)), (5, .int (nI hi))]) hx hb dX20_rest_5 hl (Nat.le_of_ble_eq_true rfl) rfl (fun ls hl => ?_)
    refine lv_iload hx hb dX20_rest_7 (lv_at hl 0 rfl) ?_
    refine lv_iconst (v := -1) hx hb dX20_rest_9 rfl ?_
    refine lv_icmp_eq (tgt := 21) hx hb dX20_rest_10 (by decide) (fun c_10 => ?_) (fun c_10 => ?_)
    · refine lv_iconst (v := nI 0) hx hb dX20_rest_21 rfl ?_
      have hqr : q_rest t tn pp ha sep hcc hi = (pp, none) := by
        unfold q_rest
        repeat (first | rw [if_pos (by assumption)] | rw [if_neg (by assumption)])
      rw [← hQ]
      exact b_zret CX hr hlk hS (Nat.le_of_ble_eq_true rfl) (Nat.le_of_ble_eq_true rfl) rfl dX20_rest_22 (⟨_, hA, hF, (by rw [hqr]; exact hc_rd), Or.inr ⟨congrArg Prod.snd hqr, rfl⟩⟩)
    · exfalso; exact c_10 rfl
