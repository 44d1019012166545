/-! why an order was refused; an order carried out -/
set_option maxRecDepth 100000
section GC2
variable {p : Program} {l : Launch} {e : Env} {R : Room} {s : State} {m : MethodId} {args : Array Value} {below : List Frame} {meth : Method} {c : Code} {H : Heap} {locs : List Loc} {cells slots nL pc a q : Nat} {Q : State → Prop} {cc : ByteArray} {ls : Array Slot} {rest : List Value} {G : b_G} {B0 : Nat}
theorem b_gcN (CX : b_Cx p s m args c cc nL RX22 G B0) (hls : ls.size = nL) {c1 c2 c3 c4 c5 : Value} (hat : b_at G a (.inr (21, [.null, c1, c2, c3, c4, c5])) H) (hmo : b_fm H a)
    (hR : 1 ≤ R.frames ∧ 8 + (1 + 2 + 11) ≤ R.locals) (hw : (rest.map fun v => v.category).sum ≤ 8) (hdg : decode cc pc = .ok (.invokevirtual 9, 3)) (hS : va_S (b_A B0) s.heap H locs)
    (kk : ∀ locs1 : List Loc, va_S (b_A B0) s.heap H locs1 → W p l e R s m args below meth c H locs1 cells slots Q (F0 m (pc + 3) ls (.null :: rest))) : W p l e R s m args below meth c H locs cells slots Q (F0 m pc ls (.ref a :: rest)) :=
  b_cq (b_runGC CX hls (o := none) hat hmo (by intro h9; cases h9) hR hw hdg) hS (fun r H1 locs1 hp hS1 => by
    obtain ⟨rfl, rfl⟩ := hp
    exact kk locs1 hS1)
theorem b_gcR (CX : b_Cx p s m args c cc nL RX22 G B0) (hls : ls.size = nL) {c1 c2 c3 c4 c5 : Value} (hne : ¬ q = a) (hat : b_at G a (.inr (21, [.ref q, c1, c2, c3, c4, c5])) H) (hmo : b_fm H a)
    (hR : 1 ≤ R.frames ∧ 8 + (1 + 2 + 11) ≤ R.locals) (hw : (rest.map fun v => v.category).sum ≤ 8) (hdg : decode cc pc = .ok (.invokevirtual 9, 3)) (hS : va_S (b_A B0) s.heap H locs)
    (kk : ∀ locs1 : List Loc, va_S (b_A B0) s.heap H locs1 → W p l e R s m args below meth c H locs1 cells slots Q (F0 m (pc + 3) ls (.ref q :: rest))) : W p l e R s m args below meth c H locs cells slots Q (F0 m pc ls (.ref a :: rest)) :=
  b_cq (b_runGC CX hls (o := some q) hat hmo (fun h9 => hne (Option.some.inj h9)) hR hw hdg) hS (fun r H1 locs1 hp hS1 => by
    obtain ⟨rfl, rfl⟩ := hp
    exact kk locs1 hS1)
end GC2
set_option maxHeartbeats 2000000 in
set_option maxRecDepth 100000 in
theorem m_X22_number_n (l : Launch) {G : b_G} {B0 : Nat} {H : Heap} {τ : b_T} {a : Nat} {ta : Nat} (hc_th : b_tt G B0 τ H a (ta) (.inr (21, [.null, .null, .null, .null, .null, .int (nI 0)]))) (hmo : b_fm H a) : Met l yX22_number (ws_ yX22_number cX22_number 1 (Option.some Jvm.ClassFile.FieldType.int)) ({ frames := 1, cells := 0, slots := 0, locals := 22 } : Room) (b_Pc G B0 H [.ref a]) (b_Qi B0 (fun r H1 => r = nI 4 ∧ H1 = H)) 0 0 (b_A B0) := by
  refine b_of (by decide) (Nat.le_of_ble_eq_true rfl) ?_
  intro p e s m below meth c CX hr hlk hnm hS ls hl
  have CX : b_Cx p s m _ c cX22_number 1 RX22 G B0 := CX
  have hx := CX.hx
  have hb := CX.hb
  have hl : lv_has ls 1 [(0, .ref a)] := hl
  generalize hQ : MQ below (b_Qi B0 (fun r H1 => r = nI 4 ∧ H1 = H)) ([.ref a] : List Value).toArray s 0 0 (b_A B0) = Q
  refine lv_aload_n hx hb dX22_number_0 rfl (lv_at hl 0 rfl) ?_
  refine b_gcN CX hl.1 (rest := []) hc_th.at hmo ⟨Nat.le_of_ble_eq_true rfl, Nat.le_of_ble_eq_true rfl⟩ (Nat.le_of_ble_eq_true rfl) dX22_number_1 hS (fun locs hS => ?_)
  refine lv_ifnonnullN hx hb dX22_number_4 ?_
  refine lv_iconst (v := nI 4) hx hb dX22_number_7 rfl ?_
  refine lv_goto (tgt := 21) hx hb dX22_number_8 (by decide) ?_
  rw [← hQ]
  exact b_iret CX hr hlk hS (Nat.le_of_ble_eq_true rfl) (Nat.le_of_ble_eq_true rfl) dX22_number_21 (⟨rfl, rfl⟩)
theorem cs_X22_17_18 {p : Program} {l : Launch} {e : Env} {R : Room} {s : State} {m : MethodId} {args : Array Value} {below : List Frame} {meth : Method} {c : Code} {H : Heap} {locs : List Loc} {cells slots : Nat} {cc : ByteArray} {pc nL a : Nat} {ls : Array Slot} {rest : List Value} {G : b_G} {B0 : Nat} (CX : b_Cx p s m args c cc nL RX22 G B0) (hls : ls.size = nL) {rm : Room} {mc ms : Nat} {As st0 : List Value} {Qc : Array Value → State → Outcome → State → Prop} (hM : Met l yX9_number (ws_ yX9_number cX9_number 1 (Option.some Jvm.ClassFile.FieldType.int)) rm (b_Pc G B0 H (.ref a :: As)) Qc mc ms (b_A B0)) (hn : As.length = 0) {fs : List Value} (hP : b_at G a (.inr (18, fs)) H) (hS : va_S (b_A B0) s.heap H locs) (hst : st0 = As.reverse ++ .ref a :: rest) (hr : rm.cells = mc ∧ rm.slots = ms ∧ rm.frames + 1 ≤ R.frames ∧ 8 + (1 + 11) + rm.locals ≤ R.locals) (hw : (rest.map fun v => v.category).sum ≤ 8) (hdg : decode cc pc = .ok (.invokevirtual 17, 3)) (hf : cells + mc ≤ R.cells ∧ slots + ms ≤ R.slots) : va_Run p l e R s m args below meth c H locs cells slots mc ms (F0 m pc ls st0) rest (Qc (Value.ref a :: As).toArray) (b_A B0) := va_runU CX.fix hM (va_cwA (C := RX9) (owner := RX8) 0 CX.ts (lw_U q1757 q1351 q1352 q1353 q107 q1354) rfl hr.1 hr.2.1 (CX.K.2.1 _ q1350 rfl) ⟨by decide, by decide, by decide +kernel⟩ ⟨hr.2.2.1, hr.2.2.2⟩) ⟨b_blind G B0 H _, b_recv CX.K (ci := 18) rfl hP, b_pre _ CX.K hS⟩ rfl hn hls hst (lv_room hw) hdg hf
set_option maxHeartbeats 2000000 in
set_option maxRecDepth 100000 in
theorem m_X22_number_1 (l : Launch) {G : b_G} {B0 : Nat} {H : Heap} {τ : b_T} {a : Nat} {ta : Nat} {qa : Nat} {tq : Nat} (hc_th : b_tt G B0 τ H a (ta) (.inr (21, [.ref qa, .null, .null, .null, .null, .int (nI 0)]))) (hc_ca : b_tt G B0 τ H qa (tq) (.inr (18, [.null, .null, .null, .null, .null, .int (nI 0)]))) (hmo : b_fm H a) (hne : ¬ qa = a) : Met l yX22_number (ws_ yX22_number cX22_number 1 (Option.some Jvm.ClassFile.FieldType.int)) ({ frames := 1, cells := 0, slots := 0, locals := 22 } : Room) (b_Pc G B0 H [.ref a]) (b_Qi B0 (fun r H1 => r = nI 1 ∧ H1 = H)) 0 0 (b_A B0) := by
  refine b_of (by decide) (Nat.le_of_ble_eq_true rfl) ?_
  intro p e s m below meth c CX hr hlk hnm hS ls hl
  have CX : b_Cx p s m _ c cX22_number 1 RX22 G B0 := CX
  have hx := CX.hx
  have hb := CX.hb
  have hl : lv_has ls 1 [(0, .ref a)] := hl
  generalize hQ : MQ below (b_Qi B0 (fun r H1 => r = nI 1 ∧ H1 = H)) ([.ref a] : List Value).toArray s 0 0 (b_A B0) = Q
  refine lv_aload_n hx hb dX22_number_0 rfl (lv_at hl 0 rfl) ?_
  refine b_gcR CX hl.1 (rest := []) hne hc_th.at hmo ⟨Nat.le_of_ble_eq_true rfl, Nat.le_of_ble_eq_true rfl⟩ (Nat.le_of_ble_eq_true rfl) dX22_number_1 hS (fun locs hS => ?_)
  refine lv_ifnonnull (tgt := 11) hx hb dX22_number_4 (by decide) ?_
  refine lv_aload_n hx hb dX22_number_11 rfl (lv_at hl 0 rfl) ?_
  refine b_gcR CX hl.1 (rest := []) hne hc_th.at hmo ⟨Nat.le_of_ble_eq_true rfl, Nat.le_of_ble_eq_true rfl⟩ (Nat.le_of_ble_eq_true rfl) dX22_number_12 hS (fun locs hS => ?_)
  refine va_castY (C := RX9) CX.hx CX.hb CX.ow (CX.ts _ q1756) (CX.K.2.1 _ q2227 rfl) (b_recv CX.K (ci := 18) rfl hc_ca.at) dX22_number_15 ?_
  refine b_ci0 (cs_X22_17_18 (rest := []) CX hl.1 (m_X9_number l (a := qa) (ta := tq) hc_ca) rfl hc_ca.at hS rfl ⟨rfl, rfl, Nat.le_of_ble_eq_true rfl, Nat.le_of_ble_eq_true rfl⟩ (Nat.le_of_ble_eq_true rfl) dX22_number_18 ⟨Nat.le_of_ble_eq_true rfl, Nat.le_of_ble_eq_true rfl⟩) hS (fun locs hS => ?_)
  rw [← hQ]
  exact b_iret CX hr hlk hS (Nat.le_of_ble_eq_true rfl) (Nat.le_of_ble_eq_true rfl) dX22_number_21 (⟨rfl, rfl⟩)
theorem cs_X22_17_19 {p : Program} {l : Launch} {e : Env} {R : Room} {s : State} {m : MethodId} {args : Array Value} {below : List Frame} {meth : Method} {c : Code} {H : Heap} {locs : List Loc} {cells slots : Nat} {cc : ByteArray} {pc nL a : Nat} {ls : Array Slot} {rest : List Value} {G : b_G} {B0 : Nat} (CX : b_Cx p s m args c cc nL RX22 G B0) (hls : ls.size = nL) {rm : Room} {mc ms : Nat} {As st0 : List Value} {Qc : Array Value → State → Outcome → State → Prop} (hM : Met l yX10_number (ws_ yX10_number cX10_number 1 (Option.some Jvm.ClassFile.FieldType.int)) rm (b_Pc G B0 H (.ref a :: As)) Qc mc ms (b_A B0)) (hn : As.length = 0) {fs : List Value} (hP : b_at G a (.inr (19, fs)) H) (hS : va_S (b_A B0) s.heap H locs) (hst : st0 = As.reverse ++ .ref a :: rest) (hr : rm.cells = mc ∧ rm.slots = ms ∧ rm.frames + 1 ≤ R.frames ∧ 8 + (1 + 11) + rm.locals ≤ R.locals) (hw : (rest.map fun v => v.category).sum ≤ 8) (hdg : decode cc pc = .ok (.invokevirtual 17, 3)) (hf : cells + mc ≤ R.cells ∧ slots + ms ≤ R.slots) : va_Run p l e R s m args below meth c H locs cells slots mc ms (F0 m pc ls st0) rest (Qc (Value.ref a :: As).toArray) (b_A B0) := va_runU CX.fix hM (va_cwA (C := RX10) (owner := RX8) 0 CX.ts (lw_U q1757 q1351 q1355 q1356 q108 q1357) rfl hr.1 hr.2.1 (CX.K.2.1 _ q1350 rfl) ⟨by decide, by decide, by decide +kernel⟩ ⟨hr.2.2.1, hr.2.2.2⟩) ⟨b_blind G B0 H _, b_recv CX.K (ci := 19) rfl hP, b_pre _ CX.K hS⟩ rfl hn hls hst (lv_room hw) hdg hf
set_option maxHeartbeats 2000000 in
set_option maxRecDepth 100000 in
theorem m_X22_number_2 (l : Launch) {G : b_G} {B0 : Nat} {H : Heap} {τ : b_T} {a : Nat} {ta : Nat} {qa : Nat} {tq : Nat} (hc_th : b_tt G B0 τ H a (ta) (.inr (21, [.ref qa, .null, .null, .null, .null, .int (nI 0)]))) (hc_ca : b_tt G B0 τ H qa (tq) (.inr (19, [.null, .null, .null, .null, .null, .int (nI 0)]))) (hmo : b_fm H a) (hne : ¬ qa = a) : Met l yX22_number (ws_ yX22_number cX22_number 1 (Option.some Jvm.ClassFile.FieldType.int)) ({ frames := 1, cells := 0, slots := 0, locals := 22 } : Room) (b_Pc G B0 H [.ref a]) (b_Qi B0 (fun r H1 => r = nI 2 ∧ H1 = H)) 0 0 (b_A B0) := by
  refine b_of (by decide) (Nat.le_of_ble_eq_true rfl) ?_
  intro p e s m below meth c CX hr hlk hnm hS ls hl
  have CX : b_Cx p s m _ c cX22_number 1 RX22 G B0 := CX
  have hx := CX.hx
  have hb := CX.hb
  have hl : lv_has ls 1 [(0, .ref a)] := hl
  generalize hQ : MQ below (b_Qi B0 (fun r H1 => r = nI 2 ∧ H1 = H)) ([.ref a] : List Value).toArray s 0 0 (b_A B0) = Q
  refine lv_aload_n hx hb dX22_number_0 rfl (lv_at hl 0 rfl) ?_
  refine b_gcR CX hl.1 (rest := []) hne hc_th.at hmo ⟨Nat.le_of_ble_eq_true rfl, Nat.le_of_ble_eq_true rfl⟩ (Nat.le_of_ble_eq_true rfl) dX22_number_1 hS (fun locs hS => ?_)
  refine lv_ifnonnull (tgt := 11) hx hb dX22_number_4 (by decide) ?_
  refine lv_aload_n hx hb dX22_number_11 rfl (lv_at hl 0 rfl) ?_
  refine b_gcR CX hl.1 (rest := []) hne hc_th.at hmo ⟨Nat.le_of_ble_eq_true rfl, Nat.le_of_ble_eq_true rfl⟩ (Nat.le_of_ble_eq_true rfl) dX22_number_12 hS (fun locs hS => ?_)
  refine va_castY (C := RX10) CX.hx CX.hb CX.ow (CX.ts _ q1756) (CX.K.2.1 _ q2228 rfl) (b_recv CX.K (ci := 19) rfl hc_ca.at) dX22_number_15 ?_
  refine b_ci0 (cs_X22_17_19 (rest := []) CX hl.1 (m_X10_number l (a := qa) (ta := tq) hc_ca) rfl hc_ca.at hS rfl ⟨rfl, rfl, Nat.le_of_ble_eq_true rfl, Nat.le_of_ble_eq_true rfl⟩ (Nat.le_of_ble_eq_true rfl) dX22_number_18 ⟨Nat.le_of_ble_eq_true rfl, Nat.le_of_ble_eq_true rfl⟩) hS (fun locs hS => ?_)
  rw [← hQ]
  exact b_iret CX hr hlk hS (Nat.le_of_ble_eq_true rfl) (Nat.le_of_ble_eq_true rfl) dX22_number_21 (⟨rfl, rfl⟩)
theorem cs_X22_17_20 {p : Program} {l : Launch} {e : Env} {R : Room} {s : State} {m : MethodId} {args : Array Value} {below : List Frame} {meth : Method} {c : Code} {H : Heap} {locs : List Loc} {cells slots : Nat} {cc : ByteArray} {pc nL a : Nat} {ls : Array Slot} {rest : List Value} {G : b_G} {B0 : Nat} (CX : b_Cx p s m args c cc nL RX22 G B0) (hls : ls.size = nL) {rm : Room} {mc ms : Nat} {As st0 : List Value} {Qc : Array Value → State → Outcome → State → Prop} (hM : Met l yX11_number (ws_ yX11_number cX11_number 1 (Option.some Jvm.ClassFile.FieldType.int)) rm (b_Pc G B0 H (.ref a :: As)) Qc mc ms (b_A B0)) (hn : As.length = 0) {fs : List Value} (hP : b_at G a (.inr (20, fs)) H) (hS : va_S (b_A B0) s.heap H locs) (hst : st0 = As.reverse ++ .ref a :: rest) (hr : rm.cells = mc ∧ rm.slots = ms ∧ rm.frames + 1 ≤ R.frames ∧ 8 + (1 + 11) + rm.locals ≤ R.locals) (hw : (rest.map fun v => v.category).sum ≤ 8) (hdg : decode cc pc = .ok (.invokevirtual 17, 3)) (hf : cells + mc ≤ R.cells ∧ slots + ms ≤ R.slots) : va_Run p l e R s m args below meth c H locs cells slots mc ms (F0 m pc ls st0) rest (Qc (Value.ref a :: As).toArray) (b_A B0) := va_runU CX.fix hM (va_cwA (C := RX11) (owner := RX8) 0 CX.ts (lw_U q1757 q1351 q1358 q1359 q109 q1360) rfl hr.1 hr.2.1 (CX.K.2.1 _ q1350 rfl) ⟨by decide, by decide, by decide +kernel⟩ ⟨hr.2.2.1, hr.2.2.2⟩) ⟨b_blind G B0 H _, b_recv CX.K (ci := 20) rfl hP, b_pre _ CX.K hS⟩ rfl hn hls hst (lv_room hw) hdg hf
set_option maxHeartbeats 2000000 in
set_option maxRecDepth 100000 in
theorem m_X22_number_3 (l : Launch) {G : b_G} {B0 : Nat} {H : Heap} {τ : b_T} {a : Nat} {ta : Nat} {qa : Nat} {tq : Nat} (hc_th : b_tt G B0 τ H a (ta) (.inr (21, [.ref qa, .null, .null, .null, .null, .int (nI 0)]))) (hc_ca : b_tt G B0 τ H qa (tq) (.inr (20, [.null, .null, .null, .null, .null, .int (nI 0)]))) (hmo : b_fm H a) (hne : ¬ qa = a) : Met l yX22_number (ws_ yX22_number cX22_number 1 (Option.some Jvm.ClassFile.FieldType.int)) ({ frames := 1, cells := 0, slots := 0, locals := 22 } : Room) (b_Pc G B0 H [.ref a]) (b_Qi B0 (fun r H1 => r = nI 3 ∧ H1 = H)) 0 0 (b_A B0) := by
  refine b_of (by decide) (Nat.le_of_ble_eq_true rfl) ?_
  intro p e s m below meth c CX hr hlk hnm hS ls hl
  have CX : b_Cx p s m _ c cX22_number 1 RX22 G B0 := CX
  have hx := CX.hx
  have hb := CX.hb
  have hl : lv_has ls 1 [(0, .ref a)] := hl
  generalize hQ : MQ below (b_Qi B0 (fun r H1 => r = nI 3 ∧ H1 = H)) ([.ref a] : List Value).toArray s 0 0 (b_A B0) = Q
  refine lv_aload_n hx hb dX22_number_0 rfl (lv_at hl 0 rfl) ?_
  refine b_gcR CX hl.1 (rest := []) hne hc_th.at hmo ⟨Nat.le_of_ble_eq_true rfl, Nat.le_of_ble_eq_true rfl⟩ (Nat.le_of_ble_eq_true rfl) dX22_number_1 hS (fun locs hS => ?_)
  refine lv_ifnonnull (tgt := 11) hx hb dX22_number_4 (by decide) ?_
  refine lv_aload_n hx hb dX22_number_11 rfl (lv_at hl 0 rfl) ?_
  refine b_gcR CX hl.1 (rest := []) hne hc_th.at hmo ⟨Nat.le_of_ble_eq_true rfl, Nat.le_of_ble_eq_true rfl⟩ (Nat.le_of_ble_eq_true rfl) dX22_number_12 hS (fun locs hS => ?_)
  refine va_castY (C := RX11) CX.hx CX.hb CX.ow (CX.ts _ q1756) (CX.K.2.1 _ q2229 rfl) (b_recv CX.K (ci := 20) rfl hc_ca.at) dX22_number_15 ?_
  refine b_ci0 (cs_X22_17_20 (rest := []) CX hl.1 (m_X11_number l (a := qa) (ta := tq) hc_ca) rfl hc_ca.at hS rfl ⟨rfl, rfl, Nat.le_of_ble_eq_true rfl, Nat.le_of_ble_eq_true rfl⟩ (Nat.le_of_ble_eq_true rfl) dX22_number_18 ⟨Nat.le_of_ble_eq_true rfl, Nat.le_of_ble_eq_true rfl⟩) hS (fun locs hS => ?_)
  rw [← hQ]
  exact b_iret CX hr hlk hS (Nat.le_of_ble_eq_true rfl) (Nat.le_of_ble_eq_true rfl) dX22_number_21 (⟨rfl, rfl⟩)
theorem gf_X1_225_7 {p : Program} {l : Launch} {e : Env} {R : Room} {s : State} {m : MethodId} {args : Array Value} {below : List Frame} {meth : Method} {c : Code} {H : Heap} {locs : List Loc} {cells slots : Nat} {Q : State → Prop} {cc : ByteArray} {pc nL a : Nat} {ls : Array Slot} {rest : List Value} {G : b_G} {B0 : Nat} (CX : b_Cx p s m args c cc nL RX1 G B0) {fs : List Value} (hP : b_at G a (.inr (7, fs)) H) {v : Value} (hv : fs[0]? = some v) (hdg : decode cc pc = .ok (.getfield 225, 3)) (kk : W p l e R s m args below meth c H locs cells slots Q (F0 m (pc + 3) ls (v :: rest))) : W p l e R s m args below meth c H locs cells slots Q (F0 m pc ls (.ref a :: rest)) := b_getN CX in_X21 rfl 0 (by decide) q707 (Or.inl rfl) hP hv hdg kk
theorem gf_X1_230_7 {p : Program} {l : Launch} {e : Env} {R : Room} {s : State} {m : MethodId} {args : Array Value} {below : List Frame} {meth : Method} {c : Code} {H : Heap} {locs : List Loc} {cells slots : Nat} {Q : State → Prop} {cc : ByteArray} {pc nL a : Nat} {ls : Array Slot} {rest : List Value} {G : b_G} {B0 : Nat} (CX : b_Cx p s m args c cc nL RX1 G B0) {fs : List Value} (hP : b_at G a (.inr (7, fs)) H) {v : Value} (hv : fs[2]? = some v) (hdg : decode cc pc = .ok (.getfield 230, 3)) (kk : W p l e R s m args below meth c H locs cells slots Q (F0 m (pc + 3) ls (v :: rest))) : W p l e R s m args below meth c H locs cells slots Q (F0 m pc ls (.ref a :: rest)) := b_getN CX in_X21 rfl 2 (by decide) q711 (Or.inl rfl) hP hv hdg kk
theorem cs_X1_238 {p : Program} {l : Launch} {e : Env} {R : Room} {s : State} {m : MethodId} {args : Array Value} {below : List Frame} {meth : Method} {c : Code} {H : Heap} {locs : List Loc} {cells slots : Nat} {cc : ByteArray} {pc nL a : Nat} {ls : Array Slot} {rest : List Value} {G : b_G} {B0 : Nat} (CX : b_Cx p s m args c cc nL RX1 G B0) (hls : ls.size = nL) {rm : Room} {mc ms : Nat} {As st0 : List Value} {Qc : Array Value → State → Outcome → State → Prop} (hM : Met l yX22_init (ws_ yX22_init cX22_init 2 (Option.none)) rm (b_Pc G B0 H (.ref a :: As)) Qc mc ms (b_A B0)) (hn : As.length = 1) (hS : va_S (b_A B0) s.heap H locs) (hst : st0 = As.reverse ++ .ref a :: rest) (hr : rm.cells = mc ∧ rm.slots = ms ∧ rm.frames + 1 ≤ R.frames ∧ 8 + (2 + 11) + rm.locals ≤ R.locals) (hw : (rest.map fun v => v.category).sum ≤ 8) (hdg : decode cc pc = .ok (.invokespecial 238, 3)) (hf : cells + mc ≤ R.cells ∧ slots + ms ≤ R.slots) : va_Run p l e R s m args below meth c H locs cells slots mc ms (F0 m pc ls st0) rest (Qc (Value.ref a :: As).toArray) (b_A B0) := va_runI CX.fix hM (cwI 1 CX.ts (lw_meth q1727) rfl hr.1 hr.2.1 (CX.ts _ q124) (CX.ts _ q1725) (CX.ts _ q1726) rfl (by decide +kernel) ⟨hr.2.2.1, hr.2.2.2⟩) ⟨b_blind G B0 H _, b_pre _ CX.K hS⟩ rfl hn hls hst (lv_room hw) hdg hf
theorem gf_X1_233_7 {p : Program} {l : Launch} {e : Env} {R : Room} {s : State} {m : MethodId} {args : Array Value} {below : List Frame} {meth : Method} {c : Code} {H : Heap} {locs : List Loc} {cells slots : Nat} {Q : State → Prop} {cc : ByteArray} {pc nL a : Nat} {ls : Array Slot} {rest : List Value} {G : b_G} {B0 : Nat} (CX : b_Cx p s m args c cc nL RX1 G B0) {fs : List Value} (hP : b_at G a (.inr (7, fs)) H) {v : Value} (hv : fs[1]? = some v) (hdg : decode cc pc = .ok (.getfield 233, 3)) (kk : W p l e R s m args below meth c H locs cells slots Q (F0 m (pc + 3) ls (v :: rest))) : W p l e R s m args below meth c H locs cells slots Q (F0 m pc ls (.ref a :: rest)) := b_getN CX in_X21 rfl 1 (by decide) q709 (Or.inl rfl) hP hv hdg kk
theorem gf_X1_241_7 {p : Program} {l : Launch} {e : Env} {R : Room} {s : State} {m : MethodId} {args : Array Value} {below : List Frame} {meth : Method} {c : Code} {H : Heap} {locs : List Loc} {cells slots : Nat} {Q : State → Prop} {cc : ByteArray} {pc nL a : Nat} {ls : Array Slot} {rest : List Value} {G : b_G} {B0 : Nat} (CX : b_Cx p s m args c cc nL RX1 G B0) {fs : List Value} (hP : b_at G a (.inr (7, fs)) H) {v : Value} (hv : fs[3]? = some v) (hdg : decode cc pc = .ok (.getfield 241, 3)) (kk : W p l e R s m args below meth c H locs cells slots Q (F0 m (pc + 3) ls (v :: rest))) : W p l e R s m args below meth c H locs cells slots Q (F0 m pc ls (.ref a :: rest)) := b_getN CX in_X21 rfl 3 (by decide) q713 (Or.inl rfl) hP hv hdg kk
theorem cx_X1_244_9 {p : Program} {l : Launch} {e : Env} {R : Room} {s : State} {m : MethodId} {args : Array Value} {below : List Frame} {meth : Method} {c : Code} {H : Heap} {locs : List Loc} {cells slots : Nat} {cc : ByteArray} {pc nL a : Nat} {ls : Array Slot} {rest : List Value} {G : b_G} {B0 : Nat} (CX : b_Cx p s m args c cc nL RX1 G B0) (hls : ls.size = nL) {rm : Room} {mc ms : Nat} {As st0 : List Value} {Qc : Array Value → State → Outcome → State → Prop} {XC : String → Addr → State → State → Prop} (hM : vx_Met l yX6_order (wsW_ yX6_order cX6_order 2 (Option.none) [((0 : Nat), (4 : Nat), (7 : Nat), (25 : Nat))]) rm (b_Pc G B0 H (.ref a :: As)) Qc XC mc ms (b_A B0)) (hn : As.length = 0) {fs : List Value} (hP : b_at G a (.inr (9, fs)) H) (hS : va_S (b_A B0) s.heap H locs) (hst : st0 = As.reverse ++ .ref a :: rest) (hr : rm.cells = mc ∧ rm.slots = ms ∧ rm.frames + 1 ≤ R.frames ∧ 8 + (2 + 11) + rm.locals ≤ R.locals) (hw : (rest.map fun v => v.category).sum ≤ 8) (hdg : decode cc pc = .ok (.invokevirtual 244, 3)) (hf : cells + mc ≤ R.cells ∧ slots + ms ≤ R.slots) : vx_Run p l e R s m args below meth c H locs cells slots mc ms (F0 m pc ls st0) rest (Qc (Value.ref a :: As).toArray) XC (b_A B0) := vx_runVX (C := RX12) CX.fix hM (b_cwVC 0 CX.ts q1731 q1732 q1734 q104 q1743 hr.1 hr.2.1 ⟨by decide, by decide, by decide +kernel⟩ ⟨hr.2.2.1, hr.2.2.2⟩) ⟨b_blind G B0 H _, b_recv CX.K (ci := 9) rfl hP, b_pre _ CX.K hS⟩ rfl hn hls hst (lv_room hw) hdg hf
set_option maxHeartbeats 2000000 in
set_option maxRecDepth 100000 in
theorem m_X1_carryOut_100 (l : Launch) {G : b_G} {B0 : Nat} {H : Heap} {τ : b_T} {A : Nat → Nat} {S : b_St} {n : Nat} {L : Nat → b_St} {tn : Nat} {t : Nat → Nat} {ao : Nat} {to : Nat} {oa : Nat} {ob : Nat} {om : Nat} (hc_O : b_tt G B0 τ H ao (to) (.inr (7, [.int (nI 100), .int (nI oa), .int (nI ob), .int (nI om)]))) (hXR : XR G B0 τ A H (S, n, L, tn, t)) (hto : 120 ≤ to ∧ to < 1000) (hok : o_ok 100 oa ob om) (hWd : o_why S 100 oa ob om = nI 0 → b_WF (o_do S 100 oa ob om)) (hpk : o_why S 100 oa ob om = nI 0 → 100 = 99 → p_picks S oa ob om) : vx_Met l yX1_carryOut (ws_ yX1_carryOut cX1_carryOut 5 (Option.none)) ({ frames := 10, cells := 5, slots := 29, locals := 260 } : Room) (b_Pc G B0 H [.ref ((A 0)), .ref ao]) (b_Qv B0 (fun H1 => o_why S 100 oa ob om = nI 0 ∧ ∃ τ1 : b_T, b_Ag τ τ1 H ∧ b_Fr τ (fun t => t = 5 ∨ 1000 ≤ t) H H1 ∧ XR G B0 τ1 A H1 ((o_do S 100 oa ob om), n, L, tn, t))) (b_X B0 (fun E9 q9 H9 => r_px G B0 H (o_why S 100 oa ob om) E9 q9 H9)) 5 29 (b_A B0) := by
  refine b_ofX (by decide) (Nat.le_of_ble_eq_true rfl) ?_
  intro p e s m below meth c CX hr hlk htb hS ls hl
  have CX : b_Cx p s m _ c cX1_carryOut 5 RX1 G B0 := CX
  have hx := CX.hx
  have hb := CX.hb
  have hl : lv_has ls 5 [(0, .ref ((A 0))), (1, .ref ao)] := hl
  generalize hQ : vx_MQ below (b_Qv B0 (fun H1 => o_why S 100 oa ob om = nI 0 ∧ ∃ τ1 : b_T, b_Ag τ τ1 H ∧ b_Fr τ (fun t => t = 5 ∨ 1000 ≤ t) H H1 ∧ XR G B0 τ1 A H1 ((o_do S 100 oa ob om), n, L, tn, t))) (b_X B0 (fun E9 q9 H9 => r_px G B0 H (o_why S 100 oa ob om) E9 q9 H9)) ([.ref ((A 0)), .ref ao] : List Value).toArray s 5 29 (b_A B0) = Q
  have hF : b_Fr τ (fun t => t = 5 ∨ 1000 ≤ t) H H := b_Fr.rf
  have hA : b_Ag τ τ H := b_Ag.rf
  have hX : b_Ext H H := b_Ext.rf
  obtain ⟨d0, c0, ids, P0, F, M, E, Z, sm, rs, se, ml, hs, bt, tk9, hc_X, hc_sv, hsa, hse, hc_tx, hc_tb, hbt, hc_tk, hL, hZ, hW, hV, hd0, hdc, hn, htn, ht⟩ := hXR
  have hc_X : b_tt G B0 τ H ((A 0)) 0 (.inr (0, [.ref ((F 0)), .ref ((A 1)), .ref ((A 3)), .ref ((A 5)), .long hs])) := hc_X
  have hc_sv : b_tt G B0 τ H ((A 1)) 1 (.inr (2, [.int sm, .ref ((if se = true then rs else G.2.2 0)), .int (nI n)])) := hc_sv
  have hsa : (se = true → b_tt G B0 τ H rs 2 (.inl (G.2.1 2, q_refs 10 (fun j => if j < n then some (P0 j) else none)))) := hsa
  have hc_tx : b_tt G B0 τ H ((A 3)) 3 (.inr (3, [.ref ((A 4)), .int (nI 0), .int ml, .int (nI tn)])) := hc_tx
  have hc_tb : b_tt G B0 τ H ((A 4)) 4 (.inl (G.2.1 1, 60, .inl bt)) := hc_tb
  have hc_tk : b_tt G B0 τ H ((A 5)) 5 (.inl (G.2.1 0, 8, .inl tk9)) := hc_tk
  have hL : LR G B0 τ d0 F M E H S Z := hL
  have hV : SV G B0 τ d0 c0 n ids P0 H L := hV
  have hn8 := hL.2.2.2.1
  have hn6 := hL.2.2.2.2
  have hnb : nb S = nb S := rfl
  have hns : ns S = ns S := rfl
  have hn : n ≤ 6 := hn
  have htn : tn ≤ 60 := htn
  have ht : ∀ j, t j < 128 := ht
  have hse : se = true ∨ n = 0 := hse
  have hZ : pZ Z S := hZ
  have hW : b_WF S := hW
  have hbt : ∀ j, j < tn → bt j = nI (t j) := hbt
  obtain ⟨k1, k2, k3, k4, k5, k6, k7⟩ := hok
  refine lv_aload_n hx hb dX1_carryOut_0 rfl (lv_at hl 1 rfl) ?_
  refine gf_X1_225_7 CX hc_O.at rfl dX1_carryOut_1 ?_
  refine lv_bipush (v := nI 100) hx hb dX1_carryOut_4 rfl ?_
  refine b_icmp_neN (tgt := 16) CX (by omega) (by omega) dX1_carryOut_6 (by decide) (fun c_6 => ?_) (fun c_6 => ?_)
  · exact absurd c_6 (by decide)
  · refine lv_aload_n hx hb dX1_carryOut_9 rfl (lv_at hl 1 rfl) ?_
    refine gf_X1_230_7 CX hc_O.at rfl dX1_carryOut_10 ?_
    refine lv_goto (tgt := 20) hx hb dX1_carryOut_13 (by decide) ?_
    refine lv_istore_n (lv' := [(2, .int (nI ob)), (0, .ref ((A 0))), (1, .ref ao)]) hx hb dX1_carryOut_20 rfl hl (Nat.le_of_ble_eq_true rfl) rfl (fun ls hl => ?_)
    refine lv_aload_n hx hb dX1_carryOut_21 rfl (lv_at hl 1 rfl) ?_
    refine lv_iload_n hx hb dX1_carryOut_22 rfl (lv_at hl 0 rfl) ?_
    refine b_ci0 (cs_X1_162 (rest := []) CX hl.1 (m_X1_isShop l (a := (A 0)) (asv := (A 1)) (atx := (A 3)) (atk := (A 5)) (hs := hs) (x := nI ob) hc_X hL hW) rfl rfl rfl hc_X.at hS rfl ⟨rfl, rfl, Nat.le_of_ble_eq_true rfl, Nat.le_of_ble_eq_true rfl⟩ (Nat.le_of_ble_eq_true rfl) dX1_carryOut_23 ⟨Nat.le_of_ble_eq_true rfl, Nat.le_of_ble_eq_true rfl⟩) hS (fun locs hS => ?_)
    refine b_ifeq (tgt := 69) CX dX1_carryOut_26 (by decide) (fun c_26 => ?_) (fun c_26 => ?_)
    · have g26 : ¬ ob < ns S := fun q9 => c_26 ((p_ixN (by omega) (by omega)).mpr q9)
      refine lv_iconst (v := nI 0) hx hb dX1_carryOut_69 rfl ?_
      refine lv_istore_n (lv' := [(3, .int (nI 0)), (2, .int (nI ob)), (0, .ref ((A 0))), (1, .ref ao)]) hx hb dX1_carryOut_70 rfl hl (Nat.le_of_ble_eq_true rfl) rfl (fun ls hl => ?_)
      refine lv_iload_n hx hb dX1_carryOut_71 rfl (lv_at hl 0 rfl) ?_
      refine lv_if_ne (tgt := 84) hx hb dX1_carryOut_72 (by decide) (fun c_72 => ?_) (fun c_72 => ?_)
      · exact absurd c_72 (by decide)
      · refine b_newM CX in_X22 tyX22 tyX22_ok (ci := 21) rfl q1711 q1717 q124 (fs := [.null, .null, .null, .null, .null, .int (nI 0)]) (nofn_X22) hS (Nat.le_of_ble_eq_true rfl) (Nat.le_of_ble_eq_true rfl) dX1_carryOut_75 (fun q2 H2 hq hB hat hsz hE hmo hS => ?_)
        have hc_O := hc_O.new (tb := 102) hE hq
        have hc_X := hc_X.new (tb := 102) hE hq
        have hc_sv := hc_sv.new (tb := 102) hE hq
        have hsa := fun h9 => (hsa h9).new (tb := 102) hE hq
        have hc_tx := hc_tx.new (tb := 102) hE hq
        have hc_tb := hc_tb.new (tb := 102) hE hq
        have hc_tk := hc_tk.new (tb := 102) hE hq
        have hL := hL.new (tb := 102) hE hq
        have hV := hV.new (tb := 102) hE hq
        have fr_rf : H.size ≤ q2 := by rw [hq]; exact hF.1
        have hX := hX.tr hE
        have hA := hA.tr (b_Ag.new (t := 102) hq) hF.1
        have hF := hF.ext hE
        have hc_rf : b_tt G B0 ((upT τ q2 102)) H2 q2 102 (.inr (21, [.null, .null, .null, .null, .null, .int (nI 0)])) := b_tt.mk hat hB
        refine lv_dup hx hb dX1_carryOut_78 rfl ?_
        refine lv_null hx hb dX1_carryOut_79 ?_
        refine b_cv (cs_X1_238 (rest := [.ref q2]) CX hl.1 (m_X22_init_n l (a := q2) (ta := 102) hc_rf hmo) rfl hS rfl ⟨rfl, rfl, Nat.le_of_ble_eq_true rfl, Nat.le_of_ble_eq_true rfl⟩ (Nat.le_of_ble_eq_true rfl) dX1_carryOut_80 ⟨Nat.le_of_ble_eq_true rfl, Nat.le_of_ble_eq_true rfl⟩) hS (fun H3 locs hp hS => ?_)
        obtain ⟨hu, hmo, hx0⟩ := hp
        have hc_O := hc_O.up hu hc_rf.tag (by omega)
        have hc_X := hc_X.up hu hc_rf.tag (by decide)
        have hc_sv := hc_sv.up hu hc_rf.tag (by decide)
        have hsa := fun h9 => (hsa h9).up hu hc_rf.tag (by omega)
        have hc_tx := hc_tx.up hu hc_rf.tag (by decide)
        have hc_tb := hc_tb.up hu hc_rf.tag (by decide)
        have hc_tk := hc_tk.up hu hc_rf.tag (by decide)
        have hL := hL.up hu hc_rf.tag (by omega)
        have hV := hV.up hu hc_rf.tag (fun k9 h1 h2 h3 => by omega)
        have hX := hX.up hu fr_rf
        have hF := hF.up hA hu hc_rf.tag (fun q9 => absurd q9 (Nat.not_lt.mpr fr_rf))
        have hc_rf : b_tt G B0 ((upT τ q2 102)) H3 q2 102 (.inr (21, [.null, .null, .null, .null, .null, .int (nI 0)])) := hx0
        refine b_athrow CX dX1_carryOut_83 ?_
        rw [← hQ]
        exact b_xout htb hlk (b_thof CX (ci := 21) rfl hc_rf.at) hS (Nat.le_of_ble_eq_true rfl) (Nat.le_of_ble_eq_true rfl) ⟨hX, rfl, hc_rf.B, hmo, Or.inl ⟨(by simp [o_why, g26]), hc_rf.at⟩⟩
    · have g26 : ob < ns S := (p_ixN (by omega) (by omega)).mp c_26
      refine lv_aload_n hx hb dX1_carryOut_29 rfl (lv_at hl 2 rfl) ?_
      refine gf_X1_225_7 CX hc_O.at rfl dX1_carryOut_30 ?_
      refine lv_bipush (v := nI 99) hx hb dX1_carryOut_33 rfl ?_
      refine b_icmp_eqN (tgt := 65) CX (by omega) (by omega) dX1_carryOut_35 (by decide) (fun c_35 => ?_) (fun c_35 => ?_)
      · exact absurd c_35 (by decide)
      · refine lv_aload_n hx hb dX1_carryOut_38 rfl (lv_at hl 1 rfl) ?_
        refine lv_aload_n hx hb dX1_carryOut_39 rfl (lv_at hl 2 rfl) ?_
        refine gf_X1_225_7 CX hc_O.at rfl dX1_carryOut_40 ?_
        refine lv_bipush (v := nI 100) hx hb dX1_carryOut_43 rfl ?_
        refine b_icmp_neN (tgt := 55) CX (by omega) (by omega) dX1_carryOut_45 (by decide) (fun c_45 => ?_) (fun c_45 => ?_)
        · exact absurd c_45 (by decide)
        · refine lv_aload_n hx hb dX1_carryOut_48 rfl (lv_at hl 2 rfl) ?_
          refine gf_X1_233_7 CX hc_O.at rfl dX1_carryOut_49 ?_
          refine lv_goto (tgt := 59) hx hb dX1_carryOut_52 (by decide) ?_
          refine b_ci0 (cs_X1_151 (rest := []) CX hl.1 (m_X1_isBrand l (a := (A 0)) (asv := (A 1)) (atx := (A 3)) (atk := (A 5)) (hs := hs) (x := nI oa) hc_X hL hW) rfl rfl rfl hc_X.at hS rfl ⟨rfl, rfl, Nat.le_of_ble_eq_true rfl, Nat.le_of_ble_eq_true rfl⟩ (Nat.le_of_ble_eq_true rfl) dX1_carryOut_59 ⟨Nat.le_of_ble_eq_true rfl, Nat.le_of_ble_eq_true rfl⟩) hS (fun locs hS => ?_)
          refine b_ifeq (tgt := 69) CX dX1_carryOut_62 (by decide) (fun c_62 => ?_) (fun c_62 => ?_)
          · have g62 : ¬ oa < nb S := fun q9 => c_62 ((p_ixN (by omega) (by omega)).mpr q9)
            refine lv_iconst (v := nI 0) hx hb dX1_carryOut_69 rfl ?_
            refine lv_istore_n (lv' := [(3, .int (nI 0)), (2, .int (nI ob)), (0, .ref ((A 0))), (1, .ref ao)]) hx hb dX1_carryOut_70 rfl hl (Nat.le_of_ble_eq_true rfl) rfl (fun ls hl => ?_)
            refine lv_iload_n hx hb dX1_carryOut_71 rfl (lv_at hl 0 rfl) ?_
            refine lv_if_ne (tgt := 84) hx hb dX1_carryOut_72 (by decide) (fun c_72 => ?_) (fun c_72 => ?_)
            · exact absurd c_72 (by decide)
            · refine b_newM CX in_X22 tyX22 tyX22_ok (ci := 21) rfl q1711 q1717 q124 (fs := [.null, .null, .null, .null, .null, .int (nI 0)]) (nofn_X22) hS (Nat.le_of_ble_eq_true rfl) (Nat.le_of_ble_eq_true rfl) dX1_carryOut_75 (fun q5 H5 hq hB hat hsz hE hmo hS => ?_)
              have hc_O := hc_O.new (tb := 102) hE hq
              have hc_X := hc_X.new (tb := 102) hE hq
              have hc_sv := hc_sv.new (tb := 102) hE hq
              have hsa := fun h9 => (hsa h9).new (tb := 102) hE hq
              have hc_tx := hc_tx.new (tb := 102) hE hq
              have hc_tb := hc_tb.new (tb := 102) hE hq
              have hc_tk := hc_tk.new (tb := 102) hE hq
              have hL := hL.new (tb := 102) hE hq
              have hV := hV.new (tb := 102) hE hq
              have fr_rf : H.size ≤ q5 := by rw [hq]; exact hF.1
              have hX := hX.tr hE
              have hA := hA.tr (b_Ag.new (t := 102) hq) hF.1
              have hF := hF.ext hE
              have hc_rf : b_tt G B0 ((upT τ q5 102)) H5 q5 102 (.inr (21, [.null, .null, .null, .null, .null, .int (nI 0)])) := b_tt.mk hat hB
              refine lv_dup hx hb dX1_carryOut_78 rfl ?_
              refine lv_null hx hb dX1_carryOut_79 ?_
              refine b_cv (cs_X1_238 (rest := [.ref q5]) CX hl.1 (m_X22_init_n l (a := q5) (ta := 102) hc_rf hmo) rfl hS rfl ⟨rfl, rfl, Nat.le_of_ble_eq_true rfl, Nat.le_of_ble_eq_true rfl⟩ (Nat.le_of_ble_eq_true rfl) dX1_carryOut_80 ⟨Nat.le_of_ble_eq_true rfl, Nat.le_of_ble_eq_true rfl⟩) hS (fun H6 locs hp hS => ?_)
              obtain ⟨hu, hmo, hx0⟩ := hp
              have hc_O := hc_O.up hu hc_rf.tag (by omega)
              have hc_X := hc_X.up hu hc_rf.tag (by decide)
              have hc_sv := hc_sv.up hu hc_rf.tag (by decide)
              have hsa := fun h9 => (hsa h9).up hu hc_rf.tag (by omega)
              have hc_tx := hc_tx.up hu hc_rf.tag (by decide)
              have hc_tb := hc_tb.up hu hc_rf.tag (by decide)
              have hc_tk := hc_tk.up hu hc_rf.tag (by decide)
              have hL := hL.up hu hc_rf.tag (by omega)
              have hV := hV.up hu hc_rf.tag (fun k9 h1 h2 h3 => by omega)
              have hX := hX.up hu fr_rf
              have hF := hF.up hA hu hc_rf.tag (fun q9 => absurd q9 (Nat.not_lt.mpr fr_rf))
              have hc_rf : b_tt G B0 ((upT τ q5 102)) H6 q5 102 (.inr (21, [.null, .null, .null, .null, .null, .int (nI 0)])) := hx0
              refine b_athrow CX dX1_carryOut_83 ?_
              rw [← hQ]
              exact b_xout htb hlk (b_thof CX (ci := 21) rfl hc_rf.at) hS (Nat.le_of_ble_eq_true rfl) (Nat.le_of_ble_eq_true rfl) ⟨hX, rfl, hc_rf.B, hmo, Or.inl ⟨(by simp [o_why, g26, g62]), hc_rf.at⟩⟩
          · have g62 : oa < nb S := (p_ixN (by omega) (by omega)).mp c_62
            refine lv_iconst (v := nI 1) hx hb dX1_carryOut_65 rfl ?_
            refine lv_goto (tgt := 70) hx hb dX1_carryOut_66 (by decide) ?_
            refine lv_istore_n (lv' := [(3, .int (nI 1)), (2, .int (nI ob)), (0, .ref ((A 0))), (1, .ref ao)]) hx hb dX1_carryOut_70 rfl hl (Nat.le_of_ble_eq_true rfl) rfl (fun ls hl => ?_)
            refine lv_iload_n hx hb dX1_carryOut_71 rfl (lv_at hl 0 rfl) ?_
            refine lv_if_ne (tgt := 84) hx hb dX1_carryOut_72 (by decide) (fun c_72 => ?_) (fun c_72 => ?_)
            · refine lv_aload_n hx hb dX1_carryOut_84 rfl (lv_at hl 3 rfl) ?_
              refine gf_X1_225_7 CX hc_O.at rfl dX1_carryOut_85 ?_
              refine lv_lookup (off := 44) (tgt := 132) hx hb dX1_carryOut_88 (by decide) (by decide) (by decide) ?_
              refine lv_aload_n hx hb dX1_carryOut_132 rfl (lv_at hl 2 rfl) ?_
              refine lv_aload_n hx hb dX1_carryOut_133 rfl (lv_at hl 3 rfl) ?_
              refine gf_X1_233_7 CX hc_O.at rfl dX1_carryOut_134 ?_
              refine lv_aload_n hx hb dX1_carryOut_137 rfl (lv_at hl 3 rfl) ?_
              refine gf_X1_230_7 CX hc_O.at rfl dX1_carryOut_138 ?_
              refine lv_aload_n hx hb dX1_carryOut_141 rfl (lv_at hl 3 rfl) ?_
              refine gf_X1_241_7 CX hc_O.at rfl dX1_carryOut_142 ?_
              refine b_cq (cs_X1_165 (rest := []) CX hl.1 (m_X1_delivering l (a := (A 0)) (b := oa) (s_ := ob) (c_ := nI om) ) rfl rfl rfl hc_X.at hS rfl ⟨rfl, rfl, Nat.le_of_ble_eq_true rfl, Nat.le_of_ble_eq_true rfl⟩ (Nat.le_of_ble_eq_true rfl) dX1_carryOut_145 ⟨Nat.le_of_ble_eq_true rfl, Nat.le_of_ble_eq_true rfl⟩) hS (fun r H7 locs hp hS => ?_)
              obtain ⟨q7, rfl, hE, hz, hB, hat⟩ := hp
              have hc_O := hc_O.ad (tb := 100) hE hz
              have hc_X := hc_X.ad (tb := 100) hE hz
              have hc_sv := hc_sv.ad (tb := 100) hE hz
              have hsa := fun h9 => (hsa h9).ad (tb := 100) hE hz
              have hc_tx := hc_tx.ad (tb := 100) hE hz
              have hc_tb := hc_tb.ad (tb := 100) hE hz
              have hc_tk := hc_tk.ad (tb := 100) hE hz
              have hL := hL.ad (tb := 100) hE hz
              have hV := hV.ad (tb := 100) hE hz
              have fr_dd : H.size ≤ q7 := Nat.le_trans hF.1 hz
              have hX := hX.tr hE
              have hA := hA.tr (b_Ag.ge (t := 100) hz) hF.1
              have hF := hF.ext hE
              have hc_dd : b_tt G B0 ((upT τ q7 100)) H7 q7 100 (.inr (9, [.ref (((A 0))), .int (nI oa), .int (nI ob), .int ((nI om)), .ref (((A 0)))])) := b_tt.mk hat hB
              refine lv_astore (lv' := [(4, .ref q7), (3, .int (nI 1)), (2, .int (nI ob)), (0, .ref ((A 0))), (1, .ref ao)]) hx hb dX1_carryOut_148 hl (Nat.le_of_ble_eq_true rfl) rfl (fun ls hl => ?_)
              refine lv_goto (tgt := 234) hx hb dX1_carryOut_150 (by decide) ?_
              refine lv_aload hx hb dX1_carryOut_234 (lv_at hl 0 rfl) ?_
              refine b_xv (cx_X1_244_9 (rest := []) CX hl.1 (m_X6_order_9 l (da := q7) (td := 100) (a := ((A 0))) (asv := (A 1)) (atx := (A 3)) (atk := (A 5)) (hs := hs) (b := oa) (s_ := ob) (c_ := (nI om)) hc_dd hc_X hL hW (by omega) (by omega) rfl (by omega) (by omega)) rfl hc_dd.at hS rfl ⟨rfl, rfl, Nat.le_of_ble_eq_true rfl, Nat.le_of_ble_eq_true rfl⟩ (Nat.le_of_ble_eq_true rfl) dX1_carryOut_236 ⟨Nat.le_of_ble_eq_true rfl, Nat.le_of_ble_eq_true rfl⟩) hS (fun E9 q9 Hx8 locs hx9 hS he9 => ?_) (fun H8 locs hp hS => ?_)
              · rw [← hQ]
                exact b_xout htb hlk he9 hS (Nat.le_of_ble_eq_true rfl) (Nat.le_of_ble_eq_true rfl) ((hx9.mv hX).cd (by simp [o_why, g26, g62]))
              obtain ⟨hk_236, hF9, hL9⟩ := hp
              have hc_O := hc_O.fr hF9 (show ¬ (1000 * d0 ≤ (to) ∧ (to) < 1000 * d0 + 1000) by omega)
              have hc_X := hc_X.fr hF9 (show ¬ (1000 * d0 ≤ 0 ∧ 0 < 1000 * d0 + 1000) by omega)
              have hc_sv := hc_sv.fr hF9 (show ¬ (1000 * d0 ≤ 1 ∧ 1 < 1000 * d0 + 1000) by omega)
              have hsa := fun h9 => (hsa h9).fr hF9 (show ¬ (1000 * d0 ≤ 2 ∧ 2 < 1000 * d0 + 1000) by omega)
              have hc_tx := hc_tx.fr hF9 (show ¬ (1000 * d0 ≤ 3 ∧ 3 < 1000 * d0 + 1000) by omega)
              have hc_tb := hc_tb.fr hF9 (show ¬ (1000 * d0 ≤ 4 ∧ 4 < 1000 * d0 + 1000) by omega)
              have hc_tk := hc_tk.fr hF9 (show ¬ (1000 * d0 ≤ 5 ∧ 5 < 1000 * d0 + 1000) by omega)
              have hV := hV.fr hF9 (fun k9 h1 h2 h3 i9 hi9 => show ¬ (1000 * d0 ≤ (1000 * k9 + i9) ∧ (1000 * k9 + i9) < 1000 * d0 + 1000) by omega)
              have hc_dd := hc_dd.fr hF9 (show ¬ (1000 * d0 ≤ 100 ∧ 100 < 1000 * d0 + 1000) by omega)
              have hz9 := hF.1
              have hF0 := hF.tr hA hF9 (fun q9 hq9 x9 => by have x8 : 1000 * d0 ≤ τ q9 ∧ τ q9 < 1000 * d0 + 1000 := x9; show τ q9 = 5 ∨ 1000 ≤ τ q9; omega)
              have hF := hF0
              have hL : LR G B0 ((upT τ q7 100)) d0 F M E H8 ((s_deliver S oa ob ((nI om)))) Z := hL9
              have hw9 : o_why S 100 oa ob om = nI 0 := by
                refine Eq.trans ?_ hk_236
                simp [o_why, g26, g62]
              have e9 : (o_do S 100 oa ob om) = ((s_deliver S oa ob ((nI om)))) := by simp [o_do]
              have hWn : b_WF ((s_deliver S oa ob ((nI om)))) := by have h9 := hWd hw9; rw [e9] at h9; exact h9
              rw [← hQ]
              exact vx_ret (b_vret CX hr hlk hS (Nat.le_of_ble_eq_true rfl) (Nat.le_of_ble_eq_true rfl) dX1_carryOut_239 (⟨hw9, _, hA, hF, (by rw [e9]; exact ⟨d0, c0, ids, P0, F, M, E, Z, sm, rs, se, ml, hs, bt, tk9, hc_X, hc_sv, hsa, hse, hc_tx, hc_tb, hbt, hc_tk, hL, (pZ.of hZ (fun i j => by simp [s_deliver, u3])), hWn, hV, hd0, hdc, hn, htn, ht⟩)⟩))
            · exact absurd c_72 (by decide)
theorem cx_X1_244_10 {p : Program} {l : Launch} {e : Env} {R : Room} {s : State} {m : MethodId} {args : Array Value} {below : List Frame} {meth : Method} {c : Code} {H : Heap} {locs : List Loc} {cells slots : Nat} {cc : ByteArray} {pc nL a : Nat} {ls : Array Slot} {rest : List Value} {G : b_G} {B0 : Nat} (CX : b_Cx p s m args c cc nL RX1 G B0) (hls : ls.size = nL) {rm : Room} {mc ms : Nat} {As st0 : List Value} {Qc : Array Value → State → Outcome → State → Prop} {XC : String → Addr → State → State → Prop} (hM : vx_Met l yX6_order (wsW_ yX6_order cX6_order 2 (Option.none) [((0 : Nat), (4 : Nat), (7 : Nat), (25 : Nat))]) rm (b_Pc G B0 H (.ref a :: As)) Qc XC mc ms (b_A B0)) (hn : As.length = 0) {fs : List Value} (hP : b_at G a (.inr (10, fs)) H) (hS : va_S (b_A B0) s.heap H locs) (hst : st0 = As.reverse ++ .ref a :: rest) (hr : rm.cells = mc ∧ rm.slots = ms ∧ rm.frames + 1 ≤ R.frames ∧ 8 + (2 + 11) + rm.locals ≤ R.locals) (hw : (rest.map fun v => v.category).sum ≤ 8) (hdg : decode cc pc = .ok (.invokevirtual 244, 3)) (hf : cells + mc ≤ R.cells ∧ slots + ms ≤ R.slots) : vx_Run p l e R s m args below meth c H locs cells slots mc ms (F0 m pc ls st0) rest (Qc (Value.ref a :: As).toArray) XC (b_A B0) := vx_runVX (C := RX13) CX.fix hM (b_cwVC 0 CX.ts q1731 q1732 q1735 q104 q1743 hr.1 hr.2.1 ⟨by decide, by decide, by decide +kernel⟩ ⟨hr.2.2.1, hr.2.2.2⟩) ⟨b_blind G B0 H _, b_recv CX.K (ci := 10) rfl hP, b_pre _ CX.K hS⟩ rfl hn hls hst (lv_room hw) hdg hf
set_option maxHeartbeats 2000000 in
set_option maxRecDepth 100000 in
theorem m_X1_carryOut_115 (l : Launch) {G : b_G} {B0 : Nat} {H : Heap} {τ : b_T} {A : Nat → Nat} {S : b_St} {n : Nat} {L : Nat → b_St} {tn : Nat} {t : Nat → Nat} {ao : Nat} {to : Nat} {oa : Nat} {ob : Nat} {om : Nat} (hc_O : b_tt G B0 τ H ao (to) (.inr (7, [.int (nI 115), .int (nI oa), .int (nI ob), .int (nI om)]))) (hXR : XR G B0 τ A H (S, n, L, tn, t)) (hto : 120 ≤ to ∧ to < 1000) (hok : o_ok 115 oa ob om) (hWd : o_why S 115 oa ob om = nI 0 → b_WF (o_do S 115 oa ob om)) (hpk : o_why S 115 oa ob om = nI 0 → 115 = 99 → p_picks S oa ob om) : vx_Met l yX1_carryOut (ws_ yX1_carryOut cX1_carryOut 5 (Option.none)) ({ frames := 10, cells := 5, slots := 29, locals := 260 } : Room) (b_Pc G B0 H [.ref ((A 0)), .ref ao]) (b_Qv B0 (fun H1 => o_why S 115 oa ob om = nI 0 ∧ ∃ τ1 : b_T, b_Ag τ τ1 H ∧ b_Fr τ (fun t => t = 5 ∨ 1000 ≤ t) H H1 ∧ XR G B0 τ1 A H1 ((o_do S 115 oa ob om), n, L, tn, t))) (b_X B0 (fun E9 q9 H9 => r_px G B0 H (o_why S 115 oa ob om) E9 q9 H9)) 5 29 (b_A B0) := by
  refine b_ofX (by decide) (Nat.le_of_ble_eq_true rfl) ?_
  intro p e s m below meth c CX hr hlk htb hS ls hl
  have CX : b_Cx p s m _ c cX1_carryOut 5 RX1 G B0 := CX
  have hx := CX.hx
  have hb := CX.hb
  have hl : lv_has ls 5 [(0, .ref ((A 0))), (1, .ref ao)] := hl
  generalize hQ : vx_MQ below (b_Qv B0 (fun H1 => o_why S 115 oa ob om = nI 0 ∧ ∃ τ1 : b_T, b_Ag τ τ1 H ∧ b_Fr τ (fun t => t = 5 ∨ 1000 ≤ t) H H1 ∧ XR G B0 τ1 A H1 ((o_do S 115 oa ob om), n, L, tn, t))) (b_X B0 (fun E9 q9 H9 => r_px G B0 H (o_why S 115 oa ob om) E9 q9 H9)) ([.ref ((A 0)), .ref ao] : List Value).toArray s 5 29 (b_A B0) = Q
  have hF : b_Fr τ (fun t => t = 5 ∨ 1000 ≤ t) H H := b_Fr.rf
  have hA : b_Ag τ τ H := b_Ag.rf
  have hX : b_Ext H H := b_Ext.rf
  obtain ⟨d0, c0, ids, P0, F, M, E, Z, sm, rs, se, ml, hs, bt, tk9, hc_X, hc_sv, hsa, hse, hc_tx, hc_tb, hbt, hc_tk, hL, hZ, hW, hV, hd0, hdc, hn, htn, ht⟩ := hXR
  have hc_X : b_tt G B0 τ H ((A 0)) 0 (.inr (0, [.ref ((F 0)), .ref ((A 1)), .ref ((A 3)), .ref ((A 5)), .long hs])) := hc_X
  have hc_sv : b_tt G B0 τ H ((A 1)) 1 (.inr (2, [.int sm, .ref ((if se = true then rs else G.2.2 0)), .int (nI n)])) := hc_sv
  have hsa : (se = true → b_tt G B0 τ H rs 2 (.inl (G.2.1 2, q_refs 10 (fun j => if j < n then some (P0 j) else none)))) := hsa
  have hc_tx : b_tt G B0 τ H ((A 3)) 3 (.inr (3, [.ref ((A 4)), .int (nI 0), .int ml, .int (nI tn)])) := hc_tx
  have hc_tb : b_tt G B0 τ H ((A 4)) 4 (.inl (G.2.1 1, 60, .inl bt)) := hc_tb
  have hc_tk : b_tt G B0 τ H ((A 5)) 5 (.inl (G.2.1 0, 8, .inl tk9)) := hc_tk
  have hL : LR G B0 τ d0 F M E H S Z := hL
  have hV : SV G B0 τ d0 c0 n ids P0 H L := hV
  have hn8 := hL.2.2.2.1
  have hn6 := hL.2.2.2.2
  have hnb : nb S = nb S := rfl
  have hns : ns S = ns S := rfl
  have hn : n ≤ 6 := hn
  have htn : tn ≤ 60 := htn
  have ht : ∀ j, t j < 128 := ht
  have hse : se = true ∨ n = 0 := hse
  have hZ : pZ Z S := hZ
  have hW : b_WF S := hW
  have hbt : ∀ j, j < tn → bt j = nI (t j) := hbt
  obtain ⟨k1, k2, k3, k4, k5, k6, k7⟩ := hok
  refine lv_aload_n hx hb dX1_carryOut_0 rfl (lv_at hl 1 rfl) ?_
  refine gf_X1_225_7 CX hc_O.at rfl dX1_carryOut_1 ?_
  refine lv_bipush (v := nI 100) hx hb dX1_carryOut_4 rfl ?_
  refine b_icmp_neN (tgt := 16) CX (by omega) (by omega) dX1_carryOut_6 (by decide) (fun c_6 => ?_) (fun c_6 => ?_)
  · refine lv_aload_n hx hb dX1_carryOut_16 rfl (lv_at hl 1 rfl) ?_
    refine gf_X1_233_7 CX hc_O.at rfl dX1_carryOut_17 ?_
    refine lv_istore_n (lv' := [(2, .int (nI oa)), (0, .ref ((A 0))), (1, .ref ao)]) hx hb dX1_carryOut_20 rfl hl (Nat.le_of_ble_eq_true rfl) rfl (fun ls hl => ?_)
    refine lv_aload_n hx hb dX1_carryOut_21 rfl (lv_at hl 1 rfl) ?_
    refine lv_iload_n hx hb dX1_carryOut_22 rfl (lv_at hl 0 rfl) ?_
    refine b_ci0 (cs_X1_162 (rest := []) CX hl.1 (m_X1_isShop l (a := (A 0)) (asv := (A 1)) (atx := (A 3)) (atk := (A 5)) (hs := hs) (x := nI oa) hc_X hL hW) rfl rfl rfl hc_X.at hS rfl ⟨rfl, rfl, Nat.le_of_ble_eq_true rfl, Nat.le_of_ble_eq_true rfl⟩ (Nat.le_of_ble_eq_true rfl) dX1_carryOut_23 ⟨Nat.le_of_ble_eq_true rfl, Nat.le_of_ble_eq_true rfl⟩) hS (fun locs hS => ?_)
    refine b_ifeq (tgt := 69) CX dX1_carryOut_26 (by decide) (fun c_26 => ?_) (fun c_26 => ?_)
    · have g26 : ¬ oa < ns S := fun q9 => c_26 ((p_ixN (by omega) (by omega)).mpr q9)
      refine lv_iconst (v := nI 0) hx hb dX1_carryOut_69 rfl ?_
      refine lv_istore_n (lv' := [(3, .int (nI 0)), (2, .int (nI oa)), (0, .ref ((A 0))), (1, .ref ao)]) hx hb dX1_carryOut_70 rfl hl (Nat.le_of_ble_eq_true rfl) rfl (fun ls hl => ?_)
      refine lv_iload_n hx hb dX1_carryOut_71 rfl (lv_at hl 0 rfl) ?_
      refine lv_if_ne (tgt := 84) hx hb dX1_carryOut_72 (by decide) (fun c_72 => ?_) (fun c_72 => ?_)
      · exact absurd c_72 (by decide)
      · refine b_newM CX in_X22 tyX22 tyX22_ok (ci := 21) rfl q1711 q1717 q124 (fs := [.null, .null, .null, .null, .null, .int (nI 0)]) (nofn_X22) hS (Nat.le_of_ble_eq_true rfl) (Nat.le_of_ble_eq_true rfl) dX1_carryOut_75 (fun q2 H2 hq hB hat hsz hE hmo hS => ?_)
        have hc_O := hc_O.new (tb := 102) hE hq
        have hc_X := hc_X.new (tb := 102) hE hq
        have hc_sv := hc_sv.new (tb := 102) hE hq
        have hsa := fun h9 => (hsa h9).new (tb := 102) hE hq
        have hc_tx := hc_tx.new (tb := 102) hE hq
        have hc_tb := hc_tb.new (tb := 102) hE hq
        have hc_tk := hc_tk.new (tb := 102) hE hq
        have hL := hL.new (tb := 102) hE hq
        have hV := hV.new (tb := 102) hE hq
        have fr_rf : H.size ≤ q2 := by rw [hq]; exact hF.1
        have hX := hX.tr hE
        have hA := hA.tr (b_Ag.new (t := 102) hq) hF.1
        have hF := hF.ext hE
        have hc_rf : b_tt G B0 ((upT τ q2 102)) H2 q2 102 (.inr (21, [.null, .null, .null, .null, .null, .int (nI 0)])) := b_tt.mk hat hB
        refine lv_dup hx hb dX1_carryOut_78 rfl ?_
        refine lv_null hx hb dX1_carryOut_79 ?_
        refine b_cv (cs_X1_238 (rest := [.ref q2]) CX hl.1 (m_X22_init_n l (a := q2) (ta := 102) hc_rf hmo) rfl hS rfl ⟨rfl, rfl, Nat.le_of_ble_eq_true rfl, Nat.le_of_ble_eq_true rfl⟩ (Nat.le_of_ble_eq_true rfl) dX1_carryOut_80 ⟨Nat.le_of_ble_eq_true rfl, Nat.le_of_ble_eq_true rfl⟩) hS (fun H3 locs hp hS => ?_)
        obtain ⟨hu, hmo, hx0⟩ := hp
        have hc_O := hc_O.up hu hc_rf.tag (by omega)
        have hc_X := hc_X.up hu hc_rf.tag (by decide)
        have hc_sv := hc_sv.up hu hc_rf.tag (by decide)
        have hsa := fun h9 => (hsa h9).up hu hc_rf.tag (by omega)
        have hc_tx := hc_tx.up hu hc_rf.tag (by decide)
        have hc_tb := hc_tb.up hu hc_rf.tag (by decide)
        have hc_tk := hc_tk.up hu hc_rf.tag (by decide)
        have hL := hL.up hu hc_rf.tag (by omega)
        have hV := hV.up hu hc_rf.tag (fun k9 h1 h2 h3 => by omega)
        have hX := hX.up hu fr_rf
        have hF := hF.up hA hu hc_rf.tag (fun q9 => absurd q9 (Nat.not_lt.mpr fr_rf))
        have hc_rf : b_tt G B0 ((upT τ q2 102)) H3 q2 102 (.inr (21, [.null, .null, .null, .null, .null, .int (nI 0)])) := hx0
        refine b_athrow CX dX1_carryOut_83 ?_
        rw [← hQ]
        exact b_xout htb hlk (b_thof CX (ci := 21) rfl hc_rf.at) hS (Nat.le_of_ble_eq_true rfl) (Nat.le_of_ble_eq_true rfl) ⟨hX, rfl, hc_rf.B, hmo, Or.inl ⟨(by simp [o_why, g26]), hc_rf.at⟩⟩
    · have g26 : oa < ns S := (p_ixN (by omega) (by omega)).mp c_26
      refine lv_aload_n hx hb dX1_carryOut_29 rfl (lv_at hl 2 rfl) ?_
      refine gf_X1_225_7 CX hc_O.at rfl dX1_carryOut_30 ?_
      refine lv_bipush (v := nI 99) hx hb dX1_carryOut_33 rfl ?_
      refine b_icmp_eqN (tgt := 65) CX (by omega) (by omega) dX1_carryOut_35 (by decide) (fun c_35 => ?_) (fun c_35 => ?_)
      · exact absurd c_35 (by decide)
      · refine lv_aload_n hx hb dX1_carryOut_38 rfl (lv_at hl 1 rfl) ?_
        refine lv_aload_n hx hb dX1_carryOut_39 rfl (lv_at hl 2 rfl) ?_
        refine gf_X1_225_7 CX hc_O.at rfl dX1_carryOut_40 ?_
        refine lv_bipush (v := nI 100) hx hb dX1_carryOut_43 rfl ?_
        refine b_icmp_neN (tgt := 55) CX (by omega) (by omega) dX1_carryOut_45 (by decide) (fun c_45 => ?_) (fun c_45 => ?_)
        · refine lv_aload_n hx hb dX1_carryOut_55 rfl (lv_at hl 2 rfl) ?_
          refine gf_X1_230_7 CX hc_O.at rfl dX1_carryOut_56 ?_
          refine b_ci0 (cs_X1_151 (rest := []) CX hl.1 (m_X1_isBrand l (a := (A 0)) (asv := (A 1)) (atx := (A 3)) (atk := (A 5)) (hs := hs) (x := nI ob) hc_X hL hW) rfl rfl rfl hc_X.at hS rfl ⟨rfl, rfl, Nat.le_of_ble_eq_true rfl, Nat.le_of_ble_eq_true rfl⟩ (Nat.le_of_ble_eq_true rfl) dX1_carryOut_59 ⟨Nat.le_of_ble_eq_true rfl, Nat.le_of_ble_eq_true rfl⟩) hS (fun locs hS => ?_)
          refine b_ifeq (tgt := 69) CX dX1_carryOut_62 (by decide) (fun c_62 => ?_) (fun c_62 => ?_)
          · have g62 : ¬ ob < nb S := fun q9 => c_62 ((p_ixN (by omega) (by omega)).mpr q9)
            refine lv_iconst (v := nI 0) hx hb dX1_carryOut_69 rfl ?_
            refine lv_istore_n (lv' := [(3, .int (nI 0)), (2, .int (nI oa)), (0, .ref ((A 0))), (1, .ref ao)]) hx hb dX1_carryOut_70 rfl hl (Nat.le_of_ble_eq_true rfl) rfl (fun ls hl => ?_)
            refine lv_iload_n hx hb dX1_carryOut_71 rfl (lv_at hl 0 rfl) ?_
            refine lv_if_ne (tgt := 84) hx hb dX1_carryOut_72 (by decide) (fun c_72 => ?_) (fun c_72 => ?_)
            · exact absurd c_72 (by decide)
            · refine b_newM CX in_X22 tyX22 tyX22_ok (ci := 21) rfl q1711 q1717 q124 (fs := [.null, .null, .null, .null, .null, .int (nI 0)]) (nofn_X22) hS (Nat.le_of_ble_eq_true rfl) (Nat.le_of_ble_eq_true rfl) dX1_carryOut_75 (fun q5 H5 hq hB hat hsz hE hmo hS => ?_)
              have hc_O := hc_O.new (tb := 102) hE hq
              have hc_X := hc_X.new (tb := 102) hE hq
              have hc_sv := hc_sv.new (tb := 102) hE hq
              have hsa := fun h9 => (hsa h9).new (tb := 102) hE hq
              have hc_tx := hc_tx.new (tb := 102) hE hq
              have hc_tb := hc_tb.new (tb := 102) hE hq
              have hc_tk := hc_tk.new (tb := 102) hE hq
              have hL := hL.new (tb := 102) hE hq
              have hV := hV.new (tb := 102) hE hq
              have fr_rf : H.size ≤ q5 := by rw [hq]; exact hF.1
              have hX := hX.tr hE
              have hA := hA.tr (b_Ag.new (t := 102) hq) hF.1
              have hF := hF.ext hE
              have hc_rf : b_tt G B0 ((upT τ q5 102)) H5 q5 102 (.inr (21, [.null, .null, .null, .null, .null, .int (nI 0)])) := b_tt.mk hat hB
              refine lv_dup hx hb dX1_carryOut_78 rfl ?_
              refine lv_null hx hb dX1_carryOut_79 ?_
              refine b_cv (cs_X1_238 (rest := [.ref q5]) CX hl.1 (m_X22_init_n l (a := q5) (ta := 102) hc_rf hmo) rfl hS rfl ⟨rfl, rfl, Nat.le_of_ble_eq_true rfl, Nat.le_of_ble_eq_true rfl⟩ (Nat.le_of_ble_eq_true rfl) dX1_carryOut_80 ⟨Nat.le_of_ble_eq_true rfl, Nat.le_of_ble_eq_true rfl⟩) hS (fun H6 locs hp hS => ?_)
              obtain ⟨hu, hmo, hx0⟩ := hp
              have hc_O := hc_O.up hu hc_rf.tag (by omega)
              have hc_X := hc_X.up hu hc_rf.tag (by decide)
              have hc_sv := hc_sv.up hu hc_rf.tag (by decide)
              have hsa := fun h9 => (hsa h9).up hu hc_rf.tag (by omega)
              have hc_tx := hc_tx.up hu hc_rf.tag (by decide)
              have hc_tb := hc_tb.up hu hc_rf.tag (by decide)
              have hc_tk := hc_tk.up hu hc_rf.tag (by decide)
              have hL := hL.up hu hc_rf.tag (by omega)
              have hV := hV.up hu hc_rf.tag (fun k9 h1 h2 h3 => by omega)
              have hX := hX.up hu fr_rf
              have hF := hF.up hA hu hc_rf.tag (fun q9 => absurd q9 (Nat.not_lt.mpr fr_rf))
              have hc_rf : b_tt G B0 ((upT τ q5 102)) H6 q5 102 (.inr (21, [.null, .null, .null, .null, .null, .int (nI 0)])) := hx0
              refine b_athrow CX dX1_carryOut_83 ?_
              rw [← hQ]
              exact b_xout htb hlk (b_thof CX (ci := 21) rfl hc_rf.at) hS (Nat.le_of_ble_eq_true rfl) (Nat.le_of_ble_eq_true rfl) ⟨hX, rfl, hc_rf.B, hmo, Or.inl ⟨(by simp [o_why, g26, g62]), hc_rf.at⟩⟩
          · have g62 : ob < nb S := (p_ixN (by omega) (by omega)).mp c_62
            refine lv_iconst (v := nI 1) hx hb dX1_carryOut_65 rfl ?_
            refine lv_goto (tgt := 70) hx hb dX1_carryOut_66 (by decide) ?_
            refine lv_istore_n (lv' := [(3, .int (nI 1)), (2, .int (nI oa)), (0, .ref ((A 0))), (1, .ref ao)]) hx hb dX1_carryOut_70 rfl hl (Nat.le_of_ble_eq_true rfl) rfl (fun ls hl => ?_)
            refine lv_iload_n hx hb dX1_carryOut_71 rfl (lv_at hl 0 rfl) ?_
            refine lv_if_ne (tgt := 84) hx hb dX1_carryOut_72 (by decide) (fun c_72 => ?_) (fun c_72 => ?_)
            · refine lv_aload_n hx hb dX1_carryOut_84 rfl (lv_at hl 3 rfl) ?_
              refine gf_X1_225_7 CX hc_O.at rfl dX1_carryOut_85 ?_
              refine lv_lookup (off := 65) (tgt := 153) hx hb dX1_carryOut_88 (by decide) (by decide) (by decide) ?_
              refine lv_aload_n hx hb dX1_carryOut_153 rfl (lv_at hl 2 rfl) ?_
              refine lv_aload_n hx hb dX1_carryOut_154 rfl (lv_at hl 3 rfl) ?_
              refine gf_X1_233_7 CX hc_O.at rfl dX1_carryOut_155 ?_
              refine lv_aload_n hx hb dX1_carryOut_158 rfl (lv_at hl 3 rfl) ?_
              refine gf_X1_230_7 CX hc_O.at rfl dX1_carryOut_159 ?_
              refine lv_aload_n hx hb dX1_carryOut_162 rfl (lv_at hl 3 rfl) ?_
              refine gf_X1_241_7 CX hc_O.at rfl dX1_carryOut_163 ?_
              refine b_cq (cs_X1_176 (rest := []) CX hl.1 (m_X1_selling l (a := (A 0)) (s_ := oa) (b := ob) (w_ := nI om) ) rfl rfl rfl hc_X.at hS rfl ⟨rfl, rfl, Nat.le_of_ble_eq_true rfl, Nat.le_of_ble_eq_true rfl⟩ (Nat.le_of_ble_eq_true rfl) dX1_carryOut_166 ⟨Nat.le_of_ble_eq_true rfl, Nat.le_of_ble_eq_true rfl⟩) hS (fun r H7 locs hp hS => ?_)
              obtain ⟨q7, rfl, hE, hz, hB, hat⟩ := hp
              have hc_O := hc_O.ad (tb := 100) hE hz
              have hc_X := hc_X.ad (tb := 100) hE hz
              have hc_sv := hc_sv.ad (tb := 100) hE hz
              have hsa := fun h9 => (hsa h9).ad (tb := 100) hE hz
              have hc_tx := hc_tx.ad (tb := 100) hE hz
              have hc_tb := hc_tb.ad (tb := 100) hE hz
              have hc_tk := hc_tk.ad (tb := 100) hE hz
              have hL := hL.ad (tb := 100) hE hz
              have hV := hV.ad (tb := 100) hE hz
              have fr_dd : H.size ≤ q7 := Nat.le_trans hF.1 hz
              have hX := hX.tr hE
              have hA := hA.tr (b_Ag.ge (t := 100) hz) hF.1
              have hF := hF.ext hE
              have hc_dd : b_tt G B0 ((upT τ q7 100)) H7 q7 100 (.inr (10, [.ref (((A 0))), .int (nI ob), .int (nI oa), .int ((nI om)), .ref (((A 0)))])) := b_tt.mk hat hB
              refine lv_astore (lv' := [(4, .ref q7), (3, .int (nI 1)), (2, .int (nI oa)), (0, .ref ((A 0))), (1, .ref ao)]) hx hb dX1_carryOut_169 hl (Nat.le_of_ble_eq_true rfl) rfl (fun ls hl => ?_)
              refine lv_goto (tgt := 234) hx hb dX1_carryOut_171 (by decide) ?_
              refine lv_aload hx hb dX1_carryOut_234 (lv_at hl 0 rfl) ?_
              refine b_xv (cx_X1_244_10 (rest := []) CX hl.1 (m_X6_order_10 l (da := q7) (td := 100) (a := ((A 0))) (asv := (A 1)) (atx := (A 3)) (atk := (A 5)) (hs := hs) (b := ob) (s_ := oa) (w_ := (nI om)) hc_dd hc_X hL hW (by omega) (by omega) rfl (by omega) (by omega)) rfl hc_dd.at hS rfl ⟨rfl, rfl, Nat.le_of_ble_eq_true rfl, Nat.le_of_ble_eq_true rfl⟩ (Nat.le_of_ble_eq_true rfl) dX1_carryOut_236 ⟨Nat.le_of_ble_eq_true rfl, Nat.le_of_ble_eq_true rfl⟩) hS (fun E9 q9 Hx8 locs hx9 hS he9 => ?_) (fun H8 locs hp hS => ?_)
              · rw [← hQ]
                exact b_xout htb hlk he9 hS (Nat.le_of_ble_eq_true rfl) (Nat.le_of_ble_eq_true rfl) ((hx9.mv hX).cd (by simp [o_why, g26, g62]))
              obtain ⟨hk_236, hF9, hL9⟩ := hp
              have hc_O := hc_O.fr hF9 (show ¬ (1000 * d0 ≤ (to) ∧ (to) < 1000 * d0 + 1000) by omega)
              have hc_X := hc_X.fr hF9 (show ¬ (1000 * d0 ≤ 0 ∧ 0 < 1000 * d0 + 1000) by omega)
              have hc_sv := hc_sv.fr hF9 (show ¬ (1000 * d0 ≤ 1 ∧ 1 < 1000 * d0 + 1000) by omega)
              have hsa := fun h9 => (hsa h9).fr hF9 (show ¬ (1000 * d0 ≤ 2 ∧ 2 < 1000 * d0 + 1000) by omega)
              have hc_tx := hc_tx.fr hF9 (show ¬ (1000 * d0 ≤ 3 ∧ 3 < 1000 * d0 + 1000) by omega)
              have hc_tb := hc_tb.fr hF9 (show ¬ (1000 * d0 ≤ 4 ∧ 4 < 1000 * d0 + 1000) by omega)
              have hc_tk := hc_tk.fr hF9 (show ¬ (1000 * d0 ≤ 5 ∧ 5 < 1000 * d0 + 1000) by omega)
              have hV := hV.fr hF9 (fun k9 h1 h2 h3 i9 hi9 => show ¬ (1000 * d0 ≤ (1000 * k9 + i9) ∧ (1000 * k9 + i9) < 1000 * d0 + 1000) by omega)
              have hc_dd := hc_dd.fr hF9 (show ¬ (1000 * d0 ≤ 100 ∧ 100 < 1000 * d0 + 1000) by omega)
              have hz9 := hF.1
              have hF0 := hF.tr hA hF9 (fun q9 hq9 x9 => by have x8 : 1000 * d0 ≤ τ q9 ∧ τ q9 < 1000 * d0 + 1000 := x9; show τ q9 = 5 ∨ 1000 ≤ τ q9; omega)
              have hF := hF0
              have hL : LR G B0 ((upT τ q7 100)) d0 F M E H8 ((s_sell S oa ob ((nI om)))) Z := hL9
              have hw9 : o_why S 115 oa ob om = nI 0 := by
                refine Eq.trans ?_ hk_236
                simp [o_why, g26, g62]
              have e9 : (o_do S 115 oa ob om) = ((s_sell S oa ob ((nI om)))) := by simp [o_do]
              have hWn : b_WF ((s_sell S oa ob ((nI om)))) := by have h9 := hWd hw9; rw [e9] at h9; exact h9
              rw [← hQ]
              exact vx_ret (b_vret CX hr hlk hS (Nat.le_of_ble_eq_true rfl) (Nat.le_of_ble_eq_true rfl) dX1_carryOut_239 (⟨hw9, _, hA, hF, (by rw [e9]; exact ⟨d0, c0, ids, P0, F, M, E, Z, sm, rs, se, ml, hs, bt, tk9, hc_X, hc_sv, hsa, hse, hc_tx, hc_tb, hbt, hc_tk, hL, (pZ.of hZ (fun i j => by simp [s_sell, u3])), hWn, hV, hd0, hdc, hn, htn, ht⟩)⟩))
            · exact absurd c_72 (by decide)
        · exact absurd c_45 (by decide)
  · exact absurd c_6 (by decide)
theorem cx_X1_244_11 {p : Program} {l : Launch} {e : Env} {R : Room} {s : State} {m : MethodId} {args : Array Value} {below : List Frame} {meth : Method} {c : Code} {H : Heap} {locs : List Loc} {cells slots : Nat} {cc : ByteArray} {pc nL a : Nat} {ls : Array Slot} {rest : List Value} {G : b_G} {B0 : Nat} (CX : b_Cx p s m args c cc nL RX1 G B0) (hls : ls.size = nL) {rm : Room} {mc ms : Nat} {As st0 : List Value} {Qc : Array Value → State → Outcome → State → Prop} {XC : String → Addr → State → State → Prop} (hM : vx_Met l yX6_order (wsW_ yX6_order cX6_order 2 (Option.none) [((0 : Nat), (4 : Nat), (7 : Nat), (25 : Nat))]) rm (b_Pc G B0 H (.ref a :: As)) Qc XC mc ms (b_A B0)) (hn : As.length = 0) {fs : List Value} (hP : b_at G a (.inr (11, fs)) H) (hS : va_S (b_A B0) s.heap H locs) (hst : st0 = As.reverse ++ .ref a :: rest) (hr : rm.cells = mc ∧ rm.slots = ms ∧ rm.frames + 1 ≤ R.frames ∧ 8 + (2 + 11) + rm.locals ≤ R.locals) (hw : (rest.map fun v => v.category).sum ≤ 8) (hdg : decode cc pc = .ok (.invokevirtual 244, 3)) (hf : cells + mc ≤ R.cells ∧ slots + ms ≤ R.slots) : vx_Run p l e R s m args below meth c H locs cells slots mc ms (F0 m pc ls st0) rest (Qc (Value.ref a :: As).toArray) XC (b_A B0) := vx_runVX (C := RX14) CX.fix hM (b_cwVC 0 CX.ts q1731 q1732 q1736 q104 q1743 hr.1 hr.2.1 ⟨by decide, by decide, by decide +kernel⟩ ⟨hr.2.2.1, hr.2.2.2⟩) ⟨b_blind G B0 H _, b_recv CX.K (ci := 11) rfl hP, b_pre _ CX.K hS⟩ rfl hn hls hst (lv_room hw) hdg hf
set_option maxHeartbeats 2000000 in
set_option maxRecDepth 100000 in
theorem m_X1_carryOut_114 (l : Launch) {G : b_G} {B0 : Nat} {H : Heap} {τ : b_T} {A : Nat → Nat} {S : b_St} {n : Nat} {L : Nat → b_St} {tn : Nat} {t : Nat → Nat} {ao : Nat} {to : Nat} {oa : Nat} {ob : Nat} {om : Nat} (hc_O : b_tt G B0 τ H ao (to) (.inr (7, [.int (nI 114), .int (nI oa), .int (nI ob), .int (nI om)]))) (hXR : XR G B0 τ A H (S, n, L, tn, t)) (hto : 120 ≤ to ∧ to < 1000) (hok : o_ok 114 oa ob om) (hWd : o_why S 114 oa ob om = nI 0 → b_WF (o_do S 114 oa ob om)) (hpk : o_why S 114 oa ob om = nI 0 → 114 = 99 → p_picks S oa ob om) : vx_Met l yX1_carryOut (ws_ yX1_carryOut cX1_carryOut 5 (Option.none)) ({ frames := 10, cells := 5, slots := 29, locals := 260 } : Room) (b_Pc G B0 H [.ref ((A 0)), .ref ao]) (b_Qv B0 (fun H1 => o_why S 114 oa ob om = nI 0 ∧ ∃ τ1 : b_T, b_Ag τ τ1 H ∧ b_Fr τ (fun t => t = 5 ∨ 1000 ≤ t) H H1 ∧ XR G B0 τ1 A H1 ((o_do S 114 oa ob om), n, L, tn, t))) (b_X B0 (fun E9 q9 H9 => r_px G B0 H (o_why S 114 oa ob om) E9 q9 H9)) 5 29 (b_A B0) := by
  refine b_ofX (by decide) (Nat.le_of_ble_eq_true rfl) ?_
  intro p e s m below meth c CX hr hlk htb hS ls hl
  have CX : b_Cx p s m _ c cX1_carryOut 5 RX1 G B0 := CX
  have hx := CX.hx
  have hb := CX.hb
  have hl : lv_has ls 5 [(0, .ref ((A 0))), (1, .ref ao)] := hl
  generalize hQ : vx_MQ below (b_Qv B0 (fun H1 => o_why S 114 oa ob om = nI 0 ∧ ∃ τ1 : b_T, b_Ag τ τ1 H ∧ b_Fr τ (fun t => t = 5 ∨ 1000 ≤ t) H H1 ∧ XR G B0 τ1 A H1 ((o_do S 114 oa ob om), n, L, tn, t))) (b_X B0 (fun E9 q9 H9 => r_px G B0 H (o_why S 114 oa ob om) E9 q9 H9)) ([.ref ((A 0)), .ref ao] : List Value).toArray s 5 29 (b_A B0) = Q
  have hF : b_Fr τ (fun t => t = 5 ∨ 1000 ≤ t) H H := b_Fr.rf
  have hA : b_Ag τ τ H := b_Ag.rf
  have hX : b_Ext H H := b_Ext.rf
  obtain ⟨d0, c0, ids, P0, F, M, E, Z, sm, rs, se, ml, hs, bt, tk9, hc_X, hc_sv, hsa, hse, hc_tx, hc_tb, hbt, hc_tk, hL, hZ, hW, hV, hd0, hdc, hn, htn, ht⟩ := hXR
  have hc_X : b_tt G B0 τ H ((A 0)) 0 (.inr (0, [.ref ((F 0)), .ref ((A 1)), .ref ((A 3)), .ref ((A 5)), .long hs])) := hc_X
  have hc_sv : b_tt G B0 τ H ((A 1)) 1 (.inr (2, [.int sm, .ref ((if se = true then rs else G.2.2 0)), .int (nI n)])) := hc_sv
  have hsa : (se = true → b_tt G B0 τ H rs 2 (.inl (G.2.1 2, q_refs 10 (fun j => if j < n then some (P0 j) else none)))) := hsa
  have hc_tx : b_tt G B0 τ H ((A 3)) 3 (.inr (3, [.ref ((A 4)), .int (nI 0), .int ml, .int (nI tn)])) := hc_tx
  have hc_tb : b_tt G B0 τ H ((A 4)) 4 (.inl (G.2.1 1, 60, .inl bt)) := hc_tb
  have hc_tk : b_tt G B0 τ H ((A 5)) 5 (.inl (G.2.1 0, 8, .inl tk9)) := hc_tk
  have hL : LR G B0 τ d0 F M E H S Z := hL
  have hV : SV G B0 τ d0 c0 n ids P0 H L := hV
  have hn8 := hL.2.2.2.1
  have hn6 := hL.2.2.2.2
  have hnb : nb S = nb S := rfl
  have hns : ns S = ns S := rfl
  have hn : n ≤ 6 := hn
  have htn : tn ≤ 60 := htn
  have ht : ∀ j, t j < 128 := ht
  have hse : se = true ∨ n = 0 := hse
  have hZ : pZ Z S := hZ
  have hW : b_WF S := hW
  have hbt : ∀ j, j < tn → bt j = nI (t j) := hbt
  obtain ⟨k1, k2, k3, k4, k5, k6, k7⟩ := hok
  refine lv_aload_n hx hb dX1_carryOut_0 rfl (lv_at hl 1 rfl) ?_
  refine gf_X1_225_7 CX hc_O.at rfl dX1_carryOut_1 ?_
  refine lv_bipush (v := nI 100) hx hb dX1_carryOut_4 rfl ?_
  refine b_icmp_neN (tgt := 16) CX (by omega) (by omega) dX1_carryOut_6 (by decide) (fun c_6 => ?_) (fun c_6 => ?_)
  · refine lv_aload_n hx hb dX1_carryOut_16 rfl (lv_at hl 1 rfl) ?_
    refine gf_X1_233_7 CX hc_O.at rfl dX1_carryOut_17 ?_
    refine lv_istore_n (lv' := [(2, .int (nI oa)), (0, .ref ((A 0))), (1, .ref ao)]) hx hb dX1_carryOut_20 rfl hl (Nat.le_of_ble_eq_true rfl) rfl (fun ls hl => ?_)
    refine lv_aload_n hx hb dX1_carryOut_21 rfl (lv_at hl 1 rfl) ?_
    refine lv_iload_n hx hb dX1_carryOut_22 rfl (lv_at hl 0 rfl) ?_
    refine b_ci0 (cs_X1_162 (rest := []) CX hl.1 (m_X1_isShop l (a := (A 0)) (asv := (A 1)) (atx := (A 3)) (atk := (A 5)) (hs := hs) (x := nI oa) hc_X hL hW) rfl rfl rfl hc_X.at hS rfl ⟨rfl, rfl, Nat.le_of_ble_eq_true rfl, Nat.le_of_ble_eq_true rfl⟩ (Nat.le_of_ble_eq_true rfl) dX1_carryOut_23 ⟨Nat.le_of_ble_eq_true rfl, Nat.le_of_ble_eq_true rfl⟩) hS (fun locs hS => ?_)
    refine b_ifeq (tgt := 69) CX dX1_carryOut_26 (by decide) (fun c_26 => ?_) (fun c_26 => ?_)
    · have g26 : ¬ oa < ns S := fun q9 => c_26 ((p_ixN (by omega) (by omega)).mpr q9)
      refine lv_iconst (v := nI 0) hx hb dX1_carryOut_69 rfl ?_
      refine lv_istore_n (lv' := [(3, .int (nI 0)), (2, .int (nI oa)), (0, .ref ((A 0))), (1, .ref ao)]) hx hb dX1_carryOut_70 rfl hl (Nat.le_of_ble_eq_true rfl) rfl (fun ls hl => ?_)
      refine lv_iload_n hx hb dX1_carryOut_71 rfl (lv_at hl 0 rfl) ?_
      refine lv_if_ne (tgt := 84) hx hb dX1_carryOut_72 (by decide) (fun c_72 => ?_) (fun c_72 => ?_)
      · exact absurd c_72 (by decide)
      · refine b_newM CX in_X22 tyX22 tyX22_ok (ci := 21) rfl q1711 q1717 q124 (fs := [.null, .null, .null, .null, .null, .int (nI 0)]) (nofn_X22) hS (Nat.le_of_ble_eq_true rfl) (Nat.le_of_ble_eq_true rfl) dX1_carryOut_75 (fun q2 H2 hq hB hat hsz hE hmo hS => ?_)
        have hc_O := hc_O.new (tb := 102) hE hq
        have hc_X := hc_X.new (tb := 102) hE hq
        have hc_sv := hc_sv.new (tb := 102) hE hq
        have hsa := fun h9 => (hsa h9).new (tb := 102) hE hq
        have hc_tx := hc_tx.new (tb := 102) hE hq
        have hc_tb := hc_tb.new (tb := 102) hE hq
        have hc_tk := hc_tk.new (tb := 102) hE hq
        have hL := hL.new (tb := 102) hE hq
        have hV := hV.new (tb := 102) hE hq
        have fr_rf : H.size ≤ q2 := by rw [hq]; exact hF.1
        have hX := hX.tr hE
        have hA := hA.tr (b_Ag.new (t := 102) hq) hF.1
        have hF := hF.ext hE
        have hc_rf : b_tt G B0 ((upT τ q2 102)) H2 q2 102 (.inr (21, [.null, .null, .null, .null, .null, .int (nI 0)])) := b_tt.mk hat hB
        refine lv_dup hx hb dX1_carryOut_78 rfl ?_
        refine lv_null hx hb dX1_carryOut_79 ?_
        refine b_cv (cs_X1_238 (rest := [.ref q2]) CX hl.1 (m_X22_init_n l (a := q2) (ta := 102) hc_rf hmo) rfl hS rfl ⟨rfl, rfl, Nat.le_of_ble_eq_true rfl, Nat.le_of_ble_eq_true rfl⟩ (Nat.le_of_ble_eq_true rfl) dX1_carryOut_80 ⟨Nat.le_of_ble_eq_true rfl, Nat.le_of_ble_eq_true rfl⟩) hS (fun H3 locs hp hS => ?_)
        obtain ⟨hu, hmo, hx0⟩ := hp
        have hc_O := hc_O.up hu hc_rf.tag (by omega)
        have hc_X := hc_X.up hu hc_rf.tag (by decide)
        have hc_sv := hc_sv.up hu hc_rf.tag (by decide)
        have hsa := fun h9 => (hsa h9).up hu hc_rf.tag (by omega)
        have hc_tx := hc_tx.up hu hc_rf.tag (by decide)
        have hc_tb := hc_tb.up hu hc_rf.tag (by decide)
        have hc_tk := hc_tk.up hu hc_rf.tag (by decide)
        have hL := hL.up hu hc_rf.tag (by omega)
        have hV := hV.up hu hc_rf.tag (fun k9 h1 h2 h3 => by omega)
        have hX := hX.up hu fr_rf
        have hF := hF.up hA hu hc_rf.tag (fun q9 => absurd q9 (Nat.not_lt.mpr fr_rf))
        have hc_rf : b_tt G B0 ((upT τ q2 102)) H3 q2 102 (.inr (21, [.null, .null, .null, .null, .null, .int (nI 0)])) := hx0
        refine b_athrow CX dX1_carryOut_83 ?_
        rw [← hQ]
        exact b_xout htb hlk (b_thof CX (ci := 21) rfl hc_rf.at) hS (Nat.le_of_ble_eq_true rfl) (Nat.le_of_ble_eq_true rfl) ⟨hX, rfl, hc_rf.B, hmo, Or.inl ⟨(by simp [o_why, g26]), hc_rf.at⟩⟩
    · have g26 : oa < ns S := (p_ixN (by omega) (by omega)).mp c_26
      refine lv_aload_n hx hb dX1_carryOut_29 rfl (lv_at hl 2 rfl) ?_
      refine gf_X1_225_7 CX hc_O.at rfl dX1_carryOut_30 ?_
      refine lv_bipush (v := nI 99) hx hb dX1_carryOut_33 rfl ?_
      refine b_icmp_eqN (tgt := 65) CX (by omega) (by omega) dX1_carryOut_35 (by decide) (fun c_35 => ?_) (fun c_35 => ?_)
      · exact absurd c_35 (by decide)
      · refine lv_aload_n hx hb dX1_carryOut_38 rfl (lv_at hl 1 rfl) ?_
        refine lv_aload_n hx hb dX1_carryOut_39 rfl (lv_at hl 2 rfl) ?_
        refine gf_X1_225_7 CX hc_O.at rfl dX1_carryOut_40 ?_
        refine lv_bipush (v := nI 100) hx hb dX1_carryOut_43 rfl ?_
        refine b_icmp_neN (tgt := 55) CX (by omega) (by omega) dX1_carryOut_45 (by decide) (fun c_45 => ?_) (fun c_45 => ?_)
        · refine lv_aload_n hx hb dX1_carryOut_55 rfl (lv_at hl 2 rfl) ?_
          refine gf_X1_230_7 CX hc_O.at rfl dX1_carryOut_56 ?_
          refine b_ci0 (cs_X1_151 (rest := []) CX hl.1 (m_X1_isBrand l (a := (A 0)) (asv := (A 1)) (atx := (A 3)) (atk := (A 5)) (hs := hs) (x := nI ob) hc_X hL hW) rfl rfl rfl hc_X.at hS rfl ⟨rfl, rfl, Nat.le_of_ble_eq_true rfl, Nat.le_of_ble_eq_true rfl⟩ (Nat.le_of_ble_eq_true rfl) dX1_carryOut_59 ⟨Nat.le_of_ble_eq_true rfl, Nat.le_of_ble_eq_true rfl⟩) hS (fun locs hS => ?_)
          refine b_ifeq (tgt := 69) CX dX1_carryOut_62 (by decide) (fun c_62 => ?_) (fun c_62 => ?_)
          · have g62 : ¬ ob < nb S := fun q9 => c_62 ((p_ixN (by omega) (by omega)).mpr q9)
            refine lv_iconst (v := nI 0) hx hb dX1_carryOut_69 rfl ?_
            refine lv_istore_n (lv' := [(3, .int (nI 0)), (2, .int (nI oa)), (0, .ref ((A 0))), (1, .ref ao)]) hx hb dX1_carryOut_70 rfl hl (Nat.le_of_ble_eq_true rfl) rfl (fun ls hl => ?_)
            refine lv_iload_n hx hb dX1_carryOut_71 rfl (lv_at hl 0 rfl) ?_
            refine lv_if_ne (tgt := 84) hx hb dX1_carryOut_72 (by decide) (fun c_72 => ?_) (fun c_72 => ?_)
            · exact absurd c_72 (by decide)
            · refine b_newM CX in_X22 tyX22 tyX22_ok (ci := 21) rfl q1711 q1717 q124 (fs := [.null, .null, .null, .null, .null, .int (nI 0)]) (nofn_X22) hS (Nat.le_of_ble_eq_true rfl) (Nat.le_of_ble_eq_true rfl) dX1_carryOut_75 (fun q5 H5 hq hB hat hsz hE hmo hS => ?_)
              have hc_O := hc_O.new (tb := 102) hE hq
              have hc_X := hc_X.new (tb := 102) hE hq
              have hc_sv := hc_sv.new (tb := 102) hE hq
              have hsa := fun h9 => (hsa h9).new (tb := 102) hE hq
              have hc_tx := hc_tx.new (tb := 102) hE hq
              have hc_tb := hc_tb.new (tb := 102) hE hq
              have hc_tk := hc_tk.new (tb := 102) hE hq
              have hL := hL.new (tb := 102) hE hq
              have hV := hV.new (tb := 102) hE hq
              have fr_rf : H.size ≤ q5 := by rw [hq]; exact hF.1
              have hX := hX.tr hE
              have hA := hA.tr (b_Ag.new (t := 102) hq) hF.1
              have hF := hF.ext hE
              have hc_rf : b_tt G B0 ((upT τ q5 102)) H5 q5 102 (.inr (21, [.null, .null, .null, .null, .null, .int (nI 0)])) := b_tt.mk hat hB
              refine lv_dup hx hb dX1_carryOut_78 rfl ?_
              refine lv_null hx hb dX1_carryOut_79 ?_
              refine b_cv (cs_X1_238 (rest := [.ref q5]) CX hl.1 (m_X22_init_n l (a := q5) (ta := 102) hc_rf hmo) rfl hS rfl ⟨rfl, rfl, Nat.le_of_ble_eq_true rfl, Nat.le_of_ble_eq_true rfl⟩ (Nat.le_of_ble_eq_true rfl) dX1_carryOut_80 ⟨Nat.le_of_ble_eq_true rfl, Nat.le_of_ble_eq_true rfl⟩) hS (fun H6 locs hp hS => ?_)
              obtain ⟨hu, hmo, hx0⟩ := hp
              have hc_O := hc_O.up hu hc_rf.tag (by omega)
              have hc_X := hc_X.up hu hc_rf.tag (by decide)
              have hc_sv := hc_sv.up hu hc_rf.tag (by decide)
              have hsa := fun h9 => (hsa h9).up hu hc_rf.tag (by omega)
              have hc_tx := hc_tx.up hu hc_rf.tag (by decide)
              have hc_tb := hc_tb.up hu hc_rf.tag (by decide)
              have hc_tk := hc_tk.up hu hc_rf.tag (by decide)
              have hL := hL.up hu hc_rf.tag (by omega)
              have hV := hV.up hu hc_rf.tag (fun k9 h1 h2 h3 => by omega)
              have hX := hX.up hu fr_rf
              have hF := hF.up hA hu hc_rf.tag (fun q9 => absurd q9 (Nat.not_lt.mpr fr_rf))
              have hc_rf : b_tt G B0 ((upT τ q5 102)) H6 q5 102 (.inr (21, [.null, .null, .null, .null, .null, .int (nI 0)])) := hx0
              refine b_athrow CX dX1_carryOut_83 ?_
              rw [← hQ]
              exact b_xout htb hlk (b_thof CX (ci := 21) rfl hc_rf.at) hS (Nat.le_of_ble_eq_true rfl) (Nat.le_of_ble_eq_true rfl) ⟨hX, rfl, hc_rf.B, hmo, Or.inl ⟨(by simp [o_why, g26, g62]), hc_rf.at⟩⟩
          · have g62 : ob < nb S := (p_ixN (by omega) (by omega)).mp c_62
            refine lv_iconst (v := nI 1) hx hb dX1_carryOut_65 rfl ?_
            refine lv_goto (tgt := 70) hx hb dX1_carryOut_66 (by decide) ?_
            refine lv_istore_n (lv' := [(3, .int (nI 1)), (2, .int (nI oa)), (0, .ref ((A 0))), (1, .ref ao)]) hx hb dX1_carryOut_70 rfl hl (Nat.le_of_ble_eq_true rfl) rfl (fun ls hl => ?_)
            refine lv_iload_n hx hb dX1_carryOut_71 rfl (lv_at hl 0 rfl) ?_
            refine lv_if_ne (tgt := 84) hx hb dX1_carryOut_72 (by decide) (fun c_72 => ?_) (fun c_72 => ?_)
            · refine lv_aload_n hx hb dX1_carryOut_84 rfl (lv_at hl 3 rfl) ?_
              refine gf_X1_225_7 CX hc_O.at rfl dX1_carryOut_85 ?_
              refine lv_lookup (off := 86) (tgt := 174) hx hb dX1_carryOut_88 (by decide) (by decide) (by decide) ?_
              refine lv_aload_n hx hb dX1_carryOut_174 rfl (lv_at hl 2 rfl) ?_
              refine lv_aload_n hx hb dX1_carryOut_175 rfl (lv_at hl 3 rfl) ?_
              refine gf_X1_233_7 CX hc_O.at rfl dX1_carryOut_176 ?_
              refine lv_aload_n hx hb dX1_carryOut_179 rfl (lv_at hl 3 rfl) ?_
              refine gf_X1_230_7 CX hc_O.at rfl dX1_carryOut_180 ?_
              refine lv_aload_n hx hb dX1_carryOut_183 rfl (lv_at hl 3 rfl) ?_
              refine gf_X1_241_7 CX hc_O.at rfl dX1_carryOut_184 ?_
              refine b_cq (cs_X1_179 (rest := []) CX hl.1 (m_X1_taking l (a := (A 0)) (s_ := oa) (b := ob) (w_ := nI om) ) rfl rfl rfl hc_X.at hS rfl ⟨rfl, rfl, Nat.le_of_ble_eq_true rfl, Nat.le_of_ble_eq_true rfl⟩ (Nat.le_of_ble_eq_true rfl) dX1_carryOut_187 ⟨Nat.le_of_ble_eq_true rfl, Nat.le_of_ble_eq_true rfl⟩) hS (fun r H7 locs hp hS => ?_)
              obtain ⟨q7, rfl, hE, hz, hB, hat⟩ := hp
              have hc_O := hc_O.ad (tb := 100) hE hz
              have hc_X := hc_X.ad (tb := 100) hE hz
              have hc_sv := hc_sv.ad (tb := 100) hE hz
              have hsa := fun h9 => (hsa h9).ad (tb := 100) hE hz
              have hc_tx := hc_tx.ad (tb := 100) hE hz
              have hc_tb := hc_tb.ad (tb := 100) hE hz
              have hc_tk := hc_tk.ad (tb := 100) hE hz
              have hL := hL.ad (tb := 100) hE hz
              have hV := hV.ad (tb := 100) hE hz
              have fr_dd : H.size ≤ q7 := Nat.le_trans hF.1 hz
              have hX := hX.tr hE
              have hA := hA.tr (b_Ag.ge (t := 100) hz) hF.1
              have hF := hF.ext hE
              have hc_dd : b_tt G B0 ((upT τ q7 100)) H7 q7 100 (.inr (11, [.ref (((A 0))), .int (nI ob), .int (nI oa), .int ((nI om)), .ref (((A 0)))])) := b_tt.mk hat hB
              refine lv_astore (lv' := [(4, .ref q7), (3, .int (nI 1)), (2, .int (nI oa)), (0, .ref ((A 0))), (1, .ref ao)]) hx hb dX1_carryOut_190 hl (Nat.le_of_ble_eq_true rfl) rfl (fun ls hl => ?_)
              refine lv_goto (tgt := 234) hx hb dX1_carryOut_192 (by decide) ?_
              refine lv_aload hx hb dX1_carryOut_234 (lv_at hl 0 rfl) ?_
              refine b_xv (cx_X1_244_11 (rest := []) CX hl.1 (m_X6_order_11 l (da := q7) (td := 100) (a := ((A 0))) (asv := (A 1)) (atx := (A 3)) (atk := (A 5)) (hs := hs) (b := ob) (s_ := oa) (w_ := (nI om)) hc_dd hc_X hL hW (by omega) (by omega) rfl (by omega) (by omega)) rfl hc_dd.at hS rfl ⟨rfl, rfl, Nat.le_of_ble_eq_true rfl, Nat.le_of_ble_eq_true rfl⟩ (Nat.le_of_ble_eq_true rfl) dX1_carryOut_236 ⟨Nat.le_of_ble_eq_true rfl, Nat.le_of_ble_eq_true rfl⟩) hS (fun E9 q9 Hx8 locs hx9 hS he9 => ?_) (fun H8 locs hp hS => ?_)
              · rw [← hQ]
                exact b_xout htb hlk he9 hS (Nat.le_of_ble_eq_true rfl) (Nat.le_of_ble_eq_true rfl) ((hx9.mv hX).cd (by simp [o_why, g26, g62]))
              obtain ⟨hk_236, hF9, hL9⟩ := hp
              have hc_O := hc_O.fr hF9 (show ¬ (1000 * d0 ≤ (to) ∧ (to) < 1000 * d0 + 1000) by omega)
              have hc_X := hc_X.fr hF9 (show ¬ (1000 * d0 ≤ 0 ∧ 0 < 1000 * d0 + 1000) by omega)
              have hc_sv := hc_sv.fr hF9 (show ¬ (1000 * d0 ≤ 1 ∧ 1 < 1000 * d0 + 1000) by omega)
              have hsa := fun h9 => (hsa h9).fr hF9 (show ¬ (1000 * d0 ≤ 2 ∧ 2 < 1000 * d0 + 1000) by omega)
              have hc_tx := hc_tx.fr hF9 (show ¬ (1000 * d0 ≤ 3 ∧ 3 < 1000 * d0 + 1000) by omega)
              have hc_tb := hc_tb.fr hF9 (show ¬ (1000 * d0 ≤ 4 ∧ 4 < 1000 * d0 + 1000) by omega)
              have hc_tk := hc_tk.fr hF9 (show ¬ (1000 * d0 ≤ 5 ∧ 5 < 1000 * d0 + 1000) by omega)
              have hV := hV.fr hF9 (fun k9 h1 h2 h3 i9 hi9 => show ¬ (1000 * d0 ≤ (1000 * k9 + i9) ∧ (1000 * k9 + i9) < 1000 * d0 + 1000) by omega)
              have hc_dd := hc_dd.fr hF9 (show ¬ (1000 * d0 ≤ 100 ∧ 100 < 1000 * d0 + 1000) by omega)
              have hz9 := hF.1
              have hF0 := hF.tr hA hF9 (fun q9 hq9 x9 => by have x8 : 1000 * d0 ≤ τ q9 ∧ τ q9 < 1000 * d0 + 1000 := x9; show τ q9 = 5 ∨ 1000 ≤ τ q9; omega)
              have hF := hF0
              have hL : LR G B0 ((upT τ q7 100)) d0 F M E H8 ((s_take S oa ob ((nI om)))) Z := hL9
              have hw9 : o_why S 114 oa ob om = nI 0 := by
                refine Eq.trans ?_ hk_236
                simp [o_why, g26, g62]
              have e9 : (o_do S 114 oa ob om) = ((s_take S oa ob ((nI om)))) := by simp [o_do]
              have hWn : b_WF ((s_take S oa ob ((nI om)))) := by have h9 := hWd hw9; rw [e9] at h9; exact h9
              rw [← hQ]
              exact vx_ret (b_vret CX hr hlk hS (Nat.le_of_ble_eq_true rfl) (Nat.le_of_ble_eq_true rfl) dX1_carryOut_239 (⟨hw9, _, hA, hF, (by rw [e9]; exact ⟨d0, c0, ids, P0, F, M, E, Z, sm, rs, se, ml, hs, bt, tk9, hc_X, hc_sv, hsa, hse, hc_tx, hc_tb, hbt, hc_tk, hL, (pZ.of hZ (fun i j => by simp [s_take, u3])), hWn, hV, hd0, hdc, hn, htn, ht⟩)⟩))
            · exact absurd c_72 (by decide)
        · exact absurd c_45 (by decide)
  · exact absurd c_6 (by decide)
theorem cx_X1_244_12 {p : Program} {l : Launch} {e : Env} {R : Room} {s : State} {m : MethodId} {args : Array Value} {below : List Frame} {meth : Method} {c : Code} {H : Heap} {locs : List Loc} {cells slots : Nat} {cc : ByteArray} {pc nL a : Nat} {ls : Array Slot} {rest : List Value} {G : b_G} {B0 : Nat} (CX : b_Cx p s m args c cc nL RX1 G B0) (hls : ls.size = nL) {rm : Room} {mc ms : Nat} {As st0 : List Value} {Qc : Array Value → State → Outcome → State → Prop} {XC : String → Addr → State → State → Prop} (hM : vx_Met l yX6_order (wsW_ yX6_order cX6_order 2 (Option.none) [((0 : Nat), (4 : Nat), (7 : Nat), (25 : Nat))]) rm (b_Pc G B0 H (.ref a :: As)) Qc XC mc ms (b_A B0)) (hn : As.length = 0) {fs : List Value} (hP : b_at G a (.inr (12, fs)) H) (hS : va_S (b_A B0) s.heap H locs) (hst : st0 = As.reverse ++ .ref a :: rest) (hr : rm.cells = mc ∧ rm.slots = ms ∧ rm.frames + 1 ≤ R.frames ∧ 8 + (2 + 11) + rm.locals ≤ R.locals) (hw : (rest.map fun v => v.category).sum ≤ 8) (hdg : decode cc pc = .ok (.invokevirtual 244, 3)) (hf : cells + mc ≤ R.cells ∧ slots + ms ≤ R.slots) : vx_Run p l e R s m args below meth c H locs cells slots mc ms (F0 m pc ls st0) rest (Qc (Value.ref a :: As).toArray) XC (b_A B0) := vx_runVX (C := RX15) CX.fix hM (b_cwVC 0 CX.ts q1731 q1732 q1737 q104 q1743 hr.1 hr.2.1 ⟨by decide, by decide, by decide +kernel⟩ ⟨hr.2.2.1, hr.2.2.2⟩) ⟨b_blind G B0 H _, b_recv CX.K (ci := 12) rfl hP, b_pre _ CX.K hS⟩ rfl hn hls hst (lv_room hw) hdg hf
set_option maxHeartbeats 2000000 in
set_option maxRecDepth 100000 in
theorem m_X1_carryOut_98 (l : Launch) {G : b_G} {B0 : Nat} {H : Heap} {τ : b_T} {A : Nat → Nat} {S : b_St} {n : Nat} {L : Nat → b_St} {tn : Nat} {t : Nat → Nat} {ao : Nat} {to : Nat} {oa : Nat} {ob : Nat} {om : Nat} (hc_O : b_tt G B0 τ H ao (to) (.inr (7, [.int (nI 98), .int (nI oa), .int (nI ob), .int (nI om)]))) (hXR : XR G B0 τ A H (S, n, L, tn, t)) (hto : 120 ≤ to ∧ to < 1000) (hok : o_ok 98 oa ob om) (hWd : o_why S 98 oa ob om = nI 0 → b_WF (o_do S 98 oa ob om)) (hpk : o_why S 98 oa ob om = nI 0 → 98 = 99 → p_picks S oa ob om) : vx_Met l yX1_carryOut (ws_ yX1_carryOut cX1_carryOut 5 (Option.none)) ({ frames := 10, cells := 5, slots := 29, locals := 260 } : Room) (b_Pc G B0 H [.ref ((A 0)), .ref ao]) (b_Qv B0 (fun H1 => o_why S 98 oa ob om = nI 0 ∧ ∃ τ1 : b_T, b_Ag τ τ1 H ∧ b_Fr τ (fun t => t = 5 ∨ 1000 ≤ t) H H1 ∧ XR G B0 τ1 A H1 ((o_do S 98 oa ob om), n, L, tn, t))) (b_X B0 (fun E9 q9 H9 => r_px G B0 H (o_why S 98 oa ob om) E9 q9 H9)) 5 29 (b_A B0) := by
  refine b_ofX (by decide) (Nat.le_of_ble_eq_true rfl) ?_
  intro p e s m below meth c CX hr hlk htb hS ls hl
  have CX : b_Cx p s m _ c cX1_carryOut 5 RX1 G B0 := CX
  have hx := CX.hx
  have hb := CX.hb
  have hl : lv_has ls 5 [(0, .ref ((A 0))), (1, .ref ao)] := hl
  generalize hQ : vx_MQ below (b_Qv B0 (fun H1 => o_why S 98 oa ob om = nI 0 ∧ ∃ τ1 : b_T, b_Ag τ τ1 H ∧ b_Fr τ (fun t => t = 5 ∨ 1000 ≤ t) H H1 ∧ XR G B0 τ1 A H1 ((o_do S 98 oa ob om), n, L, tn, t))) (b_X B0 (fun E9 q9 H9 => r_px G B0 H (o_why S 98 oa ob om) E9 q9 H9)) ([.ref ((A 0)), .ref ao] : List Value).toArray s 5 29 (b_A B0) = Q
  have hF : b_Fr τ (fun t => t = 5 ∨ 1000 ≤ t) H H := b_Fr.rf
  have hA : b_Ag τ τ H := b_Ag.rf
  have hX : b_Ext H H := b_Ext.rf
  obtain ⟨d0, c0, ids, P0, F, M, E, Z, sm, rs, se, ml, hs, bt, tk9, hc_X, hc_sv, hsa, hse, hc_tx, hc_tb, hbt, hc_tk, hL, hZ, hW, hV, hd0, hdc, hn, htn, ht⟩ := hXR
  have hc_X : b_tt G B0 τ H ((A 0)) 0 (.inr (0, [.ref ((F 0)), .ref ((A 1)), .ref ((A 3)), .ref ((A 5)), .long hs])) := hc_X
  have hc_sv : b_tt G B0 τ H ((A 1)) 1 (.inr (2, [.int sm, .ref ((if se = true then rs else G.2.2 0)), .int (nI n)])) := hc_sv
  have hsa : (se = true → b_tt G B0 τ H rs 2 (.inl (G.2.1 2, q_refs 10 (fun j => if j < n then some (P0 j) else none)))) := hsa
  have hc_tx : b_tt G B0 τ H ((A 3)) 3 (.inr (3, [.ref ((A 4)), .int (nI 0), .int ml, .int (nI tn)])) := hc_tx
  have hc_tb : b_tt G B0 τ H ((A 4)) 4 (.inl (G.2.1 1, 60, .inl bt)) := hc_tb
  have hc_tk : b_tt G B0 τ H ((A 5)) 5 (.inl (G.2.1 0, 8, .inl tk9)) := hc_tk
  have hL : LR G B0 τ d0 F M E H S Z := hL
  have hV : SV G B0 τ d0 c0 n ids P0 H L := hV
  have hn8 := hL.2.2.2.1
  have hn6 := hL.2.2.2.2
  have hnb : nb S = nb S := rfl
  have hns : ns S = ns S := rfl
  have hn : n ≤ 6 := hn
  have htn : tn ≤ 60 := htn
  have ht : ∀ j, t j < 128 := ht
  have hse : se = true ∨ n = 0 := hse
  have hZ : pZ Z S := hZ
  have hW : b_WF S := hW
  have hbt : ∀ j, j < tn → bt j = nI (t j) := hbt
  obtain ⟨k1, k2, k3, k4, k5, k6, k7⟩ := hok
  refine lv_aload_n hx hb dX1_carryOut_0 rfl (lv_at hl 1 rfl) ?_
  refine gf_X1_225_7 CX hc_O.at rfl dX1_carryOut_1 ?_
  refine lv_bipush (v := nI 100) hx hb dX1_carryOut_4 rfl ?_
  refine b_icmp_neN (tgt := 16) CX (by omega) (by omega) dX1_carryOut_6 (by decide) (fun c_6 => ?_) (fun c_6 => ?_)
  · refine lv_aload_n hx hb dX1_carryOut_16 rfl (lv_at hl 1 rfl) ?_
    refine gf_X1_233_7 CX hc_O.at rfl dX1_carryOut_17 ?_
    refine lv_istore_n (lv' := [(2, .int (nI oa)), (0, .ref ((A 0))), (1, .ref ao)]) hx hb dX1_carryOut_20 rfl hl (Nat.le_of_ble_eq_true rfl) rfl (fun ls hl => ?_)
    refine lv_aload_n hx hb dX1_carryOut_21 rfl (lv_at hl 1 rfl) ?_
    refine lv_iload_n hx hb dX1_carryOut_22 rfl (lv_at hl 0 rfl) ?_
    refine b_ci0 (cs_X1_162 (rest := []) CX hl.1 (m_X1_isShop l (a := (A 0)) (asv := (A 1)) (atx := (A 3)) (atk := (A 5)) (hs := hs) (x := nI oa) hc_X hL hW) rfl rfl rfl hc_X.at hS rfl ⟨rfl, rfl, Nat.le_of_ble_eq_true rfl, Nat.le_of_ble_eq_true rfl⟩ (Nat.le_of_ble_eq_true rfl) dX1_carryOut_23 ⟨Nat.le_of_ble_eq_true rfl, Nat.le_of_ble_eq_true rfl⟩) hS (fun locs hS => ?_)
    refine b_ifeq (tgt := 69) CX dX1_carryOut_26 (by decide) (fun c_26 => ?_) (fun c_26 => ?_)
    · have g26 : ¬ oa < ns S := fun q9 => c_26 ((p_ixN (by omega) (by omega)).mpr q9)
      refine lv_iconst (v := nI 0) hx hb dX1_carryOut_69 rfl ?_
      refine lv_istore_n (lv' := [(3, .int (nI 0)), (2, .int (nI oa)), (0, .ref ((A 0))), (1, .ref ao)]) hx hb dX1_carryOut_70 rfl hl (Nat.le_of_ble_eq_true rfl) rfl (fun ls hl => ?_)
      refine lv_iload_n hx hb dX1_carryOut_71 rfl (lv_at hl 0 rfl) ?_
      refine lv_if_ne (tgt := 84) hx hb dX1_carryOut_72 (by decide) (fun c_72 => ?_) (fun c_72 => ?_)
      · exact absurd c_72 (by decide)
      · refine b_newM CX in_X22 tyX22 tyX22_ok (ci := 21) rfl q1711 q1717 q124 (fs := [.null, .null, .null, .null, .null, .int (nI 0)]) (nofn_X22) hS (Nat.le_of_ble_eq_true rfl) (Nat.le_of_ble_eq_true rfl) dX1_carryOut_75 (fun q2 H2 hq hB hat hsz hE hmo hS => ?_)
        have hc_O := hc_O.new (tb := 102) hE hq
        have hc_X := hc_X.new (tb := 102) hE hq
        have hc_sv := hc_sv.new (tb := 102) hE hq
        have hsa := fun h9 => (hsa h9).new (tb := 102) hE hq
        have hc_tx := hc_tx.new (tb := 102) hE hq
        have hc_tb := hc_tb.new (tb := 102) hE hq
        have hc_tk := hc_tk.new (tb := 102) hE hq
        have hL := hL.new (tb := 102) hE hq
        have hV := hV.new (tb := 102) hE hq
        have fr_rf : H.size ≤ q2 := by rw [hq]; exact hF.1
        have hX := hX.tr hE
        have hA := hA.tr (b_Ag.new (t := 102) hq) hF.1
        have hF := hF.ext hE
        have hc_rf : b_tt G B0 ((upT τ q2 102)) H2 q2 102 (.inr (21, [.null, .null, .null, .null, .null, .int (nI 0)])) := b_tt.mk hat hB
        refine lv_dup hx hb dX1_carryOut_78 rfl ?_
        refine lv_null hx hb dX1_carryOut_79 ?_
        refine b_cv (cs_X1_238 (rest := [.ref q2]) CX hl.1 (m_X22_init_n l (a := q2) (ta := 102) hc_rf hmo) rfl hS rfl ⟨rfl, rfl, Nat.le_of_ble_eq_true rfl, Nat.le_of_ble_eq_true rfl⟩ (Nat.le_of_ble_eq_true rfl) dX1_carryOut_80 ⟨Nat.le_of_ble_eq_true rfl, Nat.le_of_ble_eq_true rfl⟩) hS (fun H3 locs hp hS => ?_)
        obtain ⟨hu, hmo, hx0⟩ := hp
        have hc_O := hc_O.up hu hc_rf.tag (by omega)
        have hc_X := hc_X.up hu hc_rf.tag (by decide)
        have hc_sv := hc_sv.up hu hc_rf.tag (by decide)
        have hsa := fun h9 => (hsa h9).up hu hc_rf.tag (by omega)
        have hc_tx := hc_tx.up hu hc_rf.tag (by decide)
        have hc_tb := hc_tb.up hu hc_rf.tag (by decide)
        have hc_tk := hc_tk.up hu hc_rf.tag (by decide)
        have hL := hL.up hu hc_rf.tag (by omega)
        have hV := hV.up hu hc_rf.tag (fun k9 h1 h2 h3 => by omega)
        have hX := hX.up hu fr_rf
        have hF := hF.up hA hu hc_rf.tag (fun q9 => absurd q9 (Nat.not_lt.mpr fr_rf))
        have hc_rf : b_tt G B0 ((upT τ q2 102)) H3 q2 102 (.inr (21, [.null, .null, .null, .null, .null, .int (nI 0)])) := hx0
        refine b_athrow CX dX1_carryOut_83 ?_
        rw [← hQ]
        exact b_xout htb hlk (b_thof CX (ci := 21) rfl hc_rf.at) hS (Nat.le_of_ble_eq_true rfl) (Nat.le_of_ble_eq_true rfl) ⟨hX, rfl, hc_rf.B, hmo, Or.inl ⟨(by simp [o_why, g26]), hc_rf.at⟩⟩
    · have g26 : oa < ns S := (p_ixN (by omega) (by omega)).mp c_26
      refine lv_aload_n hx hb dX1_carryOut_29 rfl (lv_at hl 2 rfl) ?_
      refine gf_X1_225_7 CX hc_O.at rfl dX1_carryOut_30 ?_
      refine lv_bipush (v := nI 99) hx hb dX1_carryOut_33 rfl ?_
      refine b_icmp_eqN (tgt := 65) CX (by omega) (by omega) dX1_carryOut_35 (by decide) (fun c_35 => ?_) (fun c_35 => ?_)
      · exact absurd c_35 (by decide)
      · refine lv_aload_n hx hb dX1_carryOut_38 rfl (lv_at hl 1 rfl) ?_
        refine lv_aload_n hx hb dX1_carryOut_39 rfl (lv_at hl 2 rfl) ?_
        refine gf_X1_225_7 CX hc_O.at rfl dX1_carryOut_40 ?_
        refine lv_bipush (v := nI 100) hx hb dX1_carryOut_43 rfl ?_
        refine b_icmp_neN (tgt := 55) CX (by omega) (by omega) dX1_carryOut_45 (by decide) (fun c_45 => ?_) (fun c_45 => ?_)
        · refine lv_aload_n hx hb dX1_carryOut_55 rfl (lv_at hl 2 rfl) ?_
          refine gf_X1_230_7 CX hc_O.at rfl dX1_carryOut_56 ?_
          refine b_ci0 (cs_X1_151 (rest := []) CX hl.1 (m_X1_isBrand l (a := (A 0)) (asv := (A 1)) (atx := (A 3)) (atk := (A 5)) (hs := hs) (x := nI ob) hc_X hL hW) rfl rfl rfl hc_X.at hS rfl ⟨rfl, rfl, Nat.le_of_ble_eq_true rfl, Nat.le_of_ble_eq_true rfl⟩ (Nat.le_of_ble_eq_true rfl) dX1_carryOut_59 ⟨Nat.le_of_ble_eq_true rfl, Nat.le_of_ble_eq_true rfl⟩) hS (fun locs hS => ?_)
          refine b_ifeq (tgt := 69) CX dX1_carryOut_62 (by decide) (fun c_62 => ?_) (fun c_62 => ?_)
          · have g62 : ¬ ob < nb S := fun q9 => c_62 ((p_ixN (by omega) (by omega)).mpr q9)
            refine lv_iconst (v := nI 0) hx hb dX1_carryOut_69 rfl ?_
            refine lv_istore_n (lv' := [(3, .int (nI 0)), (2, .int (nI oa)), (0, .ref ((A 0))), (1, .ref ao)]) hx hb dX1_carryOut_70 rfl hl (Nat.le_of_ble_eq_true rfl) rfl (fun ls hl => ?_)
            refine lv_iload_n hx hb dX1_carryOut_71 rfl (lv_at hl 0 rfl) ?_
            refine lv_if_ne (tgt := 84) hx hb dX1_carryOut_72 (by decide) (fun c_72 => ?_) (fun c_72 => ?_)
            · exact absurd c_72 (by decide)
            · refine b_newM CX in_X22 tyX22 tyX22_ok (ci := 21) rfl q1711 q1717 q124 (fs := [.null, .null, .null, .null, .null, .int (nI 0)]) (nofn_X22) hS (Nat.le_of_ble_eq_true rfl) (Nat.le_of_ble_eq_true rfl) dX1_carryOut_75 (fun q5 H5 hq hB hat hsz hE hmo hS => ?_)
              have hc_O := hc_O.new (tb := 102) hE hq
              have hc_X := hc_X.new (tb := 102) hE hq
              have hc_sv := hc_sv.new (tb := 102) hE hq
              have hsa := fun h9 => (hsa h9).new (tb := 102) hE hq
              have hc_tx := hc_tx.new (tb := 102) hE hq
              have hc_tb := hc_tb.new (tb := 102) hE hq
              have hc_tk := hc_tk.new (tb := 102) hE hq
              have hL := hL.new (tb := 102) hE hq
              have hV := hV.new (tb := 102) hE hq
              have fr_rf : H.size ≤ q5 := by rw [hq]; exact hF.1
              have hX := hX.tr hE
              have hA := hA.tr (b_Ag.new (t := 102) hq) hF.1
              have hF := hF.ext hE
              have hc_rf : b_tt G B0 ((upT τ q5 102)) H5 q5 102 (.inr (21, [.null, .null, .null, .null, .null, .int (nI 0)])) := b_tt.mk hat hB
              refine lv_dup hx hb dX1_carryOut_78 rfl ?_
              refine lv_null hx hb dX1_carryOut_79 ?_
              refine b_cv (cs_X1_238 (rest := [.ref q5]) CX hl.1 (m_X22_init_n l (a := q5) (ta := 102) hc_rf hmo) rfl hS rfl ⟨rfl, rfl, Nat.le_of_ble_eq_true rfl, Nat.le_of_ble_eq_true rfl⟩ (Nat.le_of_ble_eq_true rfl) dX1_carryOut_80 ⟨Nat.le_of_ble_eq_true rfl, Nat.le_of_ble_eq_true rfl⟩) hS (fun H6 locs hp hS => ?_)
              obtain ⟨hu, hmo, hx0⟩ := hp
              have hc_O := hc_O.up hu hc_rf.tag (by omega)
              have hc_X := hc_X.up hu hc_rf.tag (by decide)
              have hc_sv := hc_sv.up hu hc_rf.tag (by decide)
              have hsa := fun h9 => (hsa h9).up hu hc_rf.tag (by omega)
              have hc_tx := hc_tx.up hu hc_rf.tag (by decide)
              have hc_tb := hc_tb.up hu hc_rf.tag (by decide)
              have hc_tk := hc_tk.up hu hc_rf.tag (by decide)
              have hL := hL.up hu hc_rf.tag (by omega)
              have hV := hV.up hu hc_rf.tag (fun k9 h1 h2 h3 => by omega)
              have hX := hX.up hu fr_rf
              have hF := hF.up hA hu hc_rf.tag (fun q9 => absurd q9 (Nat.not_lt.mpr fr_rf))
              have hc_rf : b_tt G B0 ((upT τ q5 102)) H6 q5 102 (.inr (21, [.null, .null, .null, .null, .null, .int (nI 0)])) := hx0
              refine b_athrow CX dX1_carryOut_83 ?_
              rw [← hQ]
              exact b_xout htb hlk (b_thof CX (ci := 21) rfl hc_rf.at) hS (Nat.le_of_ble_eq_true rfl) (Nat.le_of_ble_eq_true rfl) ⟨hX, rfl, hc_rf.B, hmo, Or.inl ⟨(by simp [o_why, g26, g62]), hc_rf.at⟩⟩
          · have g62 : ob < nb S := (p_ixN (by omega) (by omega)).mp c_62
            refine lv_iconst (v := nI 1) hx hb dX1_carryOut_65 rfl ?_
            refine lv_goto (tgt := 70) hx hb dX1_carryOut_66 (by decide) ?_
            refine lv_istore_n (lv' := [(3, .int (nI 1)), (2, .int (nI oa)), (0, .ref ((A 0))), (1, .ref ao)]) hx hb dX1_carryOut_70 rfl hl (Nat.le_of_ble_eq_true rfl) rfl (fun ls hl => ?_)
            refine lv_iload_n hx hb dX1_carryOut_71 rfl (lv_at hl 0 rfl) ?_
            refine lv_if_ne (tgt := 84) hx hb dX1_carryOut_72 (by decide) (fun c_72 => ?_) (fun c_72 => ?_)
            · refine lv_aload_n hx hb dX1_carryOut_84 rfl (lv_at hl 3 rfl) ?_
              refine gf_X1_225_7 CX hc_O.at rfl dX1_carryOut_85 ?_
              refine lv_lookup (off := 107) (tgt := 195) hx hb dX1_carryOut_88 (by decide) (by decide) (by decide) ?_
              refine lv_aload_n hx hb dX1_carryOut_195 rfl (lv_at hl 2 rfl) ?_
              refine lv_aload_n hx hb dX1_carryOut_196 rfl (lv_at hl 3 rfl) ?_
              refine gf_X1_233_7 CX hc_O.at rfl dX1_carryOut_197 ?_
              refine lv_aload_n hx hb dX1_carryOut_200 rfl (lv_at hl 3 rfl) ?_
              refine gf_X1_230_7 CX hc_O.at rfl dX1_carryOut_201 ?_
              refine lv_aload_n hx hb dX1_carryOut_204 rfl (lv_at hl 3 rfl) ?_
              refine gf_X1_241_7 CX hc_O.at rfl dX1_carryOut_205 ?_
              refine b_cq (cs_X1_182 (rest := []) CX hl.1 (m_X1_breaking l (a := (A 0)) (s_ := oa) (b := ob) (w_ := nI om) ) rfl rfl rfl hc_X.at hS rfl ⟨rfl, rfl, Nat.le_of_ble_eq_true rfl, Nat.le_of_ble_eq_true rfl⟩ (Nat.le_of_ble_eq_true rfl) dX1_carryOut_208 ⟨Nat.le_of_ble_eq_true rfl, Nat.le_of_ble_eq_true rfl⟩) hS (fun r H7 locs hp hS => ?_)
              obtain ⟨q7, rfl, hE, hz, hB, hat⟩ := hp
              have hc_O := hc_O.ad (tb := 100) hE hz
              have hc_X := hc_X.ad (tb := 100) hE hz
              have hc_sv := hc_sv.ad (tb := 100) hE hz
              have hsa := fun h9 => (hsa h9).ad (tb := 100) hE hz
              have hc_tx := hc_tx.ad (tb := 100) hE hz
              have hc_tb := hc_tb.ad (tb := 100) hE hz
              have hc_tk := hc_tk.ad (tb := 100) hE hz
              have hL := hL.ad (tb := 100) hE hz
              have hV := hV.ad (tb := 100) hE hz
              have fr_dd : H.size ≤ q7 := Nat.le_trans hF.1 hz
              have hX := hX.tr hE
              have hA := hA.tr (b_Ag.ge (t := 100) hz) hF.1
              have hF := hF.ext hE
              have hc_dd : b_tt G B0 ((upT τ q7 100)) H7 q7 100 (.inr (12, [.ref (((A 0))), .int (nI ob), .int (nI oa), .int ((nI om)), .ref (((A 0)))])) := b_tt.mk hat hB
              refine lv_astore (lv' := [(4, .ref q7), (3, .int (nI 1)), (2, .int (nI oa)), (0, .ref ((A 0))), (1, .ref ao)]) hx hb dX1_carryOut_211 hl (Nat.le_of_ble_eq_true rfl) rfl (fun ls hl => ?_)
              refine lv_goto (tgt := 234) hx hb dX1_carryOut_213 (by decide) ?_
              refine lv_aload hx hb dX1_carryOut_234 (lv_at hl 0 rfl) ?_
              refine b_xv (cx_X1_244_12 (rest := []) CX hl.1 (m_X6_order_12 l (da := q7) (td := 100) (a := ((A 0))) (asv := (A 1)) (atx := (A 3)) (atk := (A 5)) (hs := hs) (b := ob) (s_ := oa) (w_ := (nI om)) hc_dd hc_X hL hW (by omega) (by omega) rfl (by omega) (by omega)) rfl hc_dd.at hS rfl ⟨rfl, rfl, Nat.le_of_ble_eq_true rfl, Nat.le_of_ble_eq_true rfl⟩ (Nat.le_of_ble_eq_true rfl) dX1_carryOut_236 ⟨Nat.le_of_ble_eq_true rfl, Nat.le_of_ble_eq_true rfl⟩) hS (fun E9 q9 Hx8 locs hx9 hS he9 => ?_) (fun H8 locs hp hS => ?_)
              · rw [← hQ]
                exact b_xout htb hlk he9 hS (Nat.le_of_ble_eq_true rfl) (Nat.le_of_ble_eq_true rfl) ((hx9.mv hX).cd (by simp [o_why, g26, g62]))
              obtain ⟨hk_236, hF9, hL9⟩ := hp
              have hc_O := hc_O.fr hF9 (show ¬ (1000 * d0 ≤ (to) ∧ (to) < 1000 * d0 + 1000) by omega)
              have hc_X := hc_X.fr hF9 (show ¬ (1000 * d0 ≤ 0 ∧ 0 < 1000 * d0 + 1000) by omega)
              have hc_sv := hc_sv.fr hF9 (show ¬ (1000 * d0 ≤ 1 ∧ 1 < 1000 * d0 + 1000) by omega)
              have hsa := fun h9 => (hsa h9).fr hF9 (show ¬ (1000 * d0 ≤ 2 ∧ 2 < 1000 * d0 + 1000) by omega)
              have hc_tx := hc_tx.fr hF9 (show ¬ (1000 * d0 ≤ 3 ∧ 3 < 1000 * d0 + 1000) by omega)
              have hc_tb := hc_tb.fr hF9 (show ¬ (1000 * d0 ≤ 4 ∧ 4 < 1000 * d0 + 1000) by omega)
              have hc_tk := hc_tk.fr hF9 (show ¬ (1000 * d0 ≤ 5 ∧ 5 < 1000 * d0 + 1000) by omega)
              have hV := hV.fr hF9 (fun k9 h1 h2 h3 i9 hi9 => show ¬ (1000 * d0 ≤ (1000 * k9 + i9) ∧ (1000 * k9 + i9) < 1000 * d0 + 1000) by omega)
              have hc_dd := hc_dd.fr hF9 (show ¬ (1000 * d0 ≤ 100 ∧ 100 < 1000 * d0 + 1000) by omega)
              have hz9 := hF.1
              have hF0 := hF.tr hA hF9 (fun q9 hq9 x9 => by have x8 : 1000 * d0 ≤ τ q9 ∧ τ q9 < 1000 * d0 + 1000 := x9; show τ q9 = 5 ∨ 1000 ≤ τ q9; omega)
              have hF := hF0
              have hL : LR G B0 ((upT τ q7 100)) d0 F M E H8 ((s_break S oa ob ((nI om)))) Z := hL9
              have hw9 : o_why S 98 oa ob om = nI 0 := by
                refine Eq.trans ?_ hk_236
                simp [o_why, g26, g62]
              have e9 : (o_do S 98 oa ob om) = ((s_break S oa ob ((nI om)))) := by simp [o_do]
              have hWn : b_WF ((s_break S oa ob ((nI om)))) := by have h9 := hWd hw9; rw [e9] at h9; exact h9
              rw [← hQ]
              exact vx_ret (b_vret CX hr hlk hS (Nat.le_of_ble_eq_true rfl) (Nat.le_of_ble_eq_true rfl) dX1_carryOut_239 (⟨hw9, _, hA, hF, (by rw [e9]; exact ⟨d0, c0, ids, P0, F, M, E, Z, sm, rs, se, ml, hs, bt, tk9, hc_X, hc_sv, hsa, hse, hc_tx, hc_tb, hbt, hc_tk, hL, (pZ.of hZ (fun i j => by simp [s_break, u3])), hWn, hV, hd0, hdc, hn, htn, ht⟩)⟩))
            · exact absurd c_72 (by decide)
        · exact absurd c_45 (by decide)
  · exact absurd c_6 (by decide)
theorem cx_X1_244_13 {p : Program} {l : Launch} {e : Env} {R : Room} {s : State} {m : MethodId} {args : Array Value} {below : List Frame} {meth : Method} {c : Code} {H : Heap} {locs : List Loc} {cells slots : Nat} {cc : ByteArray} {pc nL a : Nat} {ls : Array Slot} {rest : List Value} {G : b_G} {B0 : Nat} (CX : b_Cx p s m args c cc nL RX1 G B0) (hls : ls.size = nL) {rm : Room} {mc ms : Nat} {As st0 : List Value} {Qc : Array Value → State → Outcome → State → Prop} {XC : String → Addr → State → State → Prop} (hM : vx_Met l yX6_order (wsW_ yX6_order cX6_order 2 (Option.none) [((0 : Nat), (4 : Nat), (7 : Nat), (25 : Nat))]) rm (b_Pc G B0 H (.ref a :: As)) Qc XC mc ms (b_A B0)) (hn : As.length = 0) {fs : List Value} (hP : b_at G a (.inr (13, fs)) H) (hS : va_S (b_A B0) s.heap H locs) (hst : st0 = As.reverse ++ .ref a :: rest) (hr : rm.cells = mc ∧ rm.slots = ms ∧ rm.frames + 1 ≤ R.frames ∧ 8 + (2 + 11) + rm.locals ≤ R.locals) (hw : (rest.map fun v => v.category).sum ≤ 8) (hdg : decode cc pc = .ok (.invokevirtual 244, 3)) (hf : cells + mc ≤ R.cells ∧ slots + ms ≤ R.slots) : vx_Run p l e R s m args below meth c H locs cells slots mc ms (F0 m pc ls st0) rest (Qc (Value.ref a :: As).toArray) XC (b_A B0) := vx_runVX (C := RX17) CX.fix hM (b_cwVC 0 CX.ts q1731 q1732 q1738 q104 q1743 hr.1 hr.2.1 ⟨by decide, by decide, by decide +kernel⟩ ⟨hr.2.2.1, hr.2.2.2⟩) ⟨b_blind G B0 H _, b_recv CX.K (ci := 13) rfl hP, b_pre _ CX.K hS⟩ rfl hn hls hst (lv_room hw) hdg hf
set_option maxHeartbeats 2000000 in
set_option maxRecDepth 100000 in
theorem m_X1_carryOut_99 (l : Launch) {G : b_G} {B0 : Nat} {H : Heap} {τ : b_T} {A : Nat → Nat} {S : b_St} {n : Nat} {L : Nat → b_St} {tn : Nat} {t : Nat → Nat} {ao : Nat} {to : Nat} {oa : Nat} {ob : Nat} {om : Nat} (hc_O : b_tt G B0 τ H ao (to) (.inr (7, [.int (nI 99), .int (nI oa), .int (nI ob), .int (nI om)]))) (hXR : XR G B0 τ A H (S, n, L, tn, t)) (hto : 120 ≤ to ∧ to < 1000) (hok : o_ok 99 oa ob om) (hWd : o_why S 99 oa ob om = nI 0 → b_WF (o_do S 99 oa ob om)) (hpk : o_why S 99 oa ob om = nI 0 → 99 = 99 → p_picks S oa ob om) : vx_Met l yX1_carryOut (ws_ yX1_carryOut cX1_carryOut 5 (Option.none)) ({ frames := 10, cells := 5, slots := 29, locals := 260 } : Room) (b_Pc G B0 H [.ref ((A 0)), .ref ao]) (b_Qv B0 (fun H1 => o_why S 99 oa ob om = nI 0 ∧ ∃ τ1 : b_T, b_Ag τ τ1 H ∧ b_Fr τ (fun t => t = 5 ∨ 1000 ≤ t) H H1 ∧ XR G B0 τ1 A H1 ((o_do S 99 oa ob om), n, L, tn, t))) (b_X B0 (fun E9 q9 H9 => r_px G B0 H (o_why S 99 oa ob om) E9 q9 H9)) 5 29 (b_A B0) := by
  refine b_ofX (by decide) (Nat.le_of_ble_eq_true rfl) ?_
  intro p e s m below meth c CX hr hlk htb hS ls hl
  have CX : b_Cx p s m _ c cX1_carryOut 5 RX1 G B0 := CX
  have hx := CX.hx
  have hb := CX.hb
  have hl : lv_has ls 5 [(0, .ref ((A 0))), (1, .ref ao)] := hl
  generalize hQ : vx_MQ below (b_Qv B0 (fun H1 => o_why S 99 oa ob om = nI 0 ∧ ∃ τ1 : b_T, b_Ag τ τ1 H ∧ b_Fr τ (fun t => t = 5 ∨ 1000 ≤ t) H H1 ∧ XR G B0 τ1 A H1 ((o_do S 99 oa ob om), n, L, tn, t))) (b_X B0 (fun E9 q9 H9 => r_px G B0 H (o_why S 99 oa ob om) E9 q9 H9)) ([.ref ((A 0)), .ref ao] : List Value).toArray s 5 29 (b_A B0) = Q
  have hF : b_Fr τ (fun t => t = 5 ∨ 1000 ≤ t) H H := b_Fr.rf
  have hA : b_Ag τ τ H := b_Ag.rf
  have hX : b_Ext H H := b_Ext.rf
  obtain ⟨d0, c0, ids, P0, F, M, E, Z, sm, rs, se, ml, hs, bt, tk9, hc_X, hc_sv, hsa, hse, hc_tx, hc_tb, hbt, hc_tk, hL, hZ, hW, hV, hd0, hdc, hn, htn, ht⟩ := hXR
  have hc_X : b_tt G B0 τ H ((A 0)) 0 (.inr (0, [.ref ((F 0)), .ref ((A 1)), .ref ((A 3)), .ref ((A 5)), .long hs])) := hc_X
  have hc_sv : b_tt G B0 τ H ((A 1)) 1 (.inr (2, [.int sm, .ref ((if se = true then rs else G.2.2 0)), .int (nI n)])) := hc_sv
  have hsa : (se = true → b_tt G B0 τ H rs 2 (.inl (G.2.1 2, q_refs 10 (fun j => if j < n then some (P0 j) else none)))) := hsa
  have hc_tx : b_tt G B0 τ H ((A 3)) 3 (.inr (3, [.ref ((A 4)), .int (nI 0), .int ml, .int (nI tn)])) := hc_tx
  have hc_tb : b_tt G B0 τ H ((A 4)) 4 (.inl (G.2.1 1, 60, .inl bt)) := hc_tb
  have hc_tk : b_tt G B0 τ H ((A 5)) 5 (.inl (G.2.1 0, 8, .inl tk9)) := hc_tk
  have hL : LR G B0 τ d0 F M E H S Z := hL
  have hV : SV G B0 τ d0 c0 n ids P0 H L := hV
  have hn8 := hL.2.2.2.1
  have hn6 := hL.2.2.2.2
  have hnb : nb S = nb S := rfl
  have hns : ns S = ns S := rfl
  have hn : n ≤ 6 := hn
  have htn : tn ≤ 60 := htn
  have ht : ∀ j, t j < 128 := ht
  have hse : se = true ∨ n = 0 := hse
  have hZ : pZ Z S := hZ
  have hW : b_WF S := hW
  have hbt : ∀ j, j < tn → bt j = nI (t j) := hbt
  obtain ⟨k1, k2, k3, k4, k5, k6, k7⟩ := hok
  refine lv_aload_n hx hb dX1_carryOut_0 rfl (lv_at hl 1 rfl) ?_
  refine gf_X1_225_7 CX hc_O.at rfl dX1_carryOut_1 ?_
  refine lv_bipush (v := nI 100) hx hb dX1_carryOut_4 rfl ?_
  refine b_icmp_neN (tgt := 16) CX (by omega) (by omega) dX1_carryOut_6 (by decide) (fun c_6 => ?_) (fun c_6 => ?_)
  · refine lv_aload_n hx hb dX1_carryOut_16 rfl (lv_at hl 1 rfl) ?_
    refine gf_X1_233_7 CX hc_O.at rfl dX1_carryOut_17 ?_
    refine lv_istore_n (lv' := [(2, .int (nI oa)), (0, .ref ((A 0))), (1, .ref ao)]) hx hb dX1_carryOut_20 rfl hl (Nat.le_of_ble_eq_true rfl) rfl (fun ls hl => ?_)
    refine lv_aload_n hx hb dX1_carryOut_21 rfl (lv_at hl 1 rfl) ?_
    refine lv_iload_n hx hb dX1_carryOut_22 rfl (lv_at hl 0 rfl) ?_
    refine b_ci0 (cs_X1_162 (rest := []) CX hl.1 (m_X1_isShop l (a := (A 0)) (asv := (A 1)) (atx := (A 3)) (atk := (A 5)) (hs := hs) (x := nI oa) hc_X hL hW) rfl rfl rfl hc_X.at hS rfl ⟨rfl, rfl, Nat.le_of_ble_eq_true rfl, Nat.le_of_ble_eq_true rfl⟩ (Nat.le_of_ble_eq_true rfl) dX1_carryOut_23 ⟨Nat.le_of_ble_eq_true rfl, Nat.le_of_ble_eq_true rfl⟩) hS (fun locs hS => ?_)
    refine b_ifeq (tgt := 69) CX dX1_carryOut_26 (by decide) (fun c_26 => ?_) (fun c_26 => ?_)
    · have g26 : ¬ oa < ns S := fun q9 => c_26 ((p_ixN (by omega) (by omega)).mpr q9)
      refine lv_iconst (v := nI 0) hx hb dX1_carryOut_69 rfl ?_
      refine lv_istore_n (lv' := [(3, .int (nI 0)), (2, .int (nI oa)), (0, .ref ((A 0))), (1, .ref ao)]) hx hb dX1_carryOut_70 rfl hl (Nat.le_of_ble_eq_true rfl) rfl (fun ls hl => ?_)
      refine lv_iload_n hx hb dX1_carryOut_71 rfl (lv_at hl 0 rfl) ?_
      refine lv_if_ne (tgt := 84) hx hb dX1_carryOut_72 (by decide) (fun c_72 => ?_) (fun c_72 => ?_)
      · exact absurd c_72 (by decide)
      · refine b_newM CX in_X22 tyX22 tyX22_ok (ci := 21) rfl q1711 q1717 q124 (fs := [.null, .null, .null, .null, .null, .int (nI 0)]) (nofn_X22) hS (Nat.le_of_ble_eq_true rfl) (Nat.le_of_ble_eq_true rfl) dX1_carryOut_75 (fun q2 H2 hq hB hat hsz hE hmo hS => ?_)
        have hc_O := hc_O.new (tb := 102) hE hq
        have hc_X := hc_X.new (tb := 102) hE hq
        have hc_sv := hc_sv.new (tb := 102) hE hq
        have hsa := fun h9 => (hsa h9).new (tb := 102) hE hq
        have hc_tx := hc_tx.new (tb := 102) hE hq
        have hc_tb := hc_tb.new (tb := 102) hE hq
        have hc_tk := hc_tk.new (tb := 102) hE hq
        have hL := hL.new (tb := 102) hE hq
        have hV := hV.new (tb := 102) hE hq
        have fr_rf : H.size ≤ q2 := by rw [hq]; exact hF.1
        have hX := hX.tr hE
        have hA := hA.tr (b_Ag.new (t := 102) hq) hF.1
        have hF := hF.ext hE
        have hc_rf : b_tt G B0 ((upT τ q2 102)) H2 q2 102 (.inr (21, [.null, .null, .null, .null, .null, .int (nI 0)])) := b_tt.mk hat hB
        refine lv_dup hx hb dX1_carryOut_78 rfl ?_
        refine lv_null hx hb dX1_carryOut_79 ?_
        refine b_cv (cs_X1_238 (rest := [.ref q2]) CX hl.1 (m_X22_init_n l (a := q2) (ta := 102) hc_rf hmo) rfl hS rfl ⟨rfl, rfl, Nat.le_of_ble_eq_true rfl, Nat.le_of_ble_eq_true rfl⟩ (Nat.le_of_ble_eq_true rfl) dX1_carryOut_80 ⟨Nat.le_of_ble_eq_true rfl, Nat.le_of_ble_eq_true rfl⟩) hS (fun H3 locs hp hS => ?_)
        obtain ⟨hu, hmo, hx0⟩ := hp
        have hc_O := hc_O.up hu hc_rf.tag (by omega)
        have hc_X := hc_X.up hu hc_rf.tag (by decide)
        have hc_sv := hc_sv.up hu hc_rf.tag (by decide)
        have hsa := fun h9 => (hsa h9).up hu hc_rf.tag (by omega)
        have hc_tx := hc_tx.up hu hc_rf.tag (by decide)
        have hc_tb := hc_tb.up hu hc_rf.tag (by decide)
        have hc_tk := hc_tk.up hu hc_rf.tag (by decide)
        have hL := hL.up hu hc_rf.tag (by omega)
        have hV := hV.up hu hc_rf.tag (fun k9 h1 h2 h3 => by omega)
        have hX := hX.up hu fr_rf
        have hF := hF.up hA hu hc_rf.tag (fun q9 => absurd q9 (Nat.not_lt.mpr fr_rf))
        have hc_rf : b_tt G B0 ((upT τ q2 102)) H3 q2 102 (.inr (21, [.null, .null, .null, .null, .null, .int (nI 0)])) := hx0
        refine b_athrow CX dX1_carryOut_83 ?_
        rw [← hQ]
        exact b_xout htb hlk (b_thof CX (ci := 21) rfl hc_rf.at) hS (Nat.le_of_ble_eq_true rfl) (Nat.le_of_ble_eq_true rfl) ⟨hX, rfl, hc_rf.B, hmo, Or.inl ⟨(by simp [o_why, g26]), hc_rf.at⟩⟩
    · have g26 : oa < ns S := (p_ixN (by omega) (by omega)).mp c_26
      refine lv_aload_n hx hb dX1_carryOut_29 rfl (lv_at hl 2 rfl) ?_
      refine gf_X1_225_7 CX hc_O.at rfl dX1_carryOut_30 ?_
      refine lv_bipush (v := nI 99) hx hb dX1_carryOut_33 rfl ?_
      refine b_icmp_eqN (tgt := 65) CX (by omega) (by omega) dX1_carryOut_35 (by decide) (fun c_35 => ?_) (fun c_35 => ?_)
      · refine lv_iconst (v := nI 1) hx hb dX1_carryOut_65 rfl ?_
        refine lv_goto (tgt := 70) hx hb dX1_carryOut_66 (by decide) ?_
        refine lv_istore_n (lv' := [(3, .int (nI 1)), (2, .int (nI oa)), (0, .ref ((A 0))), (1, .ref ao)]) hx hb dX1_carryOut_70 rfl hl (Nat.le_of_ble_eq_true rfl) rfl (fun ls hl => ?_)
        refine lv_iload_n hx hb dX1_carryOut_71 rfl (lv_at hl 0 rfl) ?_
        refine lv_if_ne (tgt := 84) hx hb dX1_carryOut_72 (by decide) (fun c_72 => ?_) (fun c_72 => ?_)
        · refine lv_aload_n hx hb dX1_carryOut_84 rfl (lv_at hl 3 rfl) ?_
          refine gf_X1_225_7 CX hc_O.at rfl dX1_carryOut_85 ?_
          refine lv_lookup (off := 128) (tgt := 216) hx hb dX1_carryOut_88 (by decide) (by decide) (by decide) ?_
          refine lv_aload_n hx hb dX1_carryOut_216 rfl (lv_at hl 2 rfl) ?_
          refine lv_aload_n hx hb dX1_carryOut_217 rfl (lv_at hl 3 rfl) ?_
          refine gf_X1_233_7 CX hc_O.at rfl dX1_carryOut_218 ?_
          refine lv_aload_n hx hb dX1_carryOut_221 rfl (lv_at hl 3 rfl) ?_
          refine gf_X1_230_7 CX hc_O.at rfl dX1_carryOut_222 ?_
          refine lv_aload_n hx hb dX1_carryOut_225 rfl (lv_at hl 3 rfl) ?_
          refine gf_X1_241_7 CX hc_O.at rfl dX1_carryOut_226 ?_
          refine b_cq (cs_X1_189 (rest := []) CX hl.1 (m_X1_collecting l (a := (A 0)) (s_ := oa) (k := ob) (c_ := om) ) rfl rfl rfl hc_X.at hS rfl ⟨rfl, rfl, Nat.le_of_ble_eq_true rfl, Nat.le_of_ble_eq_true rfl⟩ (Nat.le_of_ble_eq_true rfl) dX1_carryOut_229 ⟨Nat.le_of_ble_eq_true rfl, Nat.le_of_ble_eq_true rfl⟩) hS (fun r H4 locs hp hS => ?_)
          obtain ⟨q4, rfl, hE, hz, hB, hat⟩ := hp
          have hc_O := hc_O.ad (tb := 100) hE hz
          have hc_X := hc_X.ad (tb := 100) hE hz
          have hc_sv := hc_sv.ad (tb := 100) hE hz
          have hsa := fun h9 => (hsa h9).ad (tb := 100) hE hz
          have hc_tx := hc_tx.ad (tb := 100) hE hz
          have hc_tb := hc_tb.ad (tb := 100) hE hz
          have hc_tk := hc_tk.ad (tb := 100) hE hz
          have hL := hL.ad (tb := 100) hE hz
          have hV := hV.ad (tb := 100) hE hz
          have fr_dd : H.size ≤ q4 := Nat.le_trans hF.1 hz
          have hX := hX.tr hE
          have hA := hA.tr (b_Ag.ge (t := 100) hz) hF.1
          have hF := hF.ext hE
          have hc_dd : b_tt G B0 ((upT τ q4 100)) H4 q4 100 (.inr (13, [.ref (((A 0))), .int (nI oa), .int (nI ob), .int (nI om), .ref (((A 0)))])) := b_tt.mk hat hB
          refine lv_astore (lv' := [(4, .ref q4), (3, .int (nI 1)), (2, .int (nI oa)), (0, .ref ((A 0))), (1, .ref ao)]) hx hb dX1_carryOut_232 hl (Nat.le_of_ble_eq_true rfl) rfl (fun ls hl => ?_)
          refine lv_aload hx hb dX1_carryOut_234 (lv_at hl 0 rfl) ?_
          have hpk0 : a_collect S oa ob (nI om) = nI 0 → p_picks S oa ob om := fun q9 => hpk (Eq.trans (by simp [o_why, g26]) q9) rfl
          refine b_xv (cx_X1_244_13 (rest := []) CX hl.1 (m_X6_order_13 l (da := q4) (td := 100) (a := ((A 0))) (asv := (A 1)) (atx := (A 3)) (atk := (A 5)) (f := tk9) (hs := hs) (s_ := oa) (k := ob) (c_ := om) hc_dd hc_X hc_tk hL hW (by omega) (by omega) rfl (by omega) (by omega) (by omega) hpk0 (by omega)) rfl hc_dd.at hS rfl ⟨rfl, rfl, Nat.le_of_ble_eq_true rfl, Nat.le_of_ble_eq_true rfl⟩ (Nat.le_of_ble_eq_true rfl) dX1_carryOut_236 ⟨Nat.le_of_ble_eq_true rfl, Nat.le_of_ble_eq_true rfl⟩) hS (fun E9 q9 Hx5 locs hx9 hS he9 => ?_) (fun H5 locs hp hS => ?_)
          · rw [← hQ]
            exact b_xout htb hlk he9 hS (Nat.le_of_ble_eq_true rfl) (Nat.le_of_ble_eq_true rfl) ((hx9.mv hX).cd (by simp [o_why, g26]))
          obtain ⟨hk_236, hF9, hx0, hL9⟩ := hp
          have hc_O := hc_O.fr hF9 (show ¬ ((1000 * d0 ≤ (to) ∧ (to) < 1000 * d0 + 1000) ∨ (to) = 5) by omega)
          have hc_X := hc_X.fr hF9 (show ¬ ((1000 * d0 ≤ 0 ∧ 0 < 1000 * d0 + 1000) ∨ 0 = 5) by omega)
          have hc_sv := hc_sv.fr hF9 (show ¬ ((1000 * d0 ≤ 1 ∧ 1 < 1000 * d0 + 1000) ∨ 1 = 5) by omega)
          have hsa := fun h9 => (hsa h9).fr hF9 (show ¬ ((1000 * d0 ≤ 2 ∧ 2 < 1000 * d0 + 1000) ∨ 2 = 5) by omega)
          have hc_tx := hc_tx.fr hF9 (show ¬ ((1000 * d0 ≤ 3 ∧ 3 < 1000 * d0 + 1000) ∨ 3 = 5) by omega)
          have hc_tb := hc_tb.fr hF9 (show ¬ ((1000 * d0 ≤ 4 ∧ 4 < 1000 * d0 + 1000) ∨ 4 = 5) by omega)
          have hV := hV.fr hF9 (fun k9 h1 h2 h3 i9 hi9 => show ¬ ((1000 * d0 ≤ (1000 * k9 + i9) ∧ (1000 * k9 + i9) < 1000 * d0 + 1000) ∨ (1000 * k9 + i9) = 5) by omega)
          have hc_dd := hc_dd.fr hF9 (show ¬ ((1000 * d0 ≤ 100 ∧ 100 < 1000 * d0 + 1000) ∨ 100 = 5) by omega)
          have hz9 := hF.1
          have hF0 := hF.tr hA hF9 (fun q9 hq9 x9 => by have x8 : (1000 * d0 ≤ τ q9 ∧ τ q9 < 1000 * d0 + 1000) ∨ τ q9 = 5 := x9; show τ q9 = 5 ∨ 1000 ≤ τ q9; omega)
          have hF := hF0
          have hc_tk : b_tt G B0 ((upT τ q4 100)) H5 ((A 5)) 5 (.inl (G.2.1 0, 8, .inl ((fun q => nI (p_tk S oa ob (12 * om) q))))) := hx0
          have hL : LR G B0 ((upT τ q4 100)) d0 F M E H5 ((s_collect S oa ob om)) Z := hL9
          have hw9 : o_why S 99 oa ob om = nI 0 := by
            refine Eq.trans ?_ hk_236
            simp [o_why, g26]
          have e9 : (o_do S 99 oa ob om) = ((s_collect S oa ob om)) := by simp [o_do]
          have hWn : b_WF ((s_collect S oa ob om)) := by have h9 := hWd hw9; rw [e9] at h9; exact h9
          rw [← hQ]
          exact vx_ret (b_vret CX hr hlk hS (Nat.le_of_ble_eq_true rfl) (Nat.le_of_ble_eq_true rfl) dX1_carryOut_239 (⟨hw9, _, hA, hF, (by rw [e9]; exact ⟨d0, c0, ids, P0, F, M, E, Z, sm, rs, se, ml, hs, bt, (fun q => nI (p_tk S oa ob (12 * om) q)), hc_X, hc_sv, hsa, hse, hc_tx, hc_tb, hbt, hc_tk, hL, (pZ.of hZ (fun i j => by simp [s_collect, s_collB, s_coll, u3])), hWn, hV, hd0, hdc, hn, htn, ht⟩)⟩))
        · exact absurd c_72 (by decide)
      · exact absurd c_35 (by decide)
  · exact absurd c_6 (by decide)
