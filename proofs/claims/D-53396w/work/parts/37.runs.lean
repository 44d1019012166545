/-! the first error; deeds as a part of a row -/
set_option maxRecDepth 100000
theorem pf_X20_3_6 {p : Program} {l : Launch} {e : Env} {R : Room} {s : State} {m : MethodId} {args : Array Value} {below : List Frame} {meth : Method} {c : Code} {H : Heap} {locs : List Loc} {cells slots : Nat} {Q : State → Prop} {cc : ByteArray} {pc nL a : Nat} {ls : Array Slot} {rest : List Value} {G : b_G} {B0 : Nat} (CX : b_Cx p s m args c cc nL RX20 G B0) (hin2 : meth.name = "<init>") {fs : List Value} (hP : b_at G a (.inr (6, fs)) H) (hS : va_S (b_A B0) s.heap H locs) (ha : B0 ≤ a) {v : Value} (hn : narrow (tyX20 2) v = v) (hfit : fits (tyX20 2) v = true) (hl : 2 < fs.length) (hdg : decode cc pc = .ok (.putfield 3, 3)) (kk : ∀ (H1 : Heap) (locs1 : List Loc), b_at G a (.inr (6, fs.set 2 v)) H1 → b_Up a H H1 → va_S (b_A B0) s.heap H1 locs1 → W p l e R s m args below meth c H1 locs1 cells slots Q (F0 m (pc + 3) ls rest)) : W p l e R s m args below meth c H locs cells slots Q (F0 m pc ls (v :: .ref a :: rest)) := b_putF CX in_X20 tyX20 tyX20_ok rfl 2 (by decide) (by decide +kernel) q645 (Or.inl rfl) rfl hin2 rfl hP hS ha hn hfit hl hdg kk
theorem cs_X20_17 {p : Program} {l : Launch} {e : Env} {R : Room} {s : State} {m : MethodId} {args : Array Value} {below : List Frame} {meth : Method} {c : Code} {H : Heap} {locs : List Loc} {cells slots : Nat} {cc : ByteArray} {pc nL a : Nat} {ls : Array Slot} {rest : List Value} {G : b_G} {B0 : Nat} (CX : b_Cx p s m args c cc nL RX20 G B0) (hls : ls.size = nL) {rm : Room} {mc ms : Nat} {As st0 : List Value} {Qc : Array Value → State → Outcome → State → Prop} (hM : Met l yJ2_init (ws_ yJ2_init cJ2_init 1 (Option.none)) rm (b_Pc G B0 H (.ref a :: As)) Qc mc ms (b_A B0)) (hn : As.length = 0) (hS : va_S (b_A B0) s.heap H locs) (hst : st0 = As.reverse ++ .ref a :: rest) (hr : rm.cells = mc ∧ rm.slots = ms ∧ rm.frames + 1 ≤ R.frames ∧ 8 + (1 + 11) + rm.locals ≤ R.locals) (hw : (rest.map fun v => v.category).sum ≤ 8) (hdg : decode cc pc = .ok (.invokespecial 17, 3)) (hf : cells + mc ≤ R.cells ∧ slots + ms ≤ R.slots) : va_Run p l e R s m args below meth c H locs cells slots mc ms (F0 m pc ls st0) rest (Qc (Value.ref a :: As).toArray) (b_A B0) := va_runI CX.fix hM (cwI 0 CX.ts (lw_meth q144) rfl hr.1 hr.2.1 (CX.ts _ q83) (CX.ts _ q640) (CX.ts _ q143) rfl (by decide +kernel) ⟨hr.2.2.1, hr.2.2.2⟩) ⟨b_blind G B0 H _, b_pre _ CX.K hS⟩ rfl hn hls hst (lv_room hw) hdg hf
theorem pf_X20_18_6 {p : Program} {l : Launch} {e : Env} {R : Room} {s : State} {m : MethodId} {args : Array Value} {below : List Frame} {meth : Method} {c : Code} {H : Heap} {locs : List Loc} {cells slots : Nat} {Q : State → Prop} {cc : ByteArray} {pc nL a : Nat} {ls : Array Slot} {rest : List Value} {G : b_G} {B0 : Nat} (CX : b_Cx p s m args c cc nL RX20 G B0) (hin2 : meth.name = "<init>") {fs : List Value} (hP : b_at G a (.inr (6, fs)) H) (hS : va_S (b_A B0) s.heap H locs) (ha : B0 ≤ a) {v : Value} (hn : narrow (tyX20 0) v = v) (hfit : fits (tyX20 0) v = true) (hl : 0 < fs.length) (hdg : decode cc pc = .ok (.putfield 18, 3)) (kk : ∀ (H1 : Heap) (locs1 : List Loc), b_at G a (.inr (6, fs.set 0 v)) H1 → b_Up a H H1 → va_S (b_A B0) s.heap H1 locs1 → W p l e R s m args below meth c H1 locs1 cells slots Q (F0 m (pc + 3) ls rest)) : W p l e R s m args below meth c H locs cells slots Q (F0 m pc ls (v :: .ref a :: rest)) := b_putF CX in_X20 tyX20 tyX20_ok rfl 0 (by decide) (by decide +kernel) q641 (Or.inl rfl) rfl hin2 rfl hP hS ha hn hfit hl hdg kk
set_option maxHeartbeats 2000000 in
set_option maxRecDepth 100000 in
theorem m_X20_init (l : Launch) {G : b_G} {B0 : Nat} {H : Heap} {τ : b_T} {rr : Nat} {a : Nat} (hc_rd : b_tt G B0 τ H rr 110 (.inr (6, [.null, .int (nI 0), .null]))) : Met l yX20_init (ws_ yX20_init cX20_init 2 (Option.none)) ({ frames := 4, cells := 1, slots := 3, locals := 80 } : Room) (b_Pc G B0 H [.ref rr, .ref a]) (b_Qv B0 (fun H1 => ∃ (τ1 : b_T) (ro : Nat), b_Ag τ τ1 H ∧ b_Fr τ (fun t => t = 110 ∨ t = 111) H H1 ∧ H.size ≤ ro ∧ b_tt G B0 τ1 H1 rr 110 (.inr (6, [.ref ro, .int (nI 0), .ref a])) ∧ b_tt G B0 τ1 H1 ro 111 (.inr (2, [.int (nI 0), .ref ((G.2.2 0)), .int (nI 0)])))) 1 3 (b_A B0) := by
  refine b_of (by decide) (Nat.le_of_ble_eq_true rfl) ?_
  intro p e s m below meth c CX hr hlk hnm hS ls hl
  have CX : b_Cx p s m _ c cX20_init 2 RX20 G B0 := CX
  have hx := CX.hx
  have hb := CX.hb
  have hl : lv_has ls 2 [(0, .ref rr), (1, .ref a)] := hl
  generalize hQ : MQ below (b_Qv B0 (fun H1 => ∃ (τ1 : b_T) (ro : Nat), b_Ag τ τ1 H ∧ b_Fr τ (fun t => t = 110 ∨ t = 111) H H1 ∧ H.size ≤ ro ∧ b_tt G B0 τ1 H1 rr 110 (.inr (6, [.ref ro, .int (nI 0), .ref a])) ∧ b_tt G B0 τ1 H1 ro 111 (.inr (2, [.int (nI 0), .ref ((G.2.2 0)), .int (nI 0)])))) ([.ref rr, .ref a] : List Value).toArray s 1 3 (b_A B0) = Q
  have hF : b_Fr τ (fun t => t = 110 ∨ t = 111) H H := b_Fr.rf
  have hA : b_Ag τ τ H := b_Ag.rf
  refine lv_aload_n hx hb dX20_init_0 rfl (lv_at hl 0 rfl) ?_
  refine lv_aload_n hx hb dX20_init_1 rfl (lv_at hl 1 rfl) ?_
  refine pf_X20_3_6 CX hnm hc_rd.at hS hc_rd.B rfl rfl (Nat.le_of_ble_eq_true rfl) dX20_init_2 (fun H1 locs hat hu hS => ?_)
  have hF := hF.up hA hu hc_rd.tag (fun _ => show 110 = 110 ∨ 110 = 111 by omega)
  have hc_rd : b_tt G B0 τ H1 rr 110 (.inr (6, [.null, .int (nI 0), .ref a])) := hc_rd.set hat
  refine lv_aload_n hx hb dX20_init_5 rfl (lv_at hl 0 rfl) ?_
  refine W.objInit hx hb CX.ow (CX.ts _ q638) (CX.ts _ q132) (CX.ts _ q133) rfl (by rw [CX.ml]; exact hl.1) rfl dX20_init_6 (Nat.le_of_ble_eq_true rfl) (Nat.le_of_ble_eq_true rfl) ?_
  refine W.eq (g2 := F0 m 9 ls []) rfl ?_
  refine lv_aload_n hx hb dX20_init_9 rfl (lv_at hl 0 rfl) ?_
  refine b_new CX in_J2 tyJ2 tyJ2_ok (ci := 2) rfl q639 q141 q83 (fs := [.int (nI 0), .null, .int (nI 0)]) (nofn_J2) hS (Nat.le_of_ble_eq_true rfl) (Nat.le_of_ble_eq_true rfl) dX20_init_10 (fun q2 H2 hq hB hat hsz hE hS => ?_)
  have hc_rd := hc_rd.new (tb := 111) hE hq
  have fr_ol : H.size ≤ q2 := by rw [hq]; exact hF.1
  have hA := hA.tr (b_Ag.new (t := 111) hq) hF.1
  have hF := hF.ext hE
  have hc_ol : b_tt G B0 ((upT τ q2 111)) H2 q2 111 (.inr (2, [.int (nI 0), .null, .int (nI 0)])) := b_tt.mk hat hB
  refine lv_dup hx hb dX20_init_13 rfl ?_
  refine b_cv (cs_X20_17 (rest := [.ref q2, .ref rr]) CX hl.1 (m_J2_init l (a := q2) (ta := 111) hc_ol) rfl hS rfl ⟨rfl, rfl, Nat.le_of_ble_eq_true rfl, Nat.le_of_ble_eq_true rfl⟩ (Nat.le_of_ble_eq_true rfl) dX20_init_14 ⟨Nat.le_of_ble_eq_true rfl, Nat.le_of_ble_eq_true rfl⟩) hS (fun H3 locs hp hS => ?_)
  obtain ⟨hF9, hx0⟩ := hp
  have hc_rd := hc_rd.fr hF9 (show ¬ (110 = 111) by omega)
  have hz9 := hF.1
  have hF0 := hF.tr hA hF9 (fun q9 hq9 x9 => by have x8 : τ q9 = 111 := x9; show τ q9 = 110 ∨ τ q9 = 111; omega)
  have hF := hF0
  have hc_ol : b_tt G B0 ((upT τ q2 111)) H3 q2 111 (.inr (2, [.int (nI 0), .ref ((G.2.2 0)), .int (nI 0)])) := hx0
  refine pf_X20_18_6 CX hnm hc_rd.at hS hc_rd.B rfl rfl (Nat.le_of_ble_eq_true rfl) dX20_init_17 (fun H4 locs hat hu hS => ?_)
  have hc_ol := hc_ol.up hu hc_rd.tag (by decide)
  have hF := hF.up hA hu hc_rd.tag (fun _ => show 110 = 110 ∨ 110 = 111 by omega)
  have hc_rd : b_tt G B0 ((upT τ q2 111)) H4 rr 110 (.inr (6, [.ref q2, .int (nI 0), .ref a])) := hc_rd.set hat
  rw [← hQ]
  exact b_vret CX hr hlk hS (Nat.le_of_ble_eq_true rfl) (Nat.le_of_ble_eq_true rfl) dX20_init_20 (⟨_, _, hA, hF, fr_ol, hc_rd, hc_ol⟩)
theorem RO.nil {G : b_G} {B0 : Nat} {τ : b_T} {H : Heap} {ro : Nat} (h : b_tt G B0 τ H ro 111 (.inr (2, [.int (nI 0), .ref (G.2.2 0), .int (nI 0)]))) : RO G B0 τ H ro [] :=
  ⟨fun _ => 0, nI 0, false, 0, h, (fun q => nomatch q), Or.inr rfl, fun j x hj => by simp at hj⟩
theorem cs_X1_215 {p : Program} {l : Launch} {e : Env} {R : Room} {s : State} {m : MethodId} {args : Array Value} {below : List Frame} {meth : Method} {c : Code} {H : Heap} {locs : List Loc} {cells slots : Nat} {cc : ByteArray} {pc nL a : Nat} {ls : Array Slot} {rest : List Value} {G : b_G} {B0 : Nat} (CX : b_Cx p s m args c cc nL RX1 G B0) (hls : ls.size = nL) {rm : Room} {mc ms : Nat} {As st0 : List Value} {Qc : Array Value → State → Outcome → State → Prop} (hM : Met l yX20_init (ws_ yX20_init cX20_init 2 (Option.none)) rm (b_Pc G B0 H (.ref a :: As)) Qc mc ms (b_A B0)) (hn : As.length = 1) (hS : va_S (b_A B0) s.heap H locs) (hst : st0 = As.reverse ++ .ref a :: rest) (hr : rm.cells = mc ∧ rm.slots = ms ∧ rm.frames + 1 ≤ R.frames ∧ 8 + (2 + 11) + rm.locals ≤ R.locals) (hw : (rest.map fun v => v.category).sum ≤ 8) (hdg : decode cc pc = .ok (.invokespecial 215, 3)) (hf : cells + mc ≤ R.cells ∧ slots + ms ≤ R.slots) : va_Run p l e R s m args below meth c H locs cells slots mc ms (F0 m pc ls st0) rest (Qc (Value.ref a :: As).toArray) (b_A B0) := va_runIN CX.fix hM (⟨va_cnB 1 CX.ts (lw_meth q637) rfl hr.1 hr.2.1 (CX.K.2.1 _ q635 rfl) (CX.ts _ q122) (by decide +kernel) ⟨hr.2.2.1, hr.2.2.2⟩, rfl, CX.ts _ q636⟩) ⟨b_blind G B0 H _, b_pre _ CX.K hS⟩ rfl hn hls hst (lv_room hw) hdg hf
theorem cs_X1_218 {p : Program} {l : Launch} {e : Env} {R : Room} {s : State} {m : MethodId} {args : Array Value} {below : List Frame} {meth : Method} {c : Code} {H : Heap} {locs : List Loc} {cells slots : Nat} {cc : ByteArray} {pc nL a : Nat} {ls : Array Slot} {rest : List Value} {G : b_G} {B0 : Nat} (CX : b_Cx p s m args c cc nL RX1 G B0) (hls : ls.size = nL) {rm : Room} {mc ms : Nat} {As st0 : List Value} {Qc : Array Value → State → Outcome → State → Prop} (hM : Met l yX20_isRow (ws_ yX20_isRow cX20_isRow 2 (Option.some Jvm.ClassFile.FieldType.boolean)) rm (b_Pc G B0 H (.ref a :: As)) Qc mc ms (b_A B0)) (hn : As.length = 0) {fs : List Value} {ci : Nat} {qc : vw_C} (hc : b_cl[ci]? = some qc) (hq : qc.1 = RX20) (hP : b_at G a (.inr (ci, fs)) H) (hS : va_S (b_A B0) s.heap H locs) (hst : st0 = As.reverse ++ .ref a :: rest) (hr : rm.cells = mc ∧ rm.slots = ms ∧ rm.frames + 1 ≤ R.frames ∧ 8 + (2 + 11) + rm.locals ≤ R.locals) (hw : (rest.map fun v => v.category).sum ≤ 8) (hdg : decode cc pc = .ok (.invokevirtual 218, 3)) (hf : cells + mc ≤ R.cells ∧ slots + ms ≤ R.slots) : va_Run p l e R s m args below meth c H locs cells slots mc ms (F0 m pc ls st0) rest (Qc (Value.ref a :: As).toArray) (b_A B0) := va_runV CX.fix hM (cwV 0 CX.ts (lw_V q653 q654 q655 q122 q656) rfl hr.1 hr.2.1 (by decide +kernel) ⟨hr.2.2.1, hr.2.2.2⟩) ⟨b_blind G B0 H _, by have h9 := b_recv CX.K hc hP; rw [hq] at h9; exact h9, b_pre _ CX.K hS⟩ rfl hn hls hst (lv_room hw) hdg hf
theorem gf_X1_222_6 {p : Program} {l : Launch} {e : Env} {R : Room} {s : State} {m : MethodId} {args : Array Value} {below : List Frame} {meth : Method} {c : Code} {H : Heap} {locs : List Loc} {cells slots : Nat} {Q : State → Prop} {cc : ByteArray} {pc nL a : Nat} {ls : Array Slot} {rest : List Value} {G : b_G} {B0 : Nat} (CX : b_Cx p s m args c cc nL RX1 G B0) {fs : List Value} (hP : b_at G a (.inr (6, fs)) H) {v : Value} (hv : fs[1]? = some v) (hdg : decode cc pc = .ok (.getfield 222, 3)) (kk : W p l e R s m args below meth c H locs cells slots Q (F0 m (pc + 3) ls (v :: rest))) : W p l e R s m args below meth c H locs cells slots Q (F0 m pc ls (.ref a :: rest)) := b_getN CX in_X20 rfl 1 (by decide) q644 (Or.inl rfl) hP hv hdg kk
set_option maxHeartbeats 2000000 in
set_option maxRecDepth 100000 in
theorem m_X1_firstError (l : Launch) {G : b_G} {B0 : Nat} {H : Heap} {τ : b_T} {A : Nat → Nat} {S : b_St} {n : Nat} {L : Nat → b_St} {tn : Nat} {t : Nat → Nat} (hXR : XR G B0 τ A H (S, n, L, tn, t)) : Met l yX1_firstError (ws_ yX1_firstError cX1_firstError 2 (Option.some Jvm.ClassFile.FieldType.int)) ({ frames := 9, cells := 133, slots := 910, locals := 201 } : Room) (b_Pc G B0 H [.ref ((A 0))]) (b_Qi B0 (fun r H1 => o_ok1 G B0 τ A H (o_first (S, n, L, tn, t) ) r H1)) 133 910 (b_A B0) := by
  refine b_of (by decide) (Nat.le_of_ble_eq_true rfl) ?_
  intro p e s m below meth c CX hr hlk hnm hS ls hl
  have CX : b_Cx p s m _ c cX1_firstError 2 RX1 G B0 := CX
  have hx := CX.hx
  have hb := CX.hb
  have hl : lv_has ls 2 [(0, .ref ((A 0)))] := hl
  generalize hQ : MQ below (b_Qi B0 (fun r H1 => o_ok1 G B0 τ A H (o_first (S, n, L, tn, t) ) r H1)) ([.ref ((A 0))] : List Value).toArray s 133 910 (b_A B0) = Q
  have hF : b_Fr τ (fun t => t < 200 ∨ 1000 ≤ t) H H := b_Fr.rf
  have hA : b_Ag τ τ H := b_Ag.rf
  have hX : b_Ext H H := b_Ext.rf
  obtain ⟨d0, c0, ids, P0, F, M, E, Z, sm, rs, se, ml, hs, bt, tk9, hc_X, hc_sv, hsa, hse, hc_tx, hc_tb, hbt, hc_tk, hL, hZ, hW, hV, hd0, hdc, hn, htn, ht⟩ := hXR
  have hc_X : b_tt G B0 τ H ((A 0)) 0 (.inr (0, [.ref ((F 0)), .ref ((A 1)), .ref ((A 3)), .ref ((A 5)), .long hs])) := hc_X
  have hc_sv : b_tt G B0 τ H ((A 1)) 1 (.inr (2, [.int sm, .ref ((if se = true then rs else G.2.2 0)), .int (nI n)])) := hc_sv
  have hsa : (se = true → b_tt G B0 τ H rs 2 (.inl (G.2.1 2, q_refs 10 (fun j => if j < n then some (P0 j) else none)))) := hsa
  have hc_tx : b_tt G B0 τ H ((A 3)) 3 (.inr (3, [.ref ((A 4)), .int (nI 0), .int ml, .int (nI tn)])) := hc_tx
  have hc_tb : b_tt G B0 τ H ((A 4)) 4 (.inl (G.2.1 1, 60, .inl bt)) := hc_tb
  have hc_tk : b_tt G B0 τ H ((A 5)) 5 (.inl (G.2.1 0, 8, .inl tk9)) := hc_tk
  have hL : LR G B0 τ d0 F M E H S Z := hL
  have hV : SV G B0 τ d0 c0 n ids P0 H L := hV
  have hn8 := hL.2.2.2.1
  have hn6 := hL.2.2.2.2
  have hnb : nb S = nb S := rfl
  have hns : ns S = ns S := rfl
  have hn : n ≤ 6 := hn
  have htn : tn ≤ 60 := htn
  have ht : ∀ j, t j < 128 := ht
  have hse : se = true ∨ n = 0 := hse
  have hZ : pZ Z S := hZ
  have hW : b_WF S := hW
  have hbt : ∀ j, j < tn → bt j = nI (t j) := hbt
  refine b_new CX in_X20 tyX20 tyX20_ok (ci := 6) rfl q633 q634 q122 (fs := [.null, .int (nI 0), .null]) (nofn_X20) hS (Nat.le_of_ble_eq_true rfl) (Nat.le_of_ble_eq_true rfl) dX1_firstError_0 (fun q1 H1 hq hB hat hsz hE hS => ?_)
  have hc_X := hc_X.new (tb := 110) hE hq
  have hc_sv := hc_sv.new (tb := 110) hE hq
  have hsa := fun h9 => (hsa h9).new (tb := 110) hE hq
  have hc_tx := hc_tx.new (tb := 110) hE hq
  have hc_tb := hc_tb.new (tb := 110) hE hq
  have hc_tk := hc_tk.new (tb := 110) hE hq
  have hL := hL.new (tb := 110) hE hq
  have hV := hV.new (tb := 110) hE hq
  have fr_rd : H.size ≤ q1 := by rw [hq]; exact hF.1
  have hX := hX.tr hE
  have hA := hA.tr (b_Ag.new (t := 110) hq) hF.1
  have hF := hF.ext hE
  have hc_rd : b_tt G B0 ((upT τ q1 110)) H1 q1 110 (.inr (6, [.null, .int (nI 0), .null])) := b_tt.mk hat hB
  refine lv_dup hx hb dX1_firstError_3 rfl ?_
  refine lv_aload_n hx hb dX1_firstError_4 rfl (lv_at hl 0 rfl) ?_
  refine b_cv (cs_X1_215 (rest := [.ref q1]) CX hl.1 (m_X20_init l (rr := q1) (a := (A 0)) hc_rd) rfl hS rfl ⟨rfl, rfl, Nat.le_of_ble_eq_true rfl, Nat.le_of_ble_eq_true rfl⟩ (Nat.le_of_ble_eq_true rfl) dX1_firstError_5 ⟨Nat.le_of_ble_eq_true rfl, Nat.le_of_ble_eq_true rfl⟩) hS (fun H2 locs hp hS => ?_)
  obtain ⟨τ2, ro2, hA9, hF9, hr0, hx0, hx1⟩ := hp
  have hc_X := hc_X.ca hF9 hA9 (show ¬ (0 = 110 ∨ 0 = 111) by omega)
  have hc_sv := hc_sv.ca hF9 hA9 (show ¬ (1 = 110 ∨ 1 = 111) by omega)
  have hsa := fun h9 => (hsa h9).ca hF9 hA9 (show ¬ (2 = 110 ∨ 2 = 111) by omega)
  have hc_tx := hc_tx.ca hF9 hA9 (show ¬ (3 = 110 ∨ 3 = 111) by omega)
  have hc_tb := hc_tb.ca hF9 hA9 (show ¬ (4 = 110 ∨ 4 = 111) by omega)
  have hc_tk := hc_tk.ca hF9 hA9 (show ¬ (5 = 110 ∨ 5 = 111) by omega)
  have hL := hL.ca hF9 hA9 (fun i9 hi9 => show ¬ ((1000 * d0 + i9) = 110 ∨ (1000 * d0 + i9) = 111) by omega)
  have hV := hV.ca hF9 hA9 (fun k9 h1 h2 h3 i9 hi9 => show ¬ ((1000 * k9 + i9) = 110 ∨ (1000 * k9 + i9) = 111) by omega)
  have hz9 := hF.1
  have hF0 := hF.tr hA hF9 (fun q9 hq9 x9 => by have x8 : τ q9 = 110 ∨ τ q9 = 111 := x9; show τ q9 < 200 ∨ 1000 ≤ τ q9; omega)
  have hA := hA.tr hA9 hF.1
  have hF := hF0
  have hc_rd : b_tt G B0 τ2 H2 q1 110 (.inr (6, [.ref ro2, .int (nI 0), .ref ((A 0))])) := hx0
  have hc_ol2 : b_tt G B0 τ2 H2 ro2 111 (.inr (2, [.int (nI 0), .ref ((G.2.2 0)), .int (nI 0)])) := hx1
  have fr_ol2 : H.size ≤ ro2 := Nat.le_trans hz9 hr0
  refine lv_astore_n (lv' := [(1, .ref q1), (0, .ref ((A 0)))]) hx hb dX1_firstError_8 rfl hl (Nat.le_of_ble_eq_true rfl) rfl (fun ls hl => ?_)
  refine lv_aload_n hx hb dX1_firstError_9 rfl (lv_at hl 0 rfl) ?_
  have hRO : RO G B0 τ2 H2 ro2 ([] : List (Nat × Nat × Nat × Nat)) := RO.nil hc_ol2
  refine b_ci (cs_X1_218 (rest := []) CX hl.1 (m_X20_isRow l (rr := q1) (ro := ro2) (a := (A 0)) (f0 := (F 0)) (asv := (A 1)) (atx := (A 3)) (va := (A 4)) (bt := bt) (ml := ml) (tn := tn) (atk := (A 5)) (hs := hs) hc_rd hc_X hc_tx hc_tb hbt ht (by omega) hRO) rfl rfl rfl hc_rd.at hS rfl ⟨rfl, rfl, Nat.le_of_ble_eq_true rfl, Nat.le_of_ble_eq_true rfl⟩ (Nat.le_of_ble_eq_true rfl) dX1_firstError_10 ⟨Nat.le_of_ble_eq_true rfl, Nat.le_of_ble_eq_true rfl⟩) hS (fun r H3 locs hp hS => ?_)
  obtain ⟨τ3, hA9, hF9, hrd, hor⟩ := hp
  have hc_X := hc_X.ca hF9 hA9 (show ¬ (110 ≤ 0 ∧ 0 < 200) by omega)
  have hc_sv := hc_sv.ca hF9 hA9 (show ¬ (110 ≤ 1 ∧ 1 < 200) by omega)
  have hsa := fun h9 => (hsa h9).ca hF9 hA9 (show ¬ (110 ≤ 2 ∧ 2 < 200) by omega)
  have hc_tx := hc_tx.ca hF9 hA9 (show ¬ (110 ≤ 3 ∧ 3 < 200) by omega)
  have hc_tb := hc_tb.ca hF9 hA9 (show ¬ (110 ≤ 4 ∧ 4 < 200) by omega)
  have hc_tk := hc_tk.ca hF9 hA9 (show ¬ (110 ≤ 5 ∧ 5 < 200) by omega)
  have hL := hL.ca hF9 hA9 (fun i9 hi9 => show ¬ (110 ≤ (1000 * d0 + i9) ∧ (1000 * d0 + i9) < 200) by omega)
  have hV := hV.ca hF9 hA9 (fun k9 h1 h2 h3 i9 hi9 => show ¬ (110 ≤ (1000 * k9 + i9) ∧ (1000 * k9 + i9) < 200) by omega)
  have hF0 := hF.tr hA hF9 (fun q9 hq9 x9 => by have x8 : 110 ≤ τ q9 ∧ τ q9 < 200 := x9; show τ q9 < 200 ∨ 1000 ≤ τ q9; omega)
  have hA := hA.tr hA9 hF.1
  have hF := hF0
  have hc_rd : b_tt G B0 τ3 H3 q1 110 (.inr (6, [.ref ro2, .int (nI ((q_all t tn (tn + 1) 0).2.1)), .ref ((A 0))])) := hrd
  rcases hor with ⟨hq9, rfl, hRO⟩ | ⟨hq9, rfl⟩
  · refine lv_if_eq (tgt := 26) hx hb dX1_firstError_13 (by decide) (fun c_13 => ?_) (fun c_13 => ?_)
    · exact absurd c_13 (by decide)
    · refine lv_aload_n hx hb dX1_firstError_16 rfl (lv_at hl 1 rfl) ?_
      refine gf_X1_37_0 CX hc_X.at rfl dX1_firstError_17 ?_
      refine b_ci0 (cs_X1_203 (rest := []) CX hl.1 (m_J4_length l (a := (A 3)) (ta := 3) (va := (A 4)) (tv := 4) (f := bt) (ml := ml) (n := tn) hc_tx hc_tb) rfl rfl rfl hc_tx.at hS rfl ⟨rfl, rfl, Nat.le_of_ble_eq_true rfl, Nat.le_of_ble_eq_true rfl⟩ (Nat.le_of_ble_eq_true rfl) dX1_firstError_20 ⟨Nat.le_of_ble_eq_true rfl, Nat.le_of_ble_eq_true rfl⟩) hS (fun locs hS => ?_)
      refine lv_goto (tgt := 30) hx hb dX1_firstError_23 (by decide) ?_
      refine b_top (x := nI tn) (y := nI ((q_all t tn (tn + 1) 0).2.1)) (by rw [hq9]) ?_
      have ho : o_first (S, n, L, tn, t)  = (nI 0, nI ((q_all t tn (tn + 1) 0).2.1), (S, n, L, tn, t)) := by
        unfold o_first
        try dsimp only
        repeat (first | rw [if_pos (by first | assumption | exact ⟨by assumption, by assumption⟩ | (constructor <;> omega) | omega | exact fun q => absurd q (by assumption) | exact fun q => absurd q.1 (by assumption) | exact fun q => absurd q.2 (by assumption) | exact Int32.not_lt.mpr (by assumption) | exact Int32.not_le.mp (by assumption) | exact fun q => q.2 (by assumption) | exact fun q => absurd q.1 (by omega))] | rw [if_neg (by first | assumption | exact ⟨by assumption, by assumption⟩ | (constructor <;> omega) | omega | exact fun q => absurd q (by assumption) | exact fun q => absurd q.1 (by assumption) | exact fun q => absurd q.2 (by assumption) | exact Int32.not_lt.mpr (by assumption) | exact Int32.not_le.mp (by assumption) | exact fun q => q.2 (by assumption) | exact fun q => absurd q.1 (by omega))])
        first | rfl | (unfold f_ok f_no z_save;  rfl)
      rw [← hQ]
      exact b_iret CX hr hlk hS (Nat.le_of_ble_eq_true rfl) (Nat.le_of_ble_eq_true rfl) dX1_firstError_30 ((by unfold o_ok1; rw [ho]; exact ⟨rfl, rfl, _, hA, hF, ⟨d0, c0, ids, P0, F, M, E, Z, sm, rs, se, ml, hs, bt, tk9, hc_X, hc_sv, hsa, hse, hc_tx, hc_tb, hbt, hc_tk, hL, hZ, hW, hV, hd0, hdc, hn, htn, ht⟩⟩))
  · refine lv_if_eq (tgt := 26) hx hb dX1_firstError_13 (by decide) (fun c_13 => ?_) (fun c_13 => ?_)
    · refine lv_aload_n hx hb dX1_firstError_26 rfl (lv_at hl 0 rfl) ?_
      refine gf_X1_222_6 CX hc_rd.at rfl dX1_firstError_27 ?_
      have ho : o_first (S, n, L, tn, t)  = (nI 0, nI ((q_all t tn (tn + 1) 0).2.1), (S, n, L, tn, t)) := by
        unfold o_first
        try dsimp only
        repeat (first | rw [if_pos (by first | assumption | exact ⟨by assumption, by assumption⟩ | (constructor <;> omega) | omega | exact fun q => absurd q (by assumption) | exact fun q => absurd q.1 (by assumption) | exact fun q => absurd q.2 (by assumption) | exact Int32.not_lt.mpr (by assumption) | exact Int32.not_le.mp (by assumption) | exact fun q => q.2 (by assumption) | exact fun q => absurd q.1 (by omega))] | rw [if_neg (by first | assumption | exact ⟨by assumption, by assumption⟩ | (constructor <;> omega) | omega | exact fun q => absurd q (by assumption) | exact fun q => absurd q.1 (by assumption) | exact fun q => absurd q.2 (by assumption) | exact Int32.not_lt.mpr (by assumption) | exact Int32.not_le.mp (by assumption) | exact fun q => q.2 (by assumption) | exact fun q => absurd q.1 (by omega))])
        first | rfl | (unfold f_ok f_no z_save;  rfl)
      rw [← hQ]
      exact b_iret CX hr hlk hS (Nat.le_of_ble_eq_true rfl) (Nat.le_of_ble_eq_true rfl) dX1_firstError_30 ((by unfold o_ok1; rw [ho]; exact ⟨rfl, rfl, _, hA, hF, ⟨d0, c0, ids, P0, F, M, E, Z, sm, rs, se, ml, hs, bt, tk9, hc_X, hc_sv, hsa, hse, hc_tx, hc_tb, hbt, hc_tk, hL, hZ, hW, hV, hd0, hdc, hn, htn, ht⟩⟩))
    · exact absurd c_13 (by decide)
theorem cs_X6_45 {p : Program} {l : Launch} {e : Env} {R : Room} {s : State} {m : MethodId} {args : Array Value} {below : List Frame} {meth : Method} {c : Code} {H : Heap} {locs : List Loc} {cells slots : Nat} {cc : ByteArray} {pc nL a : Nat} {ls : Array Slot} {rest : List Value} {G : b_G} {B0 : Nat} (CX : b_Cx p s m args c cc nL RX6 G B0) (hls : ls.size = nL) {rm : Room} {mc ms : Nat} {As st0 : List Value} {Qc : Array Value → State → Outcome → State → Prop} (hM : Met l yX22_init (ws_ yX22_init cX22_init 2 (Option.none)) rm (b_Pc G B0 H (.ref a :: As)) Qc mc ms (b_A B0)) (hn : As.length = 1) (hS : va_S (b_A B0) s.heap H locs) (hst : st0 = As.reverse ++ .ref a :: rest) (hr : rm.cells = mc ∧ rm.slots = ms ∧ rm.frames + 1 ≤ R.frames ∧ 8 + (2 + 11) + rm.locals ≤ R.locals) (hw : (rest.map fun v => v.category).sum ≤ 8) (hdg : decode cc pc = .ok (.invokespecial 45, 3)) (hf : cells + mc ≤ R.cells ∧ slots + ms ≤ R.slots) : va_Run p l e R s m args below meth c H locs cells slots mc ms (F0 m pc ls st0) rest (Qc (Value.ref a :: As).toArray) (b_A B0) := va_runI CX.fix hM (cwI 1 CX.ts (lw_meth q1727) rfl hr.1 hr.2.1 (CX.ts _ q124) (CX.ts _ q1745) (CX.ts _ q1726) rfl (by decide +kernel) ⟨hr.2.2.1, hr.2.2.2⟩) ⟨b_blind G B0 H _, b_pre _ CX.K hS⟩ rfl hn hls hst (lv_room hw) hdg hf
set_option maxHeartbeats 2000000 in
set_option maxRecDepth 100000 in
theorem m_X6_order_9 (l : Launch) {G : b_G} {B0 : Nat} {H : Heap} {τ : b_T} {id : Nat} {F : Nat → Nat} {M : Nat → Int32} {E : Nat → Bool} {S : b_St} {Z : Nat → Nat → Int32} {da : Nat} {td : Nat} {a : Nat} {asv : Nat} {atx : Nat} {atk : Nat} {hs : Int64} {b : Nat} {s_ : Nat} {c_ : Int32} (hc_D : b_tt G B0 τ H da (td) (.inr (9, [.ref a, .int (nI b), .int (nI s_), .int c_, .ref a]))) (hc_X : b_tt G B0 τ H a 0 (.inr (0, [.ref ((F 0)), .ref asv, .ref atx, .ref atk, .long hs]))) (hL : LR G B0 τ id F M E H S Z) (hW : b_WF S) (hBb : b < nb S) (hSs_ : s_ < ns S) (ht9 : td = 100) (hi0 : 0 < id) (htd : td < 1000) : vx_Met l yX6_order (wsW_ yX6_order cX6_order 2 (Option.none) [((0 : Nat), (4 : Nat), (7 : Nat), (25 : Nat))]) ({ frames := 8, cells := 4, slots := 24, locals := 172 } : Room) (b_Pc G B0 H [.ref da]) (b_Qv B0 (fun H1 => ((a_deliver S b s_ c_) = nI 0) ∧ b_Fr τ (fun t => 1000 * id ≤ t ∧ t < 1000 * id + 1000) H H1 ∧ LR G B0 τ id F M E H1 ((s_deliver S b s_ c_)) Z)) (b_X B0 (fun E9 q9 H9 => r_px G B0 H (a_deliver S b s_ c_) E9 q9 H9)) 4 24 (b_A B0) := by
  refine b_ofXW (by decide) (Nat.le_of_ble_eq_true rfl) ?_
  intro p e s m below meth c CX hr hlk htb hS ls hl
  have CX : b_Cx p s m _ c cX6_order 2 RX6 G B0 := CX
  have hx := CX.hx
  have hb := CX.hb
  have hl : lv_has ls 2 [(0, .ref da)] := hl
  generalize hQ : vx_MQ below (b_Qv B0 (fun H1 => ((a_deliver S b s_ c_) = nI 0) ∧ b_Fr τ (fun t => 1000 * id ≤ t ∧ t < 1000 * id + 1000) H H1 ∧ LR G B0 τ id F M E H1 ((s_deliver S b s_ c_)) Z)) (b_X B0 (fun E9 q9 H9 => r_px G B0 H (a_deliver S b s_ c_) E9 q9 H9)) ([.ref da] : List Value).toArray s 4 24 (b_A B0) = Q
  have hF : b_Fr τ (fun t => 1000 * id ≤ t ∧ t < 1000 * id + 1000) H H := b_Fr.rf
  have hA : b_Ag τ τ H := b_Ag.rf
  have hX : b_Ext H H := b_Ext.rf
  have hnb : nb S = nb S := rfl
  have hns : ns S = ns S := rfl
  have hn8 := hL.2.2.2.1
  have hn6 := hL.2.2.2.2
  refine lv_aload_n hx hb dX6_order_0 rfl (lv_at hl 0 rfl) ?_
  refine b_xv0 (cx_X6_15_9 (rest := []) CX hl.1 (m_X12_check l (da := da) (td := td) (a := a) (asv := asv) (atx := atx) (atk := atk) (hs := hs) (b := b) (s_ := s_) (c_ := c_) hc_D hc_X hL hW (by omega) (by omega)) rfl hc_D.at hS rfl ⟨rfl, rfl, Nat.le_of_ble_eq_true rfl, Nat.le_of_ble_eq_true rfl⟩ (Nat.le_of_ble_eq_true rfl) dX6_order_1 ⟨Nat.le_of_ble_eq_true rfl, Nat.le_of_ble_eq_true rfl⟩) hS (fun E9 q9 Hx1 locs hx9 hS he9 => ?_) (fun hk_1 locs hS => ?_)
  · obtain ⟨hE, hz, hB, v9, hv9, hcd, hnm9, hat⟩ := hx9
    rcases hv9 with rfl | rfl | rfl
    · obtain rfl := hnm9
      refine b_xcatch CX (E := "BottleLoop$NoBottles") (name := "BottleLoop$Shortage") [] ⟨0, 4, 7, 25⟩ [] (by rw [htb]; rfl) (fun z hz9 => nomatch hz9) (by decide) (by decide) q1197 (CX.nw q2227 rfl rfl) he9 ?_
      have hc_D := hc_D.ad (tb := 101) hE hz
      have hc_X := hc_X.ad (tb := 101) hE hz
      have hL := hL.ad (tb := 101) hE hz
      have fr_ex : H.size ≤ q9 := Nat.le_trans hF.1 hz
      have hX := hX.tr hE
      have hA := hA.tr (b_Ag.ge (t := 101) hz) hF.1
      have hF := hF.ext hE
      have hc_ex : b_tt G B0 ((upT τ q9 101)) Hx1 q9 101 (.inr (18, [.null, .null, .null, .null, .null, .int (nI 0)])) := b_tt.mk hat hB
      refine lv_astore_n (lv' := [(1, .ref q9), (0, .ref da)]) hx hb dX6_order_7 rfl hl (Nat.le_of_ble_eq_true rfl) rfl (fun ls hl => ?_)
      refine b_newM CX in_X22 tyX22 tyX22_ok (ci := 21) rfl q1744 q1717 q124 (fs := [.null, .null, .null, .null, .null, .int (nI 0)]) (nofn_X22) hS (Nat.le_of_ble_eq_true rfl) (Nat.le_of_ble_eq_true rfl) dX6_order_8 (fun q2 H2 hq hB hat hsz hE hmo hS => ?_)
      have hc_D := hc_D.new (tb := 102) hE hq
      have hc_X := hc_X.new (tb := 102) hE hq
      have hL := hL.new (tb := 102) hE hq
      have hc_ex := hc_ex.new (tb := 102) hE hq
      have fr_rf : H.size ≤ q2 := by rw [hq]; exact hF.1
      have hX := hX.tr hE
      have hA := hA.tr (b_Ag.new (t := 102) hq) hF.1
      have hF := hF.ext hE
      have hc_rf : b_tt G B0 ((upT (upT τ q9 101) q2 102)) H2 q2 102 (.inr (21, [.null, .null, .null, .null, .null, .int (nI 0)])) := b_tt.mk hat hB
      refine lv_dup hx hb dX6_order_11 rfl ?_
      refine lv_aload_n hx hb dX6_order_12 rfl (lv_at hl 0 rfl) ?_
      refine b_cv (cs_X6_45 (rest := [.ref q2]) CX hl.1 (m_X22_init_r l (a := q2) (ta := 102) (ca := q9) hc_rf hmo) rfl hS rfl ⟨rfl, rfl, Nat.le_of_ble_eq_true rfl, Nat.le_of_ble_eq_true rfl⟩ (Nat.le_of_ble_eq_true rfl) dX6_order_13 ⟨Nat.le_of_ble_eq_true rfl, Nat.le_of_ble_eq_true rfl⟩) hS (fun H3 locs hp hS => ?_)
      obtain ⟨hu, hmo, hx0⟩ := hp
      have hc_D := hc_D.up hu hc_rf.tag (by omega)
      have hc_X := hc_X.up hu hc_rf.tag (by decide)
      have hL := hL.up hu hc_rf.tag (by omega)
      have hc_ex := hc_ex.up hu hc_rf.tag (by decide)
      have hX := hX.up hu fr_rf
      have hF := hF.up hA hu hc_rf.tag (fun q9 => absurd q9 (Nat.not_lt.mpr fr_rf))
      have hc_rf : b_tt G B0 ((upT (upT τ q9 101) q2 102)) H3 q2 102 (.inr (21, [.ref q9, .null, .null, .null, .null, .int (nI 0)])) := hx0
      refine b_athrow CX dX6_order_16 ?_
      rw [← hQ]
      exact b_xoutP CX (fun z hz9 => by rw [htb] at hz9; rcases List.mem_cons.mp hz9 with rfl | h8; exact Or.inl (by decide); exact nomatch h8) hlk (b_thof CX (ci := 21) rfl hc_rf.at) hS (Nat.le_of_ble_eq_true rfl) (Nat.le_of_ble_eq_true rfl) ⟨hX, rfl, hc_rf.B, hmo, Or.inr ⟨1, q9, by omega, hcd, hc_ex.B, (fun h9 => absurd (hc_rf.tag.symm.trans ((congrArg _ h9.symm).trans hc_ex.tag)) (by decide)), hc_rf.at, hc_ex.at⟩⟩
    · obtain rfl := hnm9
      refine b_xcatch CX (E := "BottleLoop$NoCrates") (name := "BottleLoop$Shortage") [] ⟨0, 4, 7, 25⟩ [] (by rw [htb]; rfl) (fun z hz9 => nomatch hz9) (by decide) (by decide) q1197 (CX.nw q2228 rfl rfl) he9 ?_
      have hc_D := hc_D.ad (tb := 101) hE hz
      have hc_X := hc_X.ad (tb := 101) hE hz
      have hL := hL.ad (tb := 101) hE hz
      have fr_ex : H.size ≤ q9 := Nat.le_trans hF.1 hz
      have hX := hX.tr hE
      have hA := hA.tr (b_Ag.ge (t := 101) hz) hF.1
      have hF := hF.ext hE
      have hc_ex : b_tt G B0 ((upT τ q9 101)) Hx1 q9 101 (.inr (19, [.null, .null, .null, .null, .null, .int (nI 0)])) := b_tt.mk hat hB
      refine lv_astore_n (lv' := [(1, .ref q9), (0, .ref da)]) hx hb dX6_order_7 rfl hl (Nat.le_of_ble_eq_true rfl) rfl (fun ls hl => ?_)
      refine b_newM CX in_X22 tyX22 tyX22_ok (ci := 21) rfl q1744 q1717 q124 (fs := [.null, .null, .null, .null, .null, .int (nI 0)]) (nofn_X22) hS (Nat.le_of_ble_eq_true rfl) (Nat.le_of_ble_eq_true rfl) dX6_order_8 (fun q4 H4 hq hB hat hsz hE hmo hS => ?_)
      have hc_D := hc_D.new (tb := 102) hE hq
      have hc_X := hc_X.new (tb := 102) hE hq
      have hL := hL.new (tb := 102) hE hq
      have hc_ex := hc_ex.new (tb := 102) hE hq
      have fr_rf : H.size ≤ q4 := by rw [hq]; exact hF.1
      have hX := hX.tr hE
      have hA := hA.tr (b_Ag.new (t := 102) hq) hF.1
      have hF := hF.ext hE
      have hc_rf : b_tt G B0 ((upT (upT τ q9 101) q4 102)) H4 q4 102 (.inr (21, [.null, .null, .null, .null, .null, .int (nI 0)])) := b_tt.mk hat hB
      refine lv_dup hx hb dX6_order_11 rfl ?_
      refine lv_aload_n hx hb dX6_order_12 rfl (lv_at hl 0 rfl) ?_
      refine b_cv (cs_X6_45 (rest := [.ref q4]) CX hl.1 (m_X22_init_r l (a := q4) (ta := 102) (ca := q9) hc_rf hmo) rfl hS rfl ⟨rfl, rfl, Nat.le_of_ble_eq_true rfl, Nat.le_of_ble_eq_true rfl⟩ (Nat.le_of_ble_eq_true rfl) dX6_order_13 ⟨Nat.le_of_ble_eq_true rfl, Nat.le_of_ble_eq_true rfl⟩) hS (fun H5 locs hp hS => ?_)
      obtain ⟨hu, hmo, hx0⟩ := hp
      have hc_D := hc_D.up hu hc_rf.tag (by omega)
      have hc_X := hc_X.up hu hc_rf.tag (by decide)
      have hL := hL.up hu hc_rf.tag (by omega)
      have hc_ex := hc_ex.up hu hc_rf.tag (by decide)
      have hX := hX.up hu fr_rf
      have hF := hF.up hA hu hc_rf.tag (fun q9 => absurd q9 (Nat.not_lt.mpr fr_rf))
      have hc_rf : b_tt G B0 ((upT (upT τ q9 101) q4 102)) H5 q4 102 (.inr (21, [.ref q9, .null, .null, .null, .null, .int (nI 0)])) := hx0
      refine b_athrow CX dX6_order_16 ?_
      rw [← hQ]
      exact b_xoutP CX (fun z hz9 => by rw [htb] at hz9; rcases List.mem_cons.mp hz9 with rfl | h8; exact Or.inl (by decide); exact nomatch h8) hlk (b_thof CX (ci := 21) rfl hc_rf.at) hS (Nat.le_of_ble_eq_true rfl) (Nat.le_of_ble_eq_true rfl) ⟨hX, rfl, hc_rf.B, hmo, Or.inr ⟨2, q9, by omega, hcd, hc_ex.B, (fun h9 => absurd (hc_rf.tag.symm.trans ((congrArg _ h9.symm).trans hc_ex.tag)) (by decide)), hc_rf.at, hc_ex.at⟩⟩
    · obtain rfl := hnm9
      refine b_xcatch CX (E := "BottleLoop$NoMoney") (name := "BottleLoop$Shortage") [] ⟨0, 4, 7, 25⟩ [] (by rw [htb]; rfl) (fun z hz9 => nomatch hz9) (by decide) (by decide) q1197 (CX.nw q2229 rfl rfl) he9 ?_
      have hc_D := hc_D.ad (tb := 101) hE hz
      have hc_X := hc_X.ad (tb := 101) hE hz
      have hL := hL.ad (tb := 101) hE hz
      have fr_ex : H.size ≤ q9 := Nat.le_trans hF.1 hz
      have hX := hX.tr hE
      have hA := hA.tr (b_Ag.ge (t := 101) hz) hF.1
      have hF := hF.ext hE
      have hc_ex : b_tt G B0 ((upT τ q9 101)) Hx1 q9 101 (.inr (20, [.null, .null, .null, .null, .null, .int (nI 0)])) := b_tt.mk hat hB
      refine lv_astore_n (lv' := [(1, .ref q9), (0, .ref da)]) hx hb dX6_order_7 rfl hl (Nat.le_of_ble_eq_true rfl) rfl (fun ls hl => ?_)
      refine b_newM CX in_X22 tyX22 tyX22_ok (ci := 21) rfl q1744 q1717 q124 (fs := [.null, .null, .null, .null, .null, .int (nI 0)]) (nofn_X22) hS (Nat.le_of_ble_eq_true rfl) (Nat.le_of_ble_eq_true rfl) dX6_order_8 (fun q6 H6 hq hB hat hsz hE hmo hS => ?_)
      have hc_D := hc_D.new (tb := 102) hE hq
      have hc_X := hc_X.new (tb := 102) hE hq
      have hL := hL.new (tb := 102) hE hq
      have hc_ex := hc_ex.new (tb := 102) hE hq
      have fr_rf : H.size ≤ q6 := by rw [hq]; exact hF.1
      have hX := hX.tr hE
      have hA := hA.tr (b_Ag.new (t := 102) hq) hF.1
      have hF := hF.ext hE
      have hc_rf : b_tt G B0 ((upT (upT τ q9 101) q6 102)) H6 q6 102 (.inr (21, [.null, .null, .null, .null, .null, .int (nI 0)])) := b_tt.mk hat hB
      refine lv_dup hx hb dX6_order_11 rfl ?_
      refine lv_aload_n hx hb dX6_order_12 rfl (lv_at hl 0 rfl) ?_
      refine b_cv (cs_X6_45 (rest := [.ref q6]) CX hl.1 (m_X22_init_r l (a := q6) (ta := 102) (ca := q9) hc_rf hmo) rfl hS rfl ⟨rfl, rfl, Nat.le_of_ble_eq_true rfl, Nat.le_of_ble_eq_true rfl⟩ (Nat.le_of_ble_eq_true rfl) dX6_order_13 ⟨Nat.le_of_ble_eq_true rfl, Nat.le_of_ble_eq_true rfl⟩) hS (fun H7 locs hp hS => ?_)
      obtain ⟨hu, hmo, hx0⟩ := hp
      have hc_D := hc_D.up hu hc_rf.tag (by omega)
      have hc_X := hc_X.up hu hc_rf.tag (by decide)
      have hL := hL.up hu hc_rf.tag (by omega)
      have hc_ex := hc_ex.up hu hc_rf.tag (by decide)
      have hX := hX.up hu fr_rf
      have hF := hF.up hA hu hc_rf.tag (fun q9 => absurd q9 (Nat.not_lt.mpr fr_rf))
      have hc_rf : b_tt G B0 ((upT (upT τ q9 101) q6 102)) H7 q6 102 (.inr (21, [.ref q9, .null, .null, .null, .null, .int (nI 0)])) := hx0
      refine b_athrow CX dX6_order_16 ?_
      rw [← hQ]
      exact b_xoutP CX (fun z hz9 => by rw [htb] at hz9; rcases List.mem_cons.mp hz9 with rfl | h8; exact Or.inl (by decide); exact nomatch h8) hlk (b_thof CX (ci := 21) rfl hc_rf.at) hS (Nat.le_of_ble_eq_true rfl) (Nat.le_of_ble_eq_true rfl) ⟨hX, rfl, hc_rf.B, hmo, Or.inr ⟨3, q9, by omega, hcd, hc_ex.B, (fun h9 => absurd (hc_rf.tag.symm.trans ((congrArg _ h9.symm).trans hc_ex.tag)) (by decide)), hc_rf.at, hc_ex.at⟩⟩
  refine lv_goto (tgt := 17) hx hb dX6_order_4 (by decide) ?_
  refine lv_aload_n hx hb dX6_order_17 rfl (lv_at hl 0 rfl) ?_
  refine b_ci (cs_X6_40_9 (rest := []) CX hl.1 (m_X12_does l (da := da) (td := td) (a := a) (asv := asv) (atx := atx) (atk := atk) (hs := hs) (b := b) (s_ := s_) (c_ := c_) hc_D hc_X hL hW (by omega) (by omega) (by omega) (by omega)) rfl hc_D.at hS rfl ⟨rfl, rfl, Nat.le_of_ble_eq_true rfl, Nat.le_of_ble_eq_true rfl⟩ (Nat.le_of_ble_eq_true rfl) dX6_order_18 ⟨Nat.le_of_ble_eq_true rfl, Nat.le_of_ble_eq_true rfl⟩) hS (fun r H8 locs hp hS => ?_)
  obtain ⟨rfl, hF9, hL9⟩ := hp
  have hc_D := hc_D.fr hF9 (show ¬ (1000 * id ≤ (td) ∧ (td) < 1000 * id + 1000) by omega)
  have hc_X := hc_X.fr hF9 (show ¬ (1000 * id ≤ 0 ∧ 0 < 1000 * id + 1000) by omega)
  have hz9 := hF.1
  have hF0 := hF.tr hA hF9 (fun q9 hq9 x9 => by have x8 : 1000 * id ≤ τ q9 ∧ τ q9 < 1000 * id + 1000 := x9; show 1000 * id ≤ τ q9 ∧ τ q9 < 1000 * id + 1000; omega)
  have hF := hF0
  have hL : LR G B0 τ id F M E H8 ((s_deliver S b s_ c_)) Z := hL9
  refine lv_pop hx hb dX6_order_21 rfl ?_
  rw [← hQ]
  exact vx_ret (b_vret CX hr hlk hS (Nat.le_of_ble_eq_true rfl) (Nat.le_of_ble_eq_true rfl) dX6_order_22 (⟨(by exact hk_1), hF, hL⟩))
set_option maxHeartbeats 2000000 in
set_option maxRecDepth 100000 in
theorem m_X6_order_10 (l : Launch) {G : b_G} {B0 : Nat} {H : Heap} {τ : b_T} {id : Nat} {F : Nat → Nat} {M : Nat → Int32} {E : Nat → Bool} {S : b_St} {Z : Nat → Nat → Int32} {da : Nat} {td : Nat} {a : Nat} {asv : Nat} {atx : Nat} {atk : Nat} {hs : Int64} {b : Nat} {s_ : Nat} {w_ : Int32} (hc_D : b_tt G B0 τ H da (td) (.inr (10, [.ref a, .int (nI b), .int (nI s_), .int w_, .ref a]))) (hc_X : b_tt G B0 τ H a 0 (.inr (0, [.ref ((F 0)), .ref asv, .ref atx, .ref atk, .long hs]))) (hL : LR G B0 τ id F M E H S Z) (hW : b_WF S) (hBb : b < nb S) (hSs_ : s_ < ns S) (ht9 : td = 100) (hi0 : 0 < id) (htd : td < 1000) : vx_Met l yX6_order (wsW_ yX6_order cX6_order 2 (Option.none) [((0 : Nat), (4 : Nat), (7 : Nat), (25 : Nat))]) ({ frames := 8, cells := 2, slots := 12, locals := 171 } : Room) (b_Pc G B0 H [.ref da]) (b_Qv B0 (fun H1 => ((a_sell S s_ b w_) = nI 0) ∧ b_Fr τ (fun t => 1000 * id ≤ t ∧ t < 1000 * id + 1000) H H1 ∧ LR G B0 τ id F M E H1 ((s_sell S s_ b w_)) Z)) (b_X B0 (fun E9 q9 H9 => r_px G B0 H (a_sell S s_ b w_) E9 q9 H9)) 2 12 (b_A B0) := by
  refine b_ofXW (by decide) (Nat.le_of_ble_eq_true rfl) ?_
  intro p e s m below meth c CX hr hlk htb hS ls hl
  have CX : b_Cx p s m _ c cX6_order 2 RX6 G B0 := CX
  have hx := CX.hx
  have hb := CX.hb
  have hl : lv_has ls 2 [(0, .ref da)] := hl
  generalize hQ : vx_MQ below (b_Qv B0 (fun H1 => ((a_sell S s_ b w_) = nI 0) ∧ b_Fr τ (fun t => 1000 * id ≤ t ∧ t < 1000 * id + 1000) H H1 ∧ LR G B0 τ id F M E H1 ((s_sell S s_ b w_)) Z)) (b_X B0 (fun E9 q9 H9 => r_px G B0 H (a_sell S s_ b w_) E9 q9 H9)) ([.ref da] : List Value).toArray s 2 12 (b_A B0) = Q
  have hF : b_Fr τ (fun t => 1000 * id ≤ t ∧ t < 1000 * id + 1000) H H := b_Fr.rf
  have hA : b_Ag τ τ H := b_Ag.rf
  have hX : b_Ext H H := b_Ext.rf
  have hnb : nb S = nb S := rfl
  have hns : ns S = ns S := rfl
  have hn8 := hL.2.2.2.1
  have hn6 := hL.2.2.2.2
  refine lv_aload_n hx hb dX6_order_0 rfl (lv_at hl 0 rfl) ?_
  refine b_xv0 (cx_X6_15_10 (rest := []) CX hl.1 (m_X13_check l (da := da) (td := td) (a := a) (asv := asv) (atx := atx) (atk := atk) (hs := hs) (b := b) (s_ := s_) (w_ := w_) hc_D hc_X hL hW (by omega) (by omega)) rfl hc_D.at hS rfl ⟨rfl, rfl, Nat.le_of_ble_eq_true rfl, Nat.le_of_ble_eq_true rfl⟩ (Nat.le_of_ble_eq_true rfl) dX6_order_1 ⟨Nat.le_of_ble_eq_true rfl, Nat.le_of_ble_eq_true rfl⟩) hS (fun E9 q9 Hx1 locs hx9 hS he9 => ?_) (fun hk_1 locs hS => ?_)
  · obtain ⟨hE, hz, hB, v9, hv9, hcd, hnm9, hat⟩ := hx9
    rcases hv9 with rfl | rfl | rfl
    · obtain rfl := hnm9
      refine b_xcatch CX (E := "BottleLoop$NoBottles") (name := "BottleLoop$Shortage") [] ⟨0, 4, 7, 25⟩ [] (by rw [htb]; rfl) (fun z hz9 => nomatch hz9) (by decide) (by decide) q1197 (CX.nw q2227 rfl rfl) he9 ?_
      have hc_D := hc_D.ad (tb := 101) hE hz
      have hc_X := hc_X.ad (tb := 101) hE hz
      have hL := hL.ad (tb := 101) hE hz
      have fr_ex : H.size ≤ q9 := Nat.le_trans hF.1 hz
      have hX := hX.tr hE
      have hA := hA.tr (b_Ag.ge (t := 101) hz) hF.1
      have hF := hF.ext hE
      have hc_ex : b_tt G B0 ((upT τ q9 101)) Hx1 q9 101 (.inr (18, [.null, .null, .null, .null, .null, .int (nI 0)])) := b_tt.mk hat hB
      refine lv_astore_n (lv' := [(1, .ref q9), (0, .ref da)]) hx hb dX6_order_7 rfl hl (Nat.le_of_ble_eq_true rfl) rfl (fun ls hl => ?_)
      refine b_newM CX in_X22 tyX22 tyX22_ok (ci := 21) rfl q1744 q1717 q124 (fs := [.null, .null, .null, .null, .null, .int (nI 0)]) (nofn_X22) hS (Nat.le_of_ble_eq_true rfl) (Nat.le_of_ble_eq_true rfl) dX6_order_8 (fun q2 H2 hq hB hat hsz hE hmo hS => ?_)
      have hc_D := hc_D.new (tb := 102) hE hq
      have hc_X := hc_X.new (tb := 102) hE hq
      have hL := hL.new (tb := 102) hE hq
      have hc_ex := hc_ex.new (tb := 102) hE hq
      have fr_rf : H.size ≤ q2 := by rw [hq]; exact hF.1
      have hX := hX.tr hE
      have hA := hA.tr (b_Ag.new (t := 102) hq) hF.1
      have hF := hF.ext hE
      have hc_rf : b_tt G B0 ((upT (upT τ q9 101) q2 102)) H2 q2 102 (.inr (21, [.null, .null, .null, .null, .null, .int (nI 0)])) := b_tt.mk hat hB
      refine lv_dup hx hb dX6_order_11 rfl ?_
      refine lv_aload_n hx hb dX6_order_12 rfl (lv_at hl 0 rfl) ?_
      refine b_cv (cs_X6_45 (rest := [.ref q2]) CX hl.1 (m_X22_init_r l (a := q2) (ta := 102) (ca := q9) hc_rf hmo) rfl hS rfl ⟨rfl, rfl, Nat.le_of_ble_eq_true rfl, Nat.le_of_ble_eq_true rfl⟩ (Nat.le_of_ble_eq_true rfl) dX6_order_13 ⟨Nat.le_of_ble_eq_true rfl, Nat.le_of_ble_eq_true rfl⟩) hS (fun H3 locs hp hS => ?_)
      obtain ⟨hu, hmo, hx0⟩ := hp
      have hc_D := hc_D.up hu hc_rf.tag (by omega)
      have hc_X := hc_X.up hu hc_rf.tag (by decide)
      have hL := hL.up hu hc_rf.tag (by omega)
      have hc_ex := hc_ex.up hu hc_rf.tag (by decide)
      have hX := hX.up hu fr_rf
      have hF := hF.up hA hu hc_rf.tag (fun q9 => absurd q9 (Nat.not_lt.mpr fr_rf))
      have hc_rf : b_tt G B0 ((upT (upT τ q9 101) q2 102)) H3 q2 102 (.inr (21, [.ref q9, .null, .null, .null, .null, .int (nI 0)])) := hx0
      refine b_athrow CX dX6_order_16 ?_
      rw [← hQ]
      exact b_xoutP CX (fun z hz9 => by rw [htb] at hz9; rcases List.mem_cons.mp hz9 with rfl | h8; exact Or.inl (by decide); exact nomatch h8) hlk (b_thof CX (ci := 21) rfl hc_rf.at) hS (Nat.le_of_ble_eq_true rfl) (Nat.le_of_ble_eq_true rfl) ⟨hX, rfl, hc_rf.B, hmo, Or.inr ⟨1, q9, by omega, hcd, hc_ex.B, (fun h9 => absurd (hc_rf.tag.symm.trans ((congrArg _ h9.symm).trans hc_ex.tag)) (by decide)), hc_rf.at, hc_ex.at⟩⟩
    · obtain rfl := hnm9
      refine b_xcatch CX (E := "BottleLoop$NoCrates") (name := "BottleLoop$Shortage") [] ⟨0, 4, 7, 25⟩ [] (by rw [htb]; rfl) (fun z hz9 => nomatch hz9) (by decide) (by decide) q1197 (CX.nw q2228 rfl rfl) he9 ?_
      have hc_D := hc_D.ad (tb := 101) hE hz
      have hc_X := hc_X.ad (tb := 101) hE hz
      have hL := hL.ad (tb := 101) hE hz
      have fr_ex : H.size ≤ q9 := Nat.le_trans hF.1 hz
      have hX := hX.tr hE
      have hA := hA.tr (b_Ag.ge (t := 101) hz) hF.1
      have hF := hF.ext hE
      have hc_ex : b_tt G B0 ((upT τ q9 101)) Hx1 q9 101 (.inr (19, [.null, .null, .null, .null, .null, .int (nI 0)])) := b_tt.mk hat hB
      refine lv_astore_n (lv' := [(1, .ref q9), (0, .ref da)]) hx hb dX6_order_7 rfl hl (Nat.le_of_ble_eq_true rfl) rfl (fun ls hl => ?_)
      refine b_newM CX in_X22 tyX22 tyX22_ok (ci := 21) rfl q1744 q1717 q124 (fs := [.null, .null, .null, .null, .null, .int (nI 0)]) (nofn_X22) hS (Nat.le_of_ble_eq_true rfl) (Nat.le_of_ble_eq_true rfl) dX6_order_8 (fun q4 H4 hq hB hat hsz hE hmo hS => ?_)
      have hc_D := hc_D.new (tb := 102) hE hq
      have hc_X := hc_X.new (tb := 102) hE hq
      have hL := hL.new (tb := 102) hE hq
      have hc_ex := hc_ex.new (tb := 102) hE hq
      have fr_rf : H.size ≤ q4 := by rw [hq]; exact hF.1
      have hX := hX.tr hE
      have hA := hA.tr (b_Ag.new (t := 102) hq) hF.1
      have hF := hF.ext hE
      have hc_rf : b_tt G B0 ((upT (upT τ q9 101) q4 102)) H4 q4 102 (.inr (21, [.null, .null, .null, .null, .null, .int (nI 0)])) := b_tt.mk hat hB
      refine lv_dup hx hb dX6_order_11 rfl ?_
      refine lv_aload_n hx hb dX6_order_12 rfl (lv_at hl 0 rfl) ?_
      refine b_cv (cs_X6_45 (rest := [.ref q4]) CX hl.1 (m_X22_init_r l (a := q4) (ta := 102) (ca := q9) hc_rf hmo) rfl hS rfl ⟨rfl, rfl, Nat.le_of_ble_eq_true rfl, Nat.le_of_ble_eq_true rfl⟩ (Nat.le_of_ble_eq_true rfl) dX6_order_13 ⟨Nat.le_of_ble_eq_true rfl, Nat.le_of_ble_eq_true rfl⟩) hS (fun H5 locs hp hS => ?_)
      obtain ⟨hu, hmo, hx0⟩ := hp
      have hc_D := hc_D.up hu hc_rf.tag (by omega)
      have hc_X := hc_X.up hu hc_rf.tag (by decide)
      have hL := hL.up hu hc_rf.tag (by omega)
      have hc_ex := hc_ex.up hu hc_rf.tag (by decide)
      have hX := hX.up hu fr_rf
      have hF := hF.up hA hu hc_rf.tag (fun q9 => absurd q9 (Nat.not_lt.mpr fr_rf))
      have hc_rf : b_tt G B0 ((upT (upT τ q9 101) q4 102)) H5 q4 102 (.inr (21, [.ref q9, .null, .null, .null, .null, .int (nI 0)])) := hx0
      refine b_athrow CX dX6_order_16 ?_
      rw [← hQ]
      exact b_xoutP CX (fun z hz9 => by rw [htb] at hz9; rcases List.mem_cons.mp hz9 with rfl | h8; exact Or.inl (by decide); exact nomatch h8) hlk (b_thof CX (ci := 21) rfl hc_rf.at) hS (Nat.le_of_ble_eq_true rfl) (Nat.le_of_ble_eq_true rfl) ⟨hX, rfl, hc_rf.B, hmo, Or.inr ⟨2, q9, by omega, hcd, hc_ex.B, (fun h9 => absurd (hc_rf.tag.symm.trans ((congrArg _ h9.symm).trans hc_ex.tag)) (by decide)), hc_rf.at, hc_ex.at⟩⟩
    · obtain rfl := hnm9
      refine b_xcatch CX (E := "BottleLoop$NoMoney") (name := "BottleLoop$Shortage") [] ⟨0, 4, 7, 25⟩ [] (by rw [htb]; rfl) (fun z hz9 => nomatch hz9) (by decide) (by decide) q1197 (CX.nw q2229 rfl rfl) he9 ?_
      have hc_D := hc_D.ad (tb := 101) hE hz
      have hc_X := hc_X.ad (tb := 101) hE hz
      have hL := hL.ad (tb := 101) hE hz
      have fr_ex : H.size ≤ q9 := Nat.le_trans hF.1 hz
      have hX := hX.tr hE
      have hA := hA.tr (b_Ag.ge (t := 101) hz) hF.1
      have hF := hF.ext hE
      have hc_ex : b_tt G B0 ((upT τ q9 101)) Hx1 q9 101 (.inr (20, [.null, .null, .null, .null, .null, .int (nI 0)])) := b_tt.mk hat hB
      refine lv_astore_n (lv' := [(1, .ref q9), (0, .ref da)]) hx hb dX6_order_7 rfl hl (Nat.le_of_ble_eq_true rfl) rfl (fun ls hl => ?_)
      refine b_newM CX in_X22 tyX22 tyX22_ok (ci := 21) rfl q1744 q1717 q124 (fs := [.null, .null, .null, .null, .null, .int (nI 0)]) (nofn_X22) hS (Nat.le_of_ble_eq_true rfl) (Nat.le_of_ble_eq_true rfl) dX6_order_8 (fun q6 H6 hq hB hat hsz hE hmo hS => ?_)
      have hc_D := hc_D.new (tb := 102) hE hq
      have hc_X := hc_X.new (tb := 102) hE hq
      have hL := hL.new (tb := 102) hE hq
      have hc_ex := hc_ex.new (tb := 102) hE hq
      have fr_rf : H.size ≤ q6 := by rw [hq]; exact hF.1
      have hX := hX.tr hE
      have hA := hA.tr (b_Ag.new (t := 102) hq) hF.1
      have hF := hF.ext hE
      have hc_rf : b_tt G B0 ((upT (upT τ q9 101) q6 102)) H6 q6 102 (.inr (21, [.null, .null, .null, .null, .null, .int (nI 0)])) := b_tt.mk hat hB
      refine lv_dup hx hb dX6_order_11 rfl ?_
      refine lv_aload_n hx hb dX6_order_12 rfl (lv_at hl 0 rfl) ?_
      refine b_cv (cs_X6_45 (rest := [.ref q6]) CX hl.1 (m_X22_init_r l (a := q6) (ta := 102) (ca := q9) hc_rf hmo) rfl hS rfl ⟨rfl, rfl, Nat.le_of_ble_eq_true rfl, Nat.le_of_ble_eq_true rfl⟩ (Nat.le_of_ble_eq_true rfl) dX6_order_13 ⟨Nat.le_of_ble_eq_true rfl, Nat.le_of_ble_eq_true rfl⟩) hS (fun H7 locs hp hS => ?_)
      obtain ⟨hu, hmo, hx0⟩ := hp
      have hc_D := hc_D.up hu hc_rf.tag (by omega)
      have hc_X := hc_X.up hu hc_rf.tag (by decide)
      have hL := hL.up hu hc_rf.tag (by omega)
      have hc_ex := hc_ex.up hu hc_rf.tag (by decide)
      have hX := hX.up hu fr_rf
      have hF := hF.up hA hu hc_rf.tag (fun q9 => absurd q9 (Nat.not_lt.mpr fr_rf))
      have hc_rf : b_tt G B0 ((upT (upT τ q9 101) q6 102)) H7 q6 102 (.inr (21, [.ref q9, .null, .null, .null, .null, .int (nI 0)])) := hx0
      refine b_athrow CX dX6_order_16 ?_
      rw [← hQ]
      exact b_xoutP CX (fun z hz9 => by rw [htb] at hz9; rcases List.mem_cons.mp hz9 with rfl | h8; exact Or.inl (by decide); exact nomatch h8) hlk (b_thof CX (ci := 21) rfl hc_rf.at) hS (Nat.le_of_ble_eq_true rfl) (Nat.le_of_ble_eq_true rfl) ⟨hX, rfl, hc_rf.B, hmo, Or.inr ⟨3, q9, by omega, hcd, hc_ex.B, (fun h9 => absurd (hc_rf.tag.symm.trans ((congrArg _ h9.symm).trans hc_ex.tag)) (by decide)), hc_rf.at, hc_ex.at⟩⟩
  refine lv_goto (tgt := 17) hx hb dX6_order_4 (by decide) ?_
  refine lv_aload_n hx hb dX6_order_17 rfl (lv_at hl 0 rfl) ?_
  refine b_ci (cs_X6_40_10 (rest := []) CX hl.1 (m_X13_does l (da := da) (td := td) (a := a) (asv := asv) (atx := atx) (atk := atk) (hs := hs) (b := b) (s_ := s_) (w_ := w_) hc_D hc_X hL hW (by omega) (by omega) (by omega) (by omega)) rfl hc_D.at hS rfl ⟨rfl, rfl, Nat.le_of_ble_eq_true rfl, Nat.le_of_ble_eq_true rfl⟩ (Nat.le_of_ble_eq_true rfl) dX6_order_18 ⟨Nat.le_of_ble_eq_true rfl, Nat.le_of_ble_eq_true rfl⟩) hS (fun r H8 locs hp hS => ?_)
  obtain ⟨rfl, hF9, hL9⟩ := hp
  have hc_D := hc_D.fr hF9 (show ¬ (1000 * id ≤ (td) ∧ (td) < 1000 * id + 1000) by omega)
  have hc_X := hc_X.fr hF9 (show ¬ (1000 * id ≤ 0 ∧ 0 < 1000 * id + 1000) by omega)
  have hz9 := hF.1
  have hF0 := hF.tr hA hF9 (fun q9 hq9 x9 => by have x8 : 1000 * id ≤ τ q9 ∧ τ q9 < 1000 * id + 1000 := x9; show 1000 * id ≤ τ q9 ∧ τ q9 < 1000 * id + 1000; omega)
  have hF := hF0
  have hL : LR G B0 τ id F M E H8 ((s_sell S s_ b w_)) Z := hL9
  refine lv_pop hx hb dX6_order_21 rfl ?_
  rw [← hQ]
  exact vx_ret (b_vret CX hr hlk hS (Nat.le_of_ble_eq_true rfl) (Nat.le_of_ble_eq_true rfl) dX6_order_22 (⟨(by exact hk_1), hF, hL⟩))
set_option maxHeartbeats 2000000 in
set_option maxRecDepth 100000 in
theorem m_X6_order_11 (l : Launch) {G : b_G} {B0 : Nat} {H : Heap} {τ : b_T} {id : Nat} {F : Nat → Nat} {M : Nat → Int32} {E : Nat → Bool} {S : b_St} {Z : Nat → Nat → Int32} {da : Nat} {td : Nat} {a : Nat} {asv : Nat} {atx : Nat} {atk : Nat} {hs : Int64} {b : Nat} {s_ : Nat} {w_ : Int32} (hc_D : b_tt G B0 τ H da (td) (.inr (11, [.ref a, .int (nI b), .int (nI s_), .int w_, .ref a]))) (hc_X : b_tt G B0 τ H a 0 (.inr (0, [.ref ((F 0)), .ref asv, .ref atx, .ref atk, .long hs]))) (hL : LR G B0 τ id F M E H S Z) (hW : b_WF S) (hBb : b < nb S) (hSs_ : s_ < ns S) (ht9 : td = 100) (hi0 : 0 < id) (htd : td < 1000) : vx_Met l yX6_order (wsW_ yX6_order cX6_order 2 (Option.none) [((0 : Nat), (4 : Nat), (7 : Nat), (25 : Nat))]) ({ frames := 8, cells := 3, slots := 18, locals := 171 } : Room) (b_Pc G B0 H [.ref da]) (b_Qv B0 (fun H1 => ((a_take S s_ b w_) = nI 0) ∧ b_Fr τ (fun t => 1000 * id ≤ t ∧ t < 1000 * id + 1000) H H1 ∧ LR G B0 τ id F M E H1 ((s_take S s_ b w_)) Z)) (b_X B0 (fun E9 q9 H9 => r_px G B0 H (a_take S s_ b w_) E9 q9 H9)) 3 18 (b_A B0) := by
  refine b_ofXW (by decide) (Nat.le_of_ble_eq_true rfl) ?_
  intro p e s m below meth c CX hr hlk htb hS ls hl
  have CX : b_Cx p s m _ c cX6_order 2 RX6 G B0 := CX
  have hx := CX.hx
  have hb := CX.hb
  have hl : lv_has ls 2 [(0, .ref da)] := hl
  generalize hQ : vx_MQ below (b_Qv B0 (fun H1 => ((a_take S s_ b w_) = nI 0) ∧ b_Fr τ (fun t => 1000 * id ≤ t ∧ t < 1000 * id + 1000) H H1 ∧ LR G B0 τ id F M E H1 ((s_take S s_ b w_)) Z)) (b_X B0 (fun E9 q9 H9 => r_px G B0 H (a_take S s_ b w_) E9 q9 H9)) ([.ref da] : List Value).toArray s 3 18 (b_A B0) = Q
  have hF : b_Fr τ (fun t => 1000 * id ≤ t ∧ t < 1000 * id + 1000) H H := b_Fr.rf
  have hA : b_Ag τ τ H := b_Ag.rf
  have hX : b_Ext H H := b_Ext.rf
  have hnb : nb S = nb S := rfl
  have hns : ns S = ns S := rfl
  have hn8 := hL.2.2.2.1
  have hn6 := hL.2.2.2.2
  refine lv_aload_n hx hb dX6_order_0 rfl (lv_at hl 0 rfl) ?_
  refine b_xv0 (cx_X6_15_11 (rest := []) CX hl.1 (m_X14_check l (da := da) (td := td) (a := a) (asv := asv) (atx := atx) (atk := atk) (hs := hs) (b := b) (s_ := s_) (w_ := w_) hc_D hc_X hL hW (by omega) (by omega)) rfl hc_D.at hS rfl ⟨rfl, rfl, Nat.le_of_ble_eq_true rfl, Nat.le_of_ble_eq_true rfl⟩ (Nat.le_of_ble_eq_true rfl) dX6_order_1 ⟨Nat.le_of_ble_eq_true rfl, Nat.le_of_ble_eq_true rfl⟩) hS (fun E9 q9 Hx1 locs hx9 hS he9 => ?_) (fun hk_1 locs hS => ?_)
  · obtain ⟨hE, hz, hB, v9, hv9, hcd, hnm9, hat⟩ := hx9
    rcases hv9 with rfl | rfl | rfl
    · obtain rfl := hnm9
      refine b_xcatch CX (E := "BottleLoop$NoBottles") (name := "BottleLoop$Shortage") [] ⟨0, 4, 7, 25⟩ [] (by rw [htb]; rfl) (fun z hz9 => nomatch hz9) (by decide) (by decide) q1197 (CX.nw q2227 rfl rfl) he9 ?_
      have hc_D := hc_D.ad (tb := 101) hE hz
      have hc_X := hc_X.ad (tb := 101) hE hz
      have hL := hL.ad (tb := 101) hE hz
      have fr_ex : H.size ≤ q9 := Nat.le_trans hF.1 hz
      have hX := hX.tr hE
      have hA := hA.tr (b_Ag.ge (t := 101) hz) hF.1
      have hF := hF.ext hE
      have hc_ex : b_tt G B0 ((upT τ q9 101)) Hx1 q9 101 (.inr (18, [.null, .null, .null, .null, .null, .int (nI 0)])) := b_tt.mk hat hB
      refine lv_astore_n (lv' := [(1, .ref q9), (0, .ref da)]) hx hb dX6_order_7 rfl hl (Nat.le_of_ble_eq_true rfl) rfl (fun ls hl => ?_)
      refine b_newM CX in_X22 tyX22 tyX22_ok (ci := 21) rfl q1744 q1717 q124 (fs := [.null, .null, .null, .null, .null, .int (nI 0)]) (nofn_X22) hS (Nat.le_of_ble_eq_true rfl) (Nat.le_of_ble_eq_true rfl) dX6_order_8 (fun q2 H2 hq hB hat hsz hE hmo hS => ?_)
      have hc_D := hc_D.new (tb := 102) hE hq
      have hc_X := hc_X.new (tb := 102) hE hq
      have hL := hL.new (tb := 102) hE hq
      have hc_ex := hc_ex.new (tb := 102) hE hq
      have fr_rf : H.size ≤ q2 := by rw [hq]; exact hF.1
      have hX := hX.tr hE
      have hA := hA.tr (b_Ag.new (t := 102) hq) hF.1
      have hF := hF.ext hE
      have hc_rf : b_tt G B0 ((upT (upT τ q9 101) q2 102)) H2 q2 102 (.inr (21, [.null, .null, .null, .null, .null, .int (nI 0)])) := b_tt.mk hat hB
      refine lv_dup hx hb dX6_order_11 rfl ?_
      refine lv_aload_n hx hb dX6_order_12 rfl (lv_at hl 0 rfl) ?_
      refine b_cv (cs_X6_45 (rest := [.ref q2]) CX hl.1 (m_X22_init_r l (a := q2) (ta := 102) (ca := q9) hc_rf hmo) rfl hS rfl ⟨rfl, rfl, Nat.le_of_ble_eq_true rfl, Nat.le_of_ble_eq_true rfl⟩ (Nat.le_of_ble_eq_true rfl) dX6_order_13 ⟨Nat.le_of_ble_eq_true rfl, Nat.le_of_ble_eq_true rfl⟩) hS (fun H3 locs hp hS => ?_)
      obtain ⟨hu, hmo, hx0⟩ := hp
      have hc_D := hc_D.up hu hc_rf.tag (by omega)
      have hc_X := hc_X.up hu hc_rf.tag (by decide)
      have hL := hL.up hu hc_rf.tag (by omega)
      have hc_ex := hc_ex.up hu hc_rf.tag (by decide)
      have hX := hX.up hu fr_rf
      have hF := hF.up hA hu hc_rf.tag (fun q9 => absurd q9 (Nat.not_lt.mpr fr_rf))
      have hc_rf : b_tt G B0 ((upT (upT τ q9 101) q2 102)) H3 q2 102 (.inr (21, [.ref q9, .null, .null, .null, .null, .int (nI 0)])) := hx0
      refine b_athrow CX dX6_order_16 ?_
      rw [← hQ]
      exact b_xoutP CX (fun z hz9 => by rw [htb] at hz9; rcases List.mem_cons.mp hz9 with rfl | h8; exact Or.inl (by decide); exact nomatch h8) hlk (b_thof CX (ci := 21) rfl hc_rf.at) hS (Nat.le_of_ble_eq_true rfl) (Nat.le_of_ble_eq_true rfl) ⟨hX, rfl, hc_rf.B, hmo, Or.inr ⟨1, q9, by omega, hcd, hc_ex.B, (fun h9 => absurd (hc_rf.tag.symm.trans ((congrArg _ h9.symm).trans hc_ex.tag)) (by decide)), hc_rf.at, hc_ex.at⟩⟩
    · obtain rfl := hnm9
      refine b_xcatch CX (E := "BottleLoop$NoCrates") (name := "BottleLoop$Shortage") [] ⟨0, 4, 7, 25⟩ [] (by rw [htb]; rfl) (fun z hz9 => nomatch hz9) (by decide) (by decide) q1197 (CX.nw q2228 rfl rfl) he9 ?_
      have hc_D := hc_D.ad (tb := 101) hE hz
      have hc_X := hc_X.ad (tb := 101) hE hz
      have hL := hL.ad (tb := 101) hE hz
      have fr_ex : H.size ≤ q9 := Nat.le_trans hF.1 hz
      have hX := hX.tr hE
      have hA := hA.tr (b_Ag.ge (t := 101) hz) hF.1
      have hF := hF.ext hE
      have hc_ex : b_tt G B0 ((upT τ q9 101)) Hx1 q9 101 (.inr (19, [.null, .null, .null, .null, .null, .int (nI 0)])) := b_tt.mk hat hB
      refine lv_astore_n (lv' := [(1, .ref q9), (0, .ref da)]) hx hb dX6_order_7 rfl hl (Nat.le_of_ble_eq_true rfl) rfl (fun ls hl => ?_)
      refine b_newM CX in_X22 tyX22 tyX22_ok (ci := 21) rfl q1744 q1717 q124 (fs := [.null, .null, .null, .null, .null, .int (nI 0)]) (nofn_X22) hS (Nat.le_of_ble_eq_true rfl) (Nat.le_of_ble_eq_true rfl) dX6_order_8 (fun q4 H4 hq hB hat hsz hE hmo hS => ?_)
      have hc_D := hc_D.new (tb := 102) hE hq
      have hc_X := hc_X.new (tb := 102) hE hq
      have hL := hL.new (tb := 102) hE hq
      have hc_ex := hc_ex.new (tb := 102) hE hq
      have fr_rf : H.size ≤ q4 := by rw [hq]; exact hF.1
      have hX := hX.tr hE
      have hA := hA.tr (b_Ag.new (t := 102) hq) hF.1
      have hF := hF.ext hE
      have hc_rf : b_tt G B0 ((upT (upT τ q9 101) q4 102)) H4 q4 102 (.inr (21, [.null, .null, .null, .null, .null, .int (nI 0)])) := b_tt.mk hat hB
      refine lv_dup hx hb dX6_order_11 rfl ?_
      refine lv_aload_n hx hb dX6_order_12 rfl (lv_at hl 0 rfl) ?_
      refine b_cv (cs_X6_45 (rest := [.ref q4]) CX hl.1 (m_X22_init_r l (a := q4) (ta := 102) (ca := q9) hc_rf hmo) rfl hS rfl ⟨rfl, rfl, Nat.le_of_ble_eq_true rfl, Nat.le_of_ble_eq_true rfl⟩ (Nat.le_of_ble_eq_true rfl) dX6_order_13 ⟨Nat.le_of_ble_eq_true rfl, Nat.le_of_ble_eq_true rfl⟩) hS (fun H5 locs hp hS => ?_)
      obtain ⟨hu, hmo, hx0⟩ := hp
      have hc_D := hc_D.up hu hc_rf.tag (by omega)
      have hc_X := hc_X.up hu hc_rf.tag (by decide)
      have hL := hL.up hu hc_rf.tag (by omega)
      have hc_ex := hc_ex.up hu hc_rf.tag (by decide)
      have hX := hX.up hu fr_rf
      have hF := hF.up hA hu hc_rf.tag (fun q9 => absurd q9 (Nat.not_lt.mpr fr_rf))
      have hc_rf : b_tt G B0 ((upT (upT τ q9 101) q4 102)) H5 q4 102 (.inr (21, [.ref q9, .null, .null, .null, .null, .int (nI 0)])) := hx0
      refine b_athrow CX dX6_order_16 ?_
      rw [← hQ]
      exact b_xoutP CX (fun z hz9 => by rw [htb] at hz9; rcases List.mem_cons.mp hz9 with rfl | h8; exact Or.inl (by decide); exact nomatch h8) hlk (b_thof CX (ci := 21) rfl hc_rf.at) hS (Nat.le_of_ble_eq_true rfl) (Nat.le_of_ble_eq_true rfl) ⟨hX, rfl, hc_rf.B, hmo, Or.inr ⟨2, q9, by omega, hcd, hc_ex.B, (fun h9 => absurd (hc_rf.tag.symm.trans ((congrArg _ h9.symm).trans hc_ex.tag)) (by decide)), hc_rf.at, hc_ex.at⟩⟩
    · obtain rfl := hnm9
      refine b_xcatch CX (E := "BottleLoop$NoMoney") (name := "BottleLoop$Shortage") [] ⟨0, 4, 7, 25⟩ [] (by rw [htb]; rfl) (fun z hz9 => nomatch hz9) (by decide) (by decide) q1197 (CX.nw q2229 rfl rfl) he9 ?_
      have hc_D := hc_D.ad (tb := 101) hE hz
      have hc_X := hc_X.ad (tb := 101) hE hz
      have hL := hL.ad (tb := 101) hE hz
      have fr_ex : H.size ≤ q9 := Nat.le_trans hF.1 hz
      have hX := hX.tr hE
      have hA := hA.tr (b_Ag.ge (t := 101) hz) hF.1
      have hF := hF.ext hE
      have hc_ex : b_tt G B0 ((upT τ q9 101)) Hx1 q9 101 (.inr (20, [.null, .null, .null, .null, .null, .int (nI 0)])) := b_tt.mk hat hB
      refine lv_astore_n (lv' := [(1, .ref q9), (0, .ref da)]) hx hb dX6_order_7 rfl hl (Nat.le_of_ble_eq_true rfl) rfl (fun ls hl => ?_)
      refine b_newM CX in_X22 tyX22 tyX22_ok (ci := 21) rfl q1744 q1717 q124 (fs := [.null, .null, .null, .null, .null, .int (nI 0)]) (nofn_X22) hS (Nat.le_of_ble_eq_true rfl) (Nat.le_of_ble_eq_true rfl) dX6_order_8 (fun q6 H6 hq hB hat hsz hE hmo hS => ?_)
      have hc_D := hc_D.new (tb := 102) hE hq
      have hc_X := hc_X.new (tb := 102) hE hq
      have hL := hL.new (tb := 102) hE hq
      have hc_ex := hc_ex.new (tb := 102) hE hq
      have fr_rf : H.size ≤ q6 := by rw [hq]; exact hF.1
      have hX := hX.tr hE
      have hA := hA.tr (b_Ag.new (t := 102) hq) hF.1
      have hF := hF.ext hE
      have hc_rf : b_tt G B0 ((upT (upT τ q9 101) q6 102)) H6 q6 102 (.inr (21, [.null, .null, .null, .null, .null, .int (nI 0)])) := b_tt.mk hat hB
      refine lv_dup hx hb dX6_order_11 rfl ?_
      refine lv_aload_n hx hb dX6_order_12 rfl (lv_at hl 0 rfl) ?_
      refine b_cv (cs_X6_45 (rest := [.ref q6]) CX hl.1 (m_X22_init_r l (a := q6) (ta := 102) (ca := q9) hc_rf hmo) rfl hS rfl ⟨rfl, rfl, Nat.le_of_ble_eq_true rfl, Nat.le_of_ble_eq_true rfl⟩ (Nat.le_of_ble_eq_true rfl) dX6_order_13 ⟨Nat.le_of_ble_eq_true rfl, Nat.le_of_ble_eq_true rfl⟩) hS (fun H7 locs hp hS => ?_)
      obtain ⟨hu, hmo, hx0⟩ := hp
      have hc_D := hc_D.up hu hc_rf.tag (by omega)
      have hc_X := hc_X.up hu hc_rf.tag (by decide)
      have hL := hL.up hu hc_rf.tag (by omega)
      have hc_ex := hc_ex.up hu hc_rf.tag (by decide)
      have hX := hX.up hu fr_rf
      have hF := hF.up hA hu hc_rf.tag (fun q9 => absurd q9 (Nat.not_lt.mpr fr_rf))
      have hc_rf : b_tt G B0 ((upT (upT τ q9 101) q6 102)) H7 q6 102 (.inr (21, [.ref q9, .null, .null, .null, .null, .int (nI 0)])) := hx0
      refine b_athrow CX dX6_order_16 ?_
      rw [← hQ]
      exact b_xoutP CX (fun z hz9 => by rw [htb] at hz9; rcases List.mem_cons.mp hz9 with rfl | h8; exact Or.inl (by decide); exact nomatch h8) hlk (b_thof CX (ci := 21) rfl hc_rf.at) hS (Nat.le_of_ble_eq_true rfl) (Nat.le_of_ble_eq_true rfl) ⟨hX, rfl, hc_rf.B, hmo, Or.inr ⟨3, q9, by omega, hcd, hc_ex.B, (fun h9 => absurd (hc_rf.tag.symm.trans ((congrArg _ h9.symm).trans hc_ex.tag)) (by decide)), hc_rf.at, hc_ex.at⟩⟩
  refine lv_goto (tgt := 17) hx hb dX6_order_4 (by decide) ?_
  refine lv_aload_n hx hb dX6_order_17 rfl (lv_at hl 0 rfl) ?_
  refine b_ci (cs_X6_40_11 (rest := []) CX hl.1 (m_X14_does l (da := da) (td := td) (a := a) (asv := asv) (atx := atx) (atk := atk) (hs := hs) (b := b) (s_ := s_) (w_ := w_) hc_D hc_X hL hW (by omega) (by omega) (by omega) (by omega)) rfl hc_D.at hS rfl ⟨rfl, rfl, Nat.le_of_ble_eq_true rfl, Nat.le_of_ble_eq_true rfl⟩ (Nat.le_of_ble_eq_true rfl) dX6_order_18 ⟨Nat.le_of_ble_eq_true rfl, Nat.le_of_ble_eq_true rfl⟩) hS (fun r H8 locs hp hS => ?_)
  obtain ⟨rfl, hF9, hL9⟩ := hp
  have hc_D := hc_D.fr hF9 (show ¬ (1000 * id ≤ (td) ∧ (td) < 1000 * id + 1000) by omega)
  have hc_X := hc_X.fr hF9 (show ¬ (1000 * id ≤ 0 ∧ 0 < 1000 * id + 1000) by omega)
  have hz9 := hF.1
  have hF0 := hF.tr hA hF9 (fun q9 hq9 x9 => by have x8 : 1000 * id ≤ τ q9 ∧ τ q9 < 1000 * id + 1000 := x9; show 1000 * id ≤ τ q9 ∧ τ q9 < 1000 * id + 1000; omega)
  have hF := hF0
  have hL : LR G B0 τ id F M E H8 ((s_take S s_ b w_)) Z := hL9
  refine lv_pop hx hb dX6_order_21 rfl ?_
  rw [← hQ]
  exact vx_ret (b_vret CX hr hlk hS (Nat.le_of_ble_eq_true rfl) (Nat.le_of_ble_eq_true rfl) dX6_order_22 (⟨(by exact hk_1), hF, hL⟩))
set_option maxHeartbeats 2000000 in
set_option maxRecDepth 100000 in
theorem m_X6_order_12 (l : Launch) {G : b_G} {B0 : Nat} {H : Heap} {τ : b_T} {id : Nat} {F : Nat → Nat} {M : Nat → Int32} {E : Nat → Bool} {S : b_St} {Z : Nat → Nat → Int32} {da : Nat} {td : Nat} {a : Nat} {asv : Nat} {atx : Nat} {atk : Nat} {hs : Int64} {b : Nat} {s_ : Nat} {w_ : Int32} (hc_D : b_tt G B0 τ H da (td) (.inr (12, [.ref a, .int (nI b), .int (nI s_), .int w_, .ref a]))) (hc_X : b_tt G B0 τ H a 0 (.inr (0, [.ref ((F 0)), .ref asv, .ref atx, .ref atk, .long hs]))) (hL : LR G B0 τ id F M E H S Z) (hW : b_WF S) (hBb : b < nb S) (hSs_ : s_ < ns S) (ht9 : td = 100) (hi0 : 0 < id) (htd : td < 1000) : vx_Met l yX6_order (wsW_ yX6_order cX6_order 2 (Option.none) [((0 : Nat), (4 : Nat), (7 : Nat), (25 : Nat))]) ({ frames := 8, cells := 2, slots := 12, locals := 171 } : Room) (b_Pc G B0 H [.ref da]) (b_Qv B0 (fun H1 => ((a_break S s_ b w_) = nI 0) ∧ b_Fr τ (fun t => 1000 * id ≤ t ∧ t < 1000 * id + 1000) H H1 ∧ LR G B0 τ id F M E H1 ((s_break S s_ b w_)) Z)) (b_X B0 (fun E9 q9 H9 => r_px G B0 H (a_break S s_ b w_) E9 q9 H9)) 2 12 (b_A B0) := by
  refine b_ofXW (by decide) (Nat.le_of_ble_eq_true rfl) ?_
  intro p e s m below meth c CX hr hlk htb hS ls hl
  have CX : b_Cx p s m _ c cX6_order 2 RX6 G B0 := CX
  have hx := CX.hx
  have hb := CX.hb
  have hl : lv_has ls 2 [(0, .ref da)] := hl
  generalize hQ : vx_MQ below (b_Qv B0 (fun H1 => ((a_break S s_ b w_) = nI 0) ∧ b_Fr τ (fun t => 1000 * id ≤ t ∧ t < 1000 * id + 1000) H H1 ∧ LR G B0 τ id F M E H1 ((s_break S s_ b w_)) Z)) (b_X B0 (fun E9 q9 H9 => r_px G B0 H (a_break S s_ b w_) E9 q9 H9)) ([.ref da] : List Value).toArray s 2 12 (b_A B0) = Q
  have hF : b_Fr τ (fun t => 1000 * id ≤ t ∧ t < 1000 * id + 1000) H H := b_Fr.rf
  have hA : b_Ag τ τ H := b_Ag.rf
  have hX : b_Ext H H := b_Ext.rf
  have hnb : nb S = nb S := rfl
  have hns : ns S = ns S := rfl
  have hn8 := hL.2.2.2.1
  have hn6 := hL.2.2.2.2
  refine lv_aload_n hx hb dX6_order_0 rfl (lv_at hl 0 rfl) ?_
  refine b_xv0 (cx_X6_15_12 (rest := []) CX hl.1 (m_X15_check l (da := da) (td := td) (a := a) (asv := asv) (atx := atx) (atk := atk) (hs := hs) (b := b) (s_ := s_) (w_ := w_) hc_D hc_X hL hW (by omega) (by omega)) rfl hc_D.at hS rfl ⟨rfl, rfl, Nat.le_of_ble_eq_true rfl, Nat.le_of_ble_eq_true rfl⟩ (Nat.le_of_ble_eq_true rfl) dX6_order_1 ⟨Nat.le_of_ble_eq_true rfl, Nat.le_of_ble_eq_true rfl⟩) hS (fun E9 q9 Hx1 locs hx9 hS he9 => ?_) (fun hk_1 locs hS => ?_)
  · obtain ⟨hE, hz, hB, v9, hv9, hcd, hnm9, hat⟩ := hx9
    rcases hv9 with rfl | rfl | rfl
    · obtain rfl := hnm9
      refine b_xcatch CX (E := "BottleLoop$NoBottles") (name := "BottleLoop$Shortage") [] ⟨0, 4, 7, 25⟩ [] (by rw [htb]; rfl) (fun z hz9 => nomatch hz9) (by decide) (by decide) q1197 (CX.nw q2227 rfl rfl) he9 ?_
      have hc_D := hc_D.ad (tb := 101) hE hz
      have hc_X := hc_X.ad (tb := 101) hE hz
      have hL := hL.ad (tb := 101) hE hz
      have fr_ex : H.size ≤ q9 := Nat.le_trans hF.1 hz
      have hX := hX.tr hE
      have hA := hA.tr (b_Ag.ge (t := 101) hz) hF.1
      have hF := hF.ext hE
      have hc_ex : b_tt G B0 ((upT τ q9 101)) Hx1 q9 101 (.inr (18, [.null, .null, .null, .null, .null, .int (nI 0)])) := b_tt.mk hat hB
      refine lv_astore_n (lv' := [(1, .ref q9), (0, .ref da)]) hx hb dX6_order_7 rfl hl (Nat.le_of_ble_eq_true rfl) rfl (fun ls hl => ?_)
      refine b_newM CX in_X22 tyX22 tyX22_ok (ci := 21) rfl q1744 q1717 q124 (fs := [.null, .null, .null, .null, .null, .int (nI 0)]) (nofn_X22) hS (Nat.le_of_ble_eq_true rfl) (Nat.le_of_ble_eq_true rfl) dX6_order_8 (fun q2 H2 hq hB hat hsz hE hmo hS => ?_)
      have hc_D := hc_D.new (tb := 102) hE hq
      have hc_X := hc_X.new (tb := 102) hE hq
      have hL := hL.new (tb := 102) hE hq
      have hc_ex := hc_ex.new (tb := 102) hE hq
      have fr_rf : H.size ≤ q2 := by rw [hq]; exact hF.1
      have hX := hX.tr hE
      have hA := hA.tr (b_Ag.new (t := 102) hq) hF.1
      have hF := hF.ext hE
      have hc_rf : b_tt G B0 ((upT (upT τ q9 101) q2 102)) H2 q2 102 (.inr (21, [.null, .null, .null, .null, .null, .int (nI 0)])) := b_tt.mk hat hB
      refine lv_dup hx hb dX6_order_11 rfl ?_
      refine lv_aload_n hx hb dX6_order_12 rfl (lv_at hl 0 rfl) ?_
      refine b_cv (cs_X6_45 (rest := [.ref q2]) CX hl.1 (m_X22_init_r l (a := q2) (ta := 102) (ca := q9) hc_rf hmo) rfl hS rfl ⟨rfl, rfl, Nat.le_of_ble_eq_true rfl, Nat.le_of_ble_eq_true rfl⟩ (Nat.le_of_ble_eq_true rfl) dX6_order_13 ⟨Nat.le_of_ble_eq_true rfl, Nat.le_of_ble_eq_true rfl⟩) hS (fun H3 locs hp hS => ?_)
      obtain ⟨hu, hmo, hx0⟩ := hp
      have hc_D := hc_D.up hu hc_rf.tag (by omega)
      have hc_X := hc_X.up hu hc_rf.tag (by decide)
      have hL := hL.up hu hc_rf.tag (by omega)
      have hc_ex := hc_ex.up hu hc_rf.tag (by decide)
      have hX := hX.up hu fr_rf
      have hF := hF.up hA hu hc_rf.tag (fun q9 => absurd q9 (Nat.not_lt.mpr fr_rf))
      have hc_rf : b_tt G B0 ((upT (upT τ q9 101) q2 102)) H3 q2 102 (.inr (21, [.ref q9, .null, .null, .null, .null, .int (nI 0)])) := hx0
      refine b_athrow CX dX6_order_16 ?_
      rw [← hQ]
      exact b_xoutP CX (fun z hz9 => by rw [htb] at hz9; rcases List.mem_cons.mp hz9 with rfl | h8; exact Or.inl (by decide); exact nomatch h8) hlk (b_thof CX (ci := 21) rfl hc_rf.at) hS (Nat.le_of_ble_eq_true rfl) (Nat.le_of_ble_eq_true rfl) ⟨hX, rfl, hc_rf.B, hmo, Or.inr ⟨1, q9, by omega, hcd, hc_ex.B, (fun h9 => absurd (hc_rf.tag.symm.trans ((congrArg _ h9.symm).trans hc_ex.tag)) (by decide)), hc_rf.at, hc_ex.at⟩⟩
    · obtain rfl := hnm9
      refine b_xcatch CX (E := "BottleLoop$NoCrates") (name := "BottleLoop$Shortage") [] ⟨0, 4, 7, 25⟩ [] (by rw [htb]; rfl) (fun z hz9 => nomatch hz9) (by decide) (by decide) q1197 (CX.nw q2228 rfl rfl) he9 ?_
      have hc_D := hc_D.ad (tb := 101) hE hz
      have hc_X := hc_X.ad (tb := 101) hE hz
      have hL := hL.ad (tb := 101) hE hz
      have fr_ex : H.size ≤ q9 := Nat.le_trans hF.1 hz
      have hX := hX.tr hE
      have hA := hA.tr (b_Ag.ge (t := 101) hz) hF.1
      have hF := hF.ext hE
      have hc_ex : b_tt G B0 ((upT τ q9 101)) Hx1 q9 101 (.inr (19, [.null, .null, .null, .null, .null, .int (nI 0)])) := b_tt.mk hat hB
      refine lv_astore_n (lv' := [(1, .ref q9), (0, .ref da)]) hx hb dX6_order_7 rfl hl (Nat.le_of_ble_eq_true rfl) rfl (fun ls hl => ?_)
      refine b_newM CX in_X22 tyX22 tyX22_ok (ci := 21) rfl q1744 q1717 q124 (fs := [.null, .null, .null, .null, .null, .int (nI 0)]) (nofn_X22) hS (Nat.le_of_ble_eq_true rfl) (Nat.le_of_ble_eq_true rfl) dX6_order_8 (fun q4 H4 hq hB hat hsz hE hmo hS => ?_)
      have hc_D := hc_D.new (tb := 102) hE hq
      have hc_X := hc_X.new (tb := 102) hE hq
      have hL := hL.new (tb := 102) hE hq
      have hc_ex := hc_ex.new (tb := 102) hE hq
      have fr_rf : H.size ≤ q4 := by rw [hq]; exact hF.1
      have hX := hX.tr hE
      have hA := hA.tr (b_Ag.new (t := 102) hq) hF.1
      have hF := hF.ext hE
      have hc_rf : b_tt G B0 ((upT (upT τ q9 101) q4 102)) H4 q4 102 (.inr (21, [.null, .null, .null, .null, .null, .int (nI 0)])) := b_tt.mk hat hB
      refine lv_dup hx hb dX6_order_11 rfl ?_
      refine lv_aload_n hx hb dX6_order_12 rfl (lv_at hl 0 rfl) ?_
      refine b_cv (cs_X6_45 (rest := [.ref q4]) CX hl.1 (m_X22_init_r l (a := q4) (ta := 102) (ca := q9) hc_rf hmo) rfl hS rfl ⟨rfl, rfl, Nat.le_of_ble_eq_true rfl, Nat.le_of_ble_eq_true rfl⟩ (Nat.le_of_ble_eq_true rfl) dX6_order_13 ⟨Nat.le_of_ble_eq_true rfl, Nat.le_of_ble_eq_true rfl⟩) hS (fun H5 locs hp hS => ?_)
      obtain ⟨hu, hmo, hx0⟩ := hp
      have hc_D := hc_D.up hu hc_rf.tag (by omega)
      have hc_X := hc_X.up hu hc_rf.tag (by decide)
      have hL := hL.up hu hc_rf.tag (by omega)
      have hc_ex := hc_ex.up hu hc_rf.tag (by decide)
      have hX := hX.up hu fr_rf
      have hF := hF.up hA hu hc_rf.tag (fun q9 => absurd q9 (Nat.not_lt.mpr fr_rf))
      have hc_rf : b_tt G B0 ((upT (upT τ q9 101) q4 102)) H5 q4 102 (.inr (21, [.ref q9, .null, .null, .null, .null, .int (nI 0)])) := hx0
      refine b_athrow CX dX6_order_16 ?_
      rw [← hQ]
      exact b_xoutP CX (fun z hz9 => by rw [htb] at hz9; rcases List.mem_cons.mp hz9 with rfl | h8; exact Or.inl (by decide); exact nomatch h8) hlk (b_thof CX (ci := 21) rfl hc_rf.at) hS (Nat.le_of_ble_eq_true rfl) (Nat.le_of_ble_eq_true rfl) ⟨hX, rfl, hc_rf.B, hmo, Or.inr ⟨2, q9, by omega, hcd, hc_ex.B, (fun h9 => absurd (hc_rf.tag.symm.trans ((congrArg _ h9.symm).trans hc_ex.tag)) (by decide)), hc_rf.at, hc_ex.at⟩⟩
    · obtain rfl := hnm9
      refine b_xcatch CX (E := "BottleLoop$NoMoney") (name := "BottleLoop$Shortage") [] ⟨0, 4, 7, 25⟩ [] (by rw [htb]; rfl) (fun z hz9 => nomatch hz9) (by decide) (by decide) q1197 (CX.nw q2229 rfl rfl) he9 ?_
      have hc_D := hc_D.ad (tb := 101) hE hz
      have hc_X := hc_X.ad (tb := 101) hE hz
      have hL := hL.ad (tb := 101) hE hz
      have fr_ex : H.size ≤ q9 := Nat.le_trans hF.1 hz
      have hX := hX.tr hE
      have hA := hA.tr (b_Ag.ge (t := 101) hz) hF.1
      have hF := hF.ext hE
      have hc_ex : b_tt G B0 ((upT τ q9 101)) Hx1 q9 101 (.inr (20, [.null, .null, .null, .null, .null, .int (nI 0)])) := b_tt.mk hat hB
      refine lv_astore_n (lv' := [(1, .ref q9), (0, .ref da)]) hx hb dX6_order_7 rfl hl (Nat.le_of_ble_eq_true rfl) rfl (fun ls hl => ?_)
      refine b_newM CX in_X22 tyX22 tyX22_ok (ci := 21) rfl q1744 q1717 q124 (fs := [.null, .null, .null, .null, .null, .int (nI 0)]) (nofn_X22) hS (Nat.le_of_ble_eq_true rfl) (Nat.le_of_ble_eq_true rfl) dX6_order_8 (fun q6 H6 hq hB hat hsz hE hmo hS => ?_)
      have hc_D := hc_D.new (tb := 102) hE hq
      have hc_X := hc_X.new (tb := 102) hE hq
      have hL := hL.new (tb := 102) hE hq
      have hc_ex := hc_ex.new (tb := 102) hE hq
      have fr_rf : H.size ≤ q6 := by rw [hq]; exact hF.1
      have hX := hX.tr hE
      have hA := hA.tr (b_Ag.new (t := 102) hq) hF.1
      have hF := hF.ext hE
      have hc_rf : b_tt G B0 ((upT (upT τ q9 101) q6 102)) H6 q6 102 (.inr (21, [.null, .null, .null, .null, .null, .int (nI 0)])) := b_tt.mk hat hB
      refine lv_dup hx hb dX6_order_11 rfl ?_
      refine lv_aload_n hx hb dX6_order_12 rfl (lv_at hl 0 rfl) ?_
      refine b_cv (cs_X6_45 (rest := [.ref q6]) CX hl.1 (m_X22_init_r l (a := q6) (ta := 102) (ca := q9) hc_rf hmo) rfl hS rfl ⟨rfl, rfl, Nat.le_of_ble_eq_true rfl, Nat.le_of_ble_eq_true rfl⟩ (Nat.le_of_ble_eq_true rfl) dX6_order_13 ⟨Nat.le_of_ble_eq_true rfl, Nat.le_of_ble_eq_true rfl⟩) hS (fun H7 locs hp hS => ?_)
      obtain ⟨hu, hmo, hx0⟩ := hp
      have hc_D := hc_D.up hu hc_rf.tag (by omega)
      have hc_X := hc_X.up hu hc_rf.tag (by decide)
      have hL := hL.up hu hc_rf.tag (by omega)
      have hc_ex := hc_ex.up hu hc_rf.tag (by decide)
      have hX := hX.up hu fr_rf
      have hF := hF.up hA hu hc_rf.tag (fun q9 => absurd q9 (Nat.not_lt.mpr fr_rf))
      have hc_rf : b_tt G B0 ((upT (upT τ q9 101) q6 102)) H7 q6 102 (.inr (21, [.ref q9, .null, .null, .null, .null, .int (nI 0)])) := hx0
      refine b_athrow CX dX6_order_16 ?_
      rw [← hQ]
      exact b_xoutP CX (fun z hz9 => by rw [htb] at hz9; rcases List.mem_cons.mp hz9 with rfl | h8; exact Or.inl (by decide); exact nomatch h8) hlk (b_thof CX (ci := 21) rfl hc_rf.at) hS (Nat.le_of_ble_eq_true rfl) (Nat.le_of_ble_eq_true rfl) ⟨hX, rfl, hc_rf.B, hmo, Or.inr ⟨3, q9, by omega, hcd, hc_ex.B, (fun h9 => absurd (hc_rf.tag.symm.trans ((congrArg _ h9.symm).trans hc_ex.tag)) (by decide)), hc_rf.at, hc_ex.at⟩⟩
  refine lv_goto (tgt := 17) hx hb dX6_order_4 (by decide) ?_
  refine lv_aload_n hx hb dX6_order_17 rfl (lv_at hl 0 rfl) ?_
  refine b_ci (cs_X6_40_12 (rest := []) CX hl.1 (m_X15_does l (da := da) (td := td) (a := a) (asv := asv) (atx := atx) (atk := atk) (hs := hs) (b := b) (s_ := s_) (w_ := w_) hc_D hc_X hL hW (by omega) (by omega) (by omega) (by omega)) rfl hc_D.at hS rfl ⟨rfl, rfl, Nat.le_of_ble_eq_true rfl, Nat.le_of_ble_eq_true rfl⟩ (Nat.le_of_ble_eq_true rfl) dX6_order_18 ⟨Nat.le_of_ble_eq_true rfl, Nat.le_of_ble_eq_true rfl⟩) hS (fun r H8 locs hp hS => ?_)
  obtain ⟨rfl, hF9, hL9⟩ := hp
  have hc_D := hc_D.fr hF9 (show ¬ (1000 * id ≤ (td) ∧ (td) < 1000 * id + 1000) by omega)
  have hc_X := hc_X.fr hF9 (show ¬ (1000 * id ≤ 0 ∧ 0 < 1000 * id + 1000) by omega)
  have hz9 := hF.1
  have hF0 := hF.tr hA hF9 (fun q9 hq9 x9 => by have x8 : 1000 * id ≤ τ q9 ∧ τ q9 < 1000 * id + 1000 := x9; show 1000 * id ≤ τ q9 ∧ τ q9 < 1000 * id + 1000; omega)
  have hF := hF0
  have hL : LR G B0 τ id F M E H8 ((s_break S s_ b w_)) Z := hL9
  refine lv_pop hx hb dX6_order_21 rfl ?_
  rw [← hQ]
  exact vx_ret (b_vret CX hr hlk hS (Nat.le_of_ble_eq_true rfl) (Nat.le_of_ble_eq_true rfl) dX6_order_22 (⟨(by exact hk_1), hF, hL⟩))
set_option maxHeartbeats 2000000 in
set_option maxRecDepth 100000 in
theorem m_X6_order_13 (l : Launch) {G : b_G} {B0 : Nat} {H : Heap} {τ : b_T} {id : Nat} {F : Nat → Nat} {M : Nat → Int32} {E : Nat → Bool} {S : b_St} {Z : Nat → Nat → Int32} {da : Nat} {td : Nat} {a : Nat} {asv : Nat} {atx : Nat} {atk : Nat} {hs : Int64} {s_ : Nat} {k : Nat} {c_ : Nat} {f : Nat → Int32} (hc_D : b_tt G B0 τ H da (td) (.inr (13, [.ref a, .int (nI s_), .int (nI k), .int (nI c_), .ref a]))) (hc_X : b_tt G B0 τ H a 0 (.inr (0, [.ref ((F 0)), .ref asv, .ref atx, .ref atk, .long hs]))) (hc_tk : b_tt G B0 τ H atk 5 (.inl (G.2.1 0, 8, .inl f))) (hL : LR G B0 τ id F M E H S Z) (hW : b_WF S) (hSs_ : s_ < ns S) (hk : k < 3) (ht9 : td = 100) (hi0 : 0 < id) (htd : td < 1000) (hc : c_ ≤ 50) (hpk0 : (a_collect S s_ k (nI c_)) = nI 0 → p_picks S s_ k c_) (ht5 : ¬ td = 5) : vx_Met l yX6_order (wsW_ yX6_order cX6_order 2 (Option.none) [((0 : Nat), (4 : Nat), (7 : Nat), (25 : Nat))]) ({ frames := 8, cells := 3, slots := 18, locals := 171 } : Room) (b_Pc G B0 H [.ref da]) (b_Qv B0 (fun H1 => ((a_collect S s_ k (nI c_)) = nI 0) ∧ b_Fr τ (fun t => (1000 * id ≤ t ∧ t < 1000 * id + 1000) ∨ t = 5) H H1 ∧ b_tt G B0 τ H1 atk 5 (.inl (G.2.1 0, 8, .inl ((fun q => nI (p_tk S s_ k (12 * c_) q))))) ∧ LR G B0 τ id F M E H1 ((s_collect S s_ k c_)) Z)) (b_X B0 (fun E9 q9 H9 => r_px G B0 H (a_collect S s_ k (nI c_)) E9 q9 H9)) 3 18 (b_A B0) := by
  refine b_ofXW (by decide) (Nat.le_of_ble_eq_true rfl) ?_
  intro p e s m below meth c CX hr hlk htb hS ls hl
  have CX : b_Cx p s m _ c cX6_order 2 RX6 G B0 := CX
  have hx := CX.hx
  have hb := CX.hb
  have hl : lv_has ls 2 [(0, .ref da)] := hl
  generalize hQ : vx_MQ below (b_Qv B0 (fun H1 => ((a_collect S s_ k (nI c_)) = nI 0) ∧ b_Fr τ (fun t => (1000 * id ≤ t ∧ t < 1000 * id + 1000) ∨ t = 5) H H1 ∧ b_tt G B0 τ H1 atk 5 (.inl (G.2.1 0, 8, .inl ((fun q => nI (p_tk S s_ k (12 * c_) q))))) ∧ LR G B0 τ id F M E H1 ((s_collect S s_ k c_)) Z)) (b_X B0 (fun E9 q9 H9 => r_px G B0 H (a_collect S s_ k (nI c_)) E9 q9 H9)) ([.ref da] : List Value).toArray s 3 18 (b_A B0) = Q
  have hF : b_Fr τ (fun t => (1000 * id ≤ t ∧ t < 1000 * id + 1000) ∨ t = 5) H H := b_Fr.rf
  have hA : b_Ag τ τ H := b_Ag.rf
  have hX : b_Ext H H := b_Ext.rf
  have hnb : nb S = nb S := rfl
  have hns : ns S = ns S := rfl
  have hn8 := hL.2.2.2.1
  have hn6 := hL.2.2.2.2
  refine lv_aload_n hx hb dX6_order_0 rfl (lv_at hl 0 rfl) ?_
  refine b_xv0 (cx_X6_15_13 (rest := []) CX hl.1 (m_X17_check l (da := da) (td := td) (a := a) (asv := asv) (atx := atx) (atk := atk) (hs := hs) (s_ := s_) (k := k) (c_ := c_) hc_D hc_X hL hW (by omega) (by omega)) rfl hc_D.at hS rfl ⟨rfl, rfl, Nat.le_of_ble_eq_true rfl, Nat.le_of_ble_eq_true rfl⟩ (Nat.le_of_ble_eq_true rfl) dX6_order_1 ⟨Nat.le_of_ble_eq_true rfl, Nat.le_of_ble_eq_true rfl⟩) hS (fun E9 q9 Hx1 locs hx9 hS he9 => ?_) (fun hk_1 locs hS => ?_)
  · obtain ⟨hE, hz, hB, v9, hv9, hcd, hnm9, hat⟩ := hx9
    rcases hv9 with rfl | rfl | rfl
    · obtain rfl := hnm9
      refine b_xcatch CX (E := "BottleLoop$NoBottles") (name := "BottleLoop$Shortage") [] ⟨0, 4, 7, 25⟩ [] (by rw [htb]; rfl) (fun z hz9 => nomatch hz9) (by decide) (by decide) q1197 (CX.nw q2227 rfl rfl) he9 ?_
      have hc_D := hc_D.ad (tb := 101) hE hz
      have hc_X := hc_X.ad (tb := 101) hE hz
      have hc_tk := hc_tk.ad (tb := 101) hE hz
      have hL := hL.ad (tb := 101) hE hz
      have fr_ex : H.size ≤ q9 := Nat.le_trans hF.1 hz
      have hX := hX.tr hE
      have hA := hA.tr (b_Ag.ge (t := 101) hz) hF.1
      have hF := hF.ext hE
      have hc_ex : b_tt G B0 ((upT τ q9 101)) Hx1 q9 101 (.inr (18, [.null, .null, .null, .null, .null, .int (nI 0)])) := b_tt.mk hat hB
      refine lv_astore_n (lv' := [(1, .ref q9), (0, .ref da)]) hx hb dX6_order_7 rfl hl (Nat.le_of_ble_eq_true rfl) rfl (fun ls hl => ?_)
      refine b_newM CX in_X22 tyX22 tyX22_ok (ci := 21) rfl q1744 q1717 q124 (fs := [.null, .null, .null, .null, .null, .int (nI 0)]) (nofn_X22) hS (Nat.le_of_ble_eq_true rfl) (Nat.le_of_ble_eq_true rfl) dX6_order_8 (fun q2 H2 hq hB hat hsz hE hmo hS => ?_)
      have hc_D := hc_D.new (tb := 102) hE hq
      have hc_X := hc_X.new (tb := 102) hE hq
      have hc_tk := hc_tk.new (tb := 102) hE hq
      have hL := hL.new (tb := 102) hE hq
      have hc_ex := hc_ex.new (tb := 102) hE hq
      have fr_rf : H.size ≤ q2 := by rw [hq]; exact hF.1
      have hX := hX.tr hE
      have hA := hA.tr (b_Ag.new (t := 102) hq) hF.1
      have hF := hF.ext hE
      have hc_rf : b_tt G B0 ((upT (upT τ q9 101) q2 102)) H2 q2 102 (.inr (21, [.null, .null, .null, .null, .null, .int (nI 0)])) := b_tt.mk hat hB
      refine lv_dup hx hb dX6_order_11 rfl ?_
      refine lv_aload_n hx hb dX6_order_12 rfl (lv_at hl 0 rfl) ?_
      refine b_cv (cs_X6_45 (rest := [.ref q2]) CX hl.1 (m_X22_init_r l (a := q2) (ta := 102) (ca := q9) hc_rf hmo) rfl hS rfl ⟨rfl, rfl, Nat.le_of_ble_eq_true rfl, Nat.le_of_ble_eq_true rfl⟩ (Nat.le_of_ble_eq_true rfl) dX6_order_13 ⟨Nat.le_of_ble_eq_true rfl, Nat.le_of_ble_eq_true rfl⟩) hS (fun H3 locs hp hS => ?_)
      obtain ⟨hu, hmo, hx0⟩ := hp
      have hc_D := hc_D.up hu hc_rf.tag (by omega)
      have hc_X := hc_X.up hu hc_rf.tag (by decide)
      have hc_tk := hc_tk.up hu hc_rf.tag (by decide)
      have hL := hL.up hu hc_rf.tag (by omega)
      have hc_ex := hc_ex.up hu hc_rf.tag (by decide)
      have hX := hX.up hu fr_rf
      have hF := hF.up hA hu hc_rf.tag (fun q9 => absurd q9 (Nat.not_lt.mpr fr_rf))
      have hc_rf : b_tt G B0 ((upT (upT τ q9 101) q2 102)) H3 q2 102 (.inr (21, [.ref q9, .null, .null, .null, .null, .int (nI 0)])) := hx0
      refine b_athrow CX dX6_order_16 ?_
      rw [← hQ]
      exact b_xoutP CX (fun z hz9 => by rw [htb] at hz9; rcases List.mem_cons.mp hz9 with rfl | h8; exact Or.inl (by decide); exact nomatch h8) hlk (b_thof CX (ci := 21) rfl hc_rf.at) hS (Nat.le_of_ble_eq_true rfl) (Nat.le_of_ble_eq_true rfl) ⟨hX, rfl, hc_rf.B, hmo, Or.inr ⟨1, q9, by omega, hcd, hc_ex.B, (fun h9 => absurd (hc_rf.tag.symm.trans ((congrArg _ h9.symm).trans hc_ex.tag)) (by decide)), hc_rf.at, hc_ex.at⟩⟩
    · obtain rfl := hnm9
      refine b_xcatch CX (E := "BottleLoop$NoCrates") (name := "BottleLoop$Shortage") [] ⟨0, 4, 7, 25⟩ [] (by rw [htb]; rfl) (fun z hz9 => nomatch hz9) (by decide) (by decide) q1197 (CX.nw q2228 rfl rfl) he9 ?_
      have hc_D := hc_D.ad (tb := 101) hE hz
      have hc_X := hc_X.ad (tb := 101) hE hz
      have hc_tk := hc_tk.ad (tb := 101) hE hz
      have hL := hL.ad (tb := 101) hE hz
      have fr_ex : H.size ≤ q9 := Nat.le_trans hF.1 hz
      have hX := hX.tr hE
      have hA := hA.tr (b_Ag.ge (t := 101) hz) hF.1
      have hF := hF.ext hE
      have hc_ex : b_tt G B0 ((upT τ q9 101)) Hx1 q9 101 (.inr (19, [.null, .null, .null, .null, .null, .int (nI 0)])) := b_tt.mk hat hB
      refine lv_astore_n (lv' := [(1, .ref q9), (0, .ref da)]) hx hb dX6_order_7 rfl hl (Nat.le_of_ble_eq_true rfl) rfl (fun ls hl => ?_)
      refine b_newM CX in_X22 tyX22 tyX22_ok (ci := 21) rfl q1744 q1717 q124 (fs := [.null, .null, .null, .null, .null, .int (nI 0)]) (nofn_X22) hS (Nat.le_of_ble_eq_true rfl) (Nat.le_of_ble_eq_true rfl) dX6_order_8 (fun q4 H4 hq hB hat hsz hE hmo hS => ?_)
      have hc_D := hc_D.new (tb := 102) hE hq
      have hc_X := hc_X.new (tb := 102) hE hq
      have hc_tk := hc_tk.new (tb := 102) hE hq
      have hL := hL.new (tb := 102) hE hq
      have hc_ex := hc_ex.new (tb := 102) hE hq
      have fr_rf : H.size ≤ q4 := by rw [hq]; exact hF.1
      have hX := hX.tr hE
      have hA := hA.tr (b_Ag.new (t := 102) hq) hF.1
      have hF := hF.ext hE
      have hc_rf : b_tt G B0 ((upT (upT τ q9 101) q4 102)) H4 q4 102 (.inr (21, [.null, .null, .null, .null, .null, .int (nI 0)])) := b_tt.mk hat hB
      refine lv_dup hx hb dX6_order_11 rfl ?_
      refine lv_aload_n hx hb dX6_order_12 rfl (lv_at hl 0 rfl) ?_
      refine b_cv (cs_X6_45 (rest := [.ref q4]) CX hl.1 (m_X22_init_r l (a := q4) (ta := 102) (ca := q9) hc_rf hmo) rfl hS rfl ⟨rfl, rfl, Nat.le_of_ble_eq_true rfl, Nat.le_of_ble_eq_true rfl⟩ (Nat.le_of_ble_eq_true rfl) dX6_order_13 ⟨Nat.le_of_ble_eq_true rfl, Nat.le_of_ble_eq_true rfl⟩) hS (fun H5 locs hp hS => ?_)
      obtain ⟨hu, hmo, hx0⟩ := hp
      have hc_D := hc_D.up hu hc_rf.tag (by omega)
      have hc_X := hc_X.up hu hc_rf.tag (by decide)
      have hc_tk := hc_tk.up hu hc_rf.tag (by decide)
      have hL := hL.up hu hc_rf.tag (by omega)
      have hc_ex := hc_ex.up hu hc_rf.tag (by decide)
      have hX := hX.up hu fr_rf
      have hF := hF.up hA hu hc_rf.tag (fun q9 => absurd q9 (Nat.not_lt.mpr fr_rf))
      have hc_rf : b_tt G B0 ((upT (upT τ q9 101) q4 102)) H5 q4 102 (.inr (21, [.ref q9, .null, .null, .null, .null, .int (nI 0)])) := hx0
      refine b_athrow CX dX6_order_16 ?_
      rw [← hQ]
      exact b_xoutP CX (fun z hz9 => by rw [htb] at hz9; rcases List.mem_cons.mp hz9 with rfl | h8; exact Or.inl (by decide); exact nomatch h8) hlk (b_thof CX (ci := 21) rfl hc_rf.at) hS (Nat.le_of_ble_eq_true rfl) (Nat.le_of_ble_eq_true rfl) ⟨hX, rfl, hc_rf.B, hmo, Or.inr ⟨2, q9, by omega, hcd, hc_ex.B, (fun h9 => absurd (hc_rf.tag.symm.trans ((congrArg _ h9.symm).trans hc_ex.tag)) (by decide)), hc_rf.at, hc_ex.at⟩⟩
    · obtain rfl := hnm9
      refine b_xcatch CX (E := "BottleLoop$NoMoney") (name := "BottleLoop$Shortage") [] ⟨0, 4, 7, 25⟩ [] (by rw [htb]; rfl) (fun z hz9 => nomatch hz9) (by decide) (by decide) q1197 (CX.nw q2229 rfl rfl) he9 ?_
      have hc_D := hc_D.ad (tb := 101) hE hz
      have hc_X := hc_X.ad (tb := 101) hE hz
      have hc_tk := hc_tk.ad (tb := 101) hE hz
      have hL := hL.ad (tb := 101) hE hz
      have fr_ex : H.size ≤ q9 := Nat.le_trans hF.1 hz
      have hX := hX.tr hE
      have hA := hA.tr (b_Ag.ge (t := 101) hz) hF.1
      have hF := hF.ext hE
      have hc_ex : b_tt G B0 ((upT τ q9 101)) Hx1 q9 101 (.inr (20, [.null, .null, .null, .null, .null, .int (nI 0)])) := b_tt.mk hat hB
      refine lv_astore_n (lv' := [(1, .ref q9), (0, .ref da)]) hx hb dX6_order_7 rfl hl (Nat.le_of_ble_eq_true rfl) rfl (fun ls hl => ?_)
      refine b_newM CX in_X22 tyX22 tyX22_ok (ci := 21) rfl q1744 q1717 q124 (fs := [.null, .null, .null, .null, .null, .int (nI 0)]) (nofn_X22) hS (Nat.le_of_ble_eq_true rfl) (Nat.le_of_ble_eq_true rfl) dX6_order_8 (fun q6 H6 hq hB hat hsz hE hmo hS => ?_)
      have hc_D := hc_D.new (tb := 102) hE hq
      have hc_X := hc_X.new (tb := 102) hE hq
      have hc_tk := hc_tk.new (tb := 102) hE hq
      have hL := hL.new (tb := 102) hE hq
      have hc_ex := hc_ex.new (tb := 102) hE hq
      have fr_rf : H.size ≤ q6 := by rw [hq]; exact hF.1
      have hX := hX.tr hE
      have hA := hA.tr (b_Ag.new (t := 102) hq) hF.1
      have hF := hF.ext hE
      have hc_rf : b_tt G B0 ((upT (upT τ q9 101) q6 102)) H6 q6 102 (.inr (21, [.null, .null, .null, .null, .null, .int (nI 0)])) := b_tt.mk hat hB
      refine lv_dup hx hb dX6_order_11 rfl ?_
      refine lv_aload_n hx hb dX6_order_12 rfl (lv_at hl 0 rfl) ?_
      refine b_cv (cs_X6_45 (rest := [.ref q6]) CX hl.1 (m_X22_init_r l (a := q6) (ta := 102) (ca := q9) hc_rf hmo) rfl hS rfl ⟨rfl, rfl, Nat.le_of_ble_eq_true rfl, Nat.le_of_ble_eq_true rfl⟩ (Nat.le_of_ble_eq_true rfl) dX6_order_13 ⟨Nat.le_of_ble_eq_true rfl, Nat.le_of_ble_eq_true rfl⟩) hS (fun H7 locs hp hS => ?_)
      obtain ⟨hu, hmo, hx0⟩ := hp
      have hc_D := hc_D.up hu hc_rf.tag (by omega)
      have hc_X := hc_X.up hu hc_rf.tag (by decide)
      have hc_tk := hc_tk.up hu hc_rf.tag (by decide)
      have hL := hL.up hu hc_rf.tag (by omega)
      have hc_ex := hc_ex.up hu hc_rf.tag (by decide)
      have hX := hX.up hu fr_rf
      have hF := hF.up hA hu hc_rf.tag (fun q9 => absurd q9 (Nat.not_lt.mpr fr_rf))
      have hc_rf : b_tt G B0 ((upT (upT τ q9 101) q6 102)) H7 q6 102 (.inr (21, [.ref q9, .null, .null, .null, .null, .int (nI 0)])) := hx0
      refine b_athrow CX dX6_order_16 ?_
      rw [← hQ]
      exact b_xoutP CX (fun z hz9 => by rw [htb] at hz9; rcases List.mem_cons.mp hz9 with rfl | h8; exact Or.inl (by decide); exact nomatch h8) hlk (b_thof CX (ci := 21) rfl hc_rf.at) hS (Nat.le_of_ble_eq_true rfl) (Nat.le_of_ble_eq_true rfl) ⟨hX, rfl, hc_rf.B, hmo, Or.inr ⟨3, q9, by omega, hcd, hc_ex.B, (fun h9 => absurd (hc_rf.tag.symm.trans ((congrArg _ h9.symm).trans hc_ex.tag)) (by decide)), hc_rf.at, hc_ex.at⟩⟩
  refine lv_goto (tgt := 17) hx hb dX6_order_4 (by decide) ?_
  have hpk := hpk0 hk_1
  refine lv_aload_n hx hb dX6_order_17 rfl (lv_at hl 0 rfl) ?_
  refine b_ci (cs_X6_40_13 (rest := []) CX hl.1 (m_X17_does l (da := da) (td := td) (a := a) (asv := asv) (atx := atx) (atk := atk) (f := f) (hs := hs) (s_ := s_) (k := k) (c_ := c_) hc_D hc_X hc_tk hL hW (by omega) (by omega) (by omega) (by omega) (by omega) hpk (by omega)) rfl hc_D.at hS rfl ⟨rfl, rfl, Nat.le_of_ble_eq_true rfl, Nat.le_of_ble_eq_true rfl⟩ (Nat.le_of_ble_eq_true rfl) dX6_order_18 ⟨Nat.le_of_ble_eq_true rfl, Nat.le_of_ble_eq_true rfl⟩) hS (fun r H8 locs hp hS => ?_)
  obtain ⟨rfl, hF9, hx0, hL9⟩ := hp
  have hc_D := hc_D.fr hF9 (show ¬ ((1000 * id ≤ (td) ∧ (td) < 1000 * id + 1000) ∨ (td) = 5) by omega)
  have hc_X := hc_X.fr hF9 (show ¬ ((1000 * id ≤ 0 ∧ 0 < 1000 * id + 1000) ∨ 0 = 5) by omega)
  have hz9 := hF.1
  have hF0 := hF.tr hA hF9 (fun q9 hq9 x9 => by have x8 : (1000 * id ≤ τ q9 ∧ τ q9 < 1000 * id + 1000) ∨ τ q9 = 5 := x9; show (1000 * id ≤ τ q9 ∧ τ q9 < 1000 * id + 1000) ∨ τ q9 = 5; omega)
  have hF := hF0
  have hc_tk : b_tt G B0 τ H8 atk 5 (.inl (G.2.1 0, 8, .inl ((fun q => nI (p_tk S s_ k (12 * c_) q))))) := hx0
  have hL : LR G B0 τ id F M E H8 ((s_collect S s_ k c_)) Z := hL9
  refine lv_pop hx hb dX6_order_21 rfl ?_
  rw [← hQ]
  exact vx_ret (b_vret CX hr hlk hS (Nat.le_of_ble_eq_true rfl) (Nat.le_of_ble_eq_true rfl) dX6_order_22 (⟨(by exact hk_1), hF, hc_tk, hL⟩))
