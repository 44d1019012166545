/-! deeds done -/
set_option maxRecDepth 100000
theorem c_lt0 {x n : Int32} (h : c_lt x n = nI 0) : ¬ x < n := fun q => by unfold c_lt at h; rw [if_pos q] at h; exact absurd h (by decide)
theorem c_lt1 {x n : Int32} (h : ¬ c_lt x n = nI 0) : x < n := Classical.byContradiction fun q => h (if_neg q)
theorem a_01 {a : Int32} (h : a = nI 0 ∨ a = nI 1 ∨ a = nI 2 ∨ a = nI 3) : a ≤ 0 ↔ a = nI 0 := by
  rcases h with rfl | rfl | rfl | rfl <;> decide
theorem a_deliver_v {S : b_St} {b s : Nat} {c : Int32} : a_deliver S b s c = nI 0 ∨ a_deliver S b s c = nI 1 ∨ a_deliver S b s c = nI 2 ∨ a_deliver S b s c = nI 3 := by
  unfold a_deliver; (repeat' split) <;> simp
theorem a_sell_v {S : b_St} {b s : Nat} {c : Int32} : a_sell S s b c = nI 0 ∨ a_sell S s b c = nI 1 ∨ a_sell S s b c = nI 2 ∨ a_sell S s b c = nI 3 := by
  unfold a_sell; split <;> simp
theorem a_take_v {S : b_St} {b s : Nat} {c : Int32} : a_take S s b c = nI 0 ∨ a_take S s b c = nI 1 ∨ a_take S s b c = nI 2 ∨ a_take S s b c = nI 3 := by
  unfold a_take; (repeat' split) <;> simp
theorem a_break_v {S : b_St} {b s : Nat} {c : Int32} : a_break S s b c = nI 0 ∨ a_break S s b c = nI 1 ∨ a_break S s b c = nI 2 ∨ a_break S s b c = nI 3 := by
  unfold a_break; split <;> simp
theorem a_collect_v {S : b_St} {b s : Nat} {c : Int32} : a_collect S s b c = nI 0 ∨ a_collect S s b c = nI 1 ∨ a_collect S s b c = nI 2 ∨ a_collect S s b c = nI 3 := by
  unfold a_collect; (repeat' split) <;> simp
theorem cx_X6_30_9 {p : Program} {l : Launch} {e : Env} {R : Room} {s : State} {m : MethodId} {args : Array Value} {below : List Frame} {meth : Method} {c : Code} {H : Heap} {locs : List Loc} {cells slots : Nat} {cc : ByteArray} {pc nL a : Nat} {ls : Array Slot} {rest : List Value} {G : b_G} {B0 : Nat} (CX : b_Cx p s m args c cc nL RX6 G B0) (hls : ls.size = nL) {rm : Room} {mc ms : Nat} {As st0 : List Value} {Qc : Array Value → State → Outcome → State → Prop} {XC : String → Addr → State → State → Prop} (hM : vx_Met l yX6_reason (wsW_ yX6_reason cX6_reason 2 (Option.some Jvm.ClassFile.FieldType.int) [((0 : Nat), (5 : Nat), (6 : Nat), (18 : Nat)), ((0 : Nat), (5 : Nat), (6 : Nat), (20 : Nat)), ((0 : Nat), (5 : Nat), (6 : Nat), (22 : Nat)), ((0 : Nat), (5 : Nat), (12 : Nat), (25 : Nat))]) rm (b_Pc G B0 H (.ref a :: As)) Qc XC mc ms (b_A B0)) (hn : As.length = 0) {fs : List Value} (hP : b_at G a (.inr (9, fs)) H) (hS : va_S (b_A B0) s.heap H locs) (hst : st0 = As.reverse ++ .ref a :: rest) (hr : rm.cells = mc ∧ rm.slots = ms ∧ rm.frames + 1 ≤ R.frames ∧ 8 + (2 + 11) + rm.locals ≤ R.locals) (hw : (rest.map fun v => v.category).sum ≤ 8) (hdg : decode cc pc = .ok (.invokevirtual 30, 3)) (hf : cells + mc ≤ R.cells ∧ slots + ms ≤ R.slots) : vx_Run p l e R s m args below meth c H locs cells slots mc ms (F0 m pc ls st0) rest (Qc (Value.ref a :: As).toArray) XC (b_A B0) := vx_runVX (C := RX12) CX.fix hM (b_cwVC 0 CX.ts q1181 q1182 q1184 q104 q1193 hr.1 hr.2.1 ⟨by decide, by decide, by decide +kernel⟩ ⟨hr.2.2.1, hr.2.2.2⟩) ⟨b_blind G B0 H _, b_recv CX.K (ci := 9) rfl hP, b_pre _ CX.K hS⟩ rfl hn hls hst (lv_room hw) hdg hf
theorem cx_X6_33 {p : Program} {l : Launch} {e : Env} {R : Room} {s : State} {m : MethodId} {args : Array Value} {below : List Frame} {meth : Method} {c : Code} {H : Heap} {locs : List Loc} {cells slots : Nat} {cc : ByteArray} {pc nL : Nat} {ls : Array Slot} {rest : List Value} {G : b_G} {B0 : Nat} (CX : b_Cx p s m args c cc nL RX6 G B0) (hls : ls.size = nL) {rm : Room} {mc ms : Nat} {As st0 : List Value} {Qc : Array Value → State → Outcome → State → Prop} {XC : String → Addr → State → State → Prop} (hM : vx_Met l yX1_needState (ws_ yX1_needState cX1_needState 1 (Option.none)) rm (b_Pc G B0 H As) Qc XC mc ms (b_A B0)) (hn : As.length = 1) (hS : va_S (b_A B0) s.heap H locs) (hst : st0 = As.reverse ++ rest) (hr : rm.cells = mc ∧ rm.slots = ms ∧ rm.frames + 1 ≤ R.frames ∧ 8 + (1 + 11) + rm.locals ≤ R.locals) (hw : (rest.map fun v => v.category).sum ≤ 8) (hdg : decode cc pc = .ok (.invokestatic 33, 3)) (hf : cells + mc ≤ R.cells ∧ slots + ms ≤ R.slots) : vx_Run p l e R s m args below meth c H locs cells slots mc ms (F0 m pc ls st0) rest (Qc As.toArray) XC (b_A B0) := vx_runSN CX.fix hM (⟨va_cnB 1 CX.ts (lw_meth q946) rfl hr.1 hr.2.1 (CX.K.2.1 _ q1361 rfl) (CX.ts _ q79) (by decide +kernel) ⟨hr.2.2.1, hr.2.2.2⟩, CX.ts _ q945, trivial⟩) ⟨b_blind G B0 H _, b_pre _ CX.K hS⟩ rfl hn hls hst (lv_room hw) hdg hf
theorem gf_X6_3_9 {p : Program} {l : Launch} {e : Env} {R : Room} {s : State} {m : MethodId} {args : Array Value} {below : List Frame} {meth : Method} {c : Code} {H : Heap} {locs : List Loc} {cells slots : Nat} {Q : State → Prop} {cc : ByteArray} {pc nL a : Nat} {ls : Array Slot} {rest : List Value} {G : b_G} {B0 : Nat} (CX : b_Cx p s m args c cc nL RX6 G B0) {fs : List Value} (hP : b_at G a (.inr (9, fs)) H) {v : Value} (hv : fs[0]? = some v) (hdg : decode cc pc = .ok (.getfield 3, 3)) (kk : W p l e R s m args below meth c H locs cells slots Q (F0 m (pc + 3) ls (v :: rest))) : W p l e R s m args below meth c H locs cells slots Q (F0 m pc ls (.ref a :: rest)) := b_get CX in_X12 rfl 0 (by decide) q1165 (Or.inl rfl) hP hv hdg kk
theorem cs_X6_37 {p : Program} {l : Launch} {e : Env} {R : Room} {s : State} {m : MethodId} {args : Array Value} {below : List Frame} {meth : Method} {c : Code} {H : Heap} {locs : List Loc} {cells slots : Nat} {cc : ByteArray} {pc nL a : Nat} {ls : Array Slot} {rest : List Value} {G : b_G} {B0 : Nat} (CX : b_Cx p s m args c cc nL RX6 G B0) (hls : ls.size = nL) {rm : Room} {mc ms : Nat} {As st0 : List Value} {Qc : Array Value → State → Outcome → State → Prop} (hM : Met l yX1_save (ws_ yX1_save cX1_save 1 (Option.none)) rm (b_Pc G B0 H (.ref a :: As)) Qc mc ms (b_A B0)) (hn : As.length = 0) {fs : List Value} {ci : Nat} {qc : vw_C} (hc : b_cl[ci]? = some qc) (hq : qc.1 = RX1) (hP : b_at G a (.inr (ci, fs)) H) (hS : va_S (b_A B0) s.heap H locs) (hst : st0 = As.reverse ++ .ref a :: rest) (hr : rm.cells = mc ∧ rm.slots = ms ∧ rm.frames + 1 ≤ R.frames ∧ 8 + (1 + 11) + rm.locals ≤ R.locals) (hw : (rest.map fun v => v.category).sum ≤ 8) (hdg : decode cc pc = .ok (.invokevirtual 37, 3)) (hf : cells + mc ≤ R.cells ∧ slots + ms ≤ R.slots) : va_Run p l e R s m args below meth c H locs cells slots mc ms (F0 m pc ls st0) rest (Qc (Value.ref a :: As).toArray) (b_A B0) := va_runVN CX.fix hM (⟨va_cnB 0 CX.ts (lw_meth q965) rfl hr.1 hr.2.1 (CX.K.2.1 _ q1362 rfl) (CX.ts _ q79) (by decide +kernel) ⟨hr.2.2.1, hr.2.2.2⟩, CX.ts _ q964, CX.ts _ qs26⟩) ⟨b_blind G B0 H _, by have h9 := b_recv CX.K hc hP; rw [hq] at h9; exact h9, b_pre _ CX.K hS⟩ rfl hn hls hst (lv_room hw) hdg hf
theorem cs_X6_40_9 {p : Program} {l : Launch} {e : Env} {R : Room} {s : State} {m : MethodId} {args : Array Value} {below : List Frame} {meth : Method} {c : Code} {H : Heap} {locs : List Loc} {cells slots : Nat} {cc : ByteArray} {pc nL a : Nat} {ls : Array Slot} {rest : List Value} {G : b_G} {B0 : Nat} (CX : b_Cx p s m args c cc nL RX6 G B0) (hls : ls.size = nL) {rm : Room} {mc ms : Nat} {As st0 : List Value} {Qc : Array Value → State → Outcome → State → Prop} (hM : Met l yX12_does (ws_ yX12_does cX12_does 1 (Option.some Jvm.ClassFile.FieldType.int)) rm (b_Pc G B0 H (.ref a :: As)) Qc mc ms (b_A B0)) (hn : As.length = 0) {fs : List Value} (hP : b_at G a (.inr (9, fs)) H) (hS : va_S (b_A B0) s.heap H locs) (hst : st0 = As.reverse ++ .ref a :: rest) (hr : rm.cells = mc ∧ rm.slots = ms ∧ rm.frames + 1 ≤ R.frames ∧ 8 + (1 + 11) + rm.locals ≤ R.locals) (hw : (rest.map fun v => v.category).sum ≤ 8) (hdg : decode cc pc = .ok (.invokevirtual 40, 3)) (hf : cells + mc ≤ R.cells ∧ slots + ms ≤ R.slots) : va_Run p l e R s m args below meth c H locs cells slots mc ms (F0 m pc ls st0) rest (Qc (Value.ref a :: As).toArray) (b_A B0) := va_runU CX.fix hM (va_cwA (C := RX12) (owner := RX6) 0 CX.ts (lw_U q1363 q1365 q1366 q1367 q110 q1368) rfl hr.1 hr.2.1 (CX.K.2.1 _ q1364 rfl) ⟨by decide, by decide, by decide +kernel⟩ ⟨hr.2.2.1, hr.2.2.2⟩) ⟨b_blind G B0 H _, b_recv CX.K (ci := 9) rfl hP, b_pre _ CX.K hS⟩ rfl hn hls hst (lv_room hw) hdg hf
set_option maxHeartbeats 2000000 in
set_option maxRecDepth 100000 in
theorem m_X6_done_9 (l : Launch) {G : b_G} {B0 : Nat} {H : Heap} {τ : b_T} {A : Nat → Nat} {S : b_St} {n : Nat} {L : Nat → b_St} {tn : Nat} {t : Nat → Nat} {da : Nat} {b : Nat} {s_ : Nat} {c_ : Int32} (hc_D : b_tt G B0 τ H da 100 (.inr (9, [.ref ((A 0)), .int (nI b), .int (nI s_), .int c_, .ref ((A 0))]))) (hlt : l.stackTraces = false) (hXR : XR G B0 τ A H (S, n, L, tn, t)) (hBb : b < nb S) (hSs_ : s_ < ns S) (hW1 : (a_deliver S b s_ c_) = nI 0 → b_WF ((s_deliver S b s_ c_))) : vx_Met l yX6_done (ws_ yX6_done cX6_done 1 (Option.some Jvm.ClassFile.FieldType.int)) ({ frames := 9, cells := 58, slots := 485, locals := 193 } : Room) (b_Pc G B0 H [.ref da]) (b_Qi B0 (fun r H1 => (a_deliver S b s_ c_) = nI 0 ∧ r = p_price S b c_ ∧ ∃ τ1 : b_T, b_Ag τ τ1 H ∧ b_Fr τ (fun t => t < 10 ∨ 1000 ≤ t) H H1 ∧ XR G B0 τ1 A H1 ((s_deliver S b s_ c_), (p_sn n), (p_L L S n), tn, t))) (b_X B0 (fun E9 q9 H9 => ¬ (a_deliver S b s_ c_) = nI 0 ∧ E9 = "java/lang/IllegalStateException" ∧ b_Ext H H9)) 58 485 (b_A B0) := by
  refine b_ofX (by decide) (Nat.le_of_ble_eq_true rfl) ?_
  intro p e s m below meth c CX hr hlk htb hS ls hl
  have CX : b_Cx p s m _ c cX6_done 1 RX6 G B0 := CX
  have hx := CX.hx
  have hb := CX.hb
  have hl : lv_has ls 1 [(0, .ref da)] := hl
  generalize hQ : vx_MQ below (b_Qi B0 (fun r H1 => (a_deliver S b s_ c_) = nI 0 ∧ r = p_price S b c_ ∧ ∃ τ1 : b_T, b_Ag τ τ1 H ∧ b_Fr τ (fun t => t < 10 ∨ 1000 ≤ t) H H1 ∧ XR G B0 τ1 A H1 ((s_deliver S b s_ c_), (p_sn n), (p_L L S n), tn, t))) (b_X B0 (fun E9 q9 H9 => ¬ (a_deliver S b s_ c_) = nI 0 ∧ E9 = "java/lang/IllegalStateException" ∧ b_Ext H H9)) ([.ref da] : List Value).toArray s 58 485 (b_A B0) = Q
  have hF : b_Fr τ (fun t => t < 10 ∨ 1000 ≤ t) H H := b_Fr.rf
  have hA : b_Ag τ τ H := b_Ag.rf
  have hX : b_Ext H H := b_Ext.rf
  obtain ⟨d0, c0, ids, P0, F, M, E, Z, sm, rs, se, ml, hs, bt, tk9, hc_X, hc_sv, hsa, hse, hc_tx, hc_tb, hbt, hc_tk, hL, hZ, hW, hV, hd0, hdc, hn, htn, ht⟩ := hXR
  have hc_X : b_tt G B0 τ H ((A 0)) 0 (.inr (0, [.ref ((F 0)), .ref ((A 1)), .ref ((A 3)), .ref ((A 5)), .long hs])) := hc_X
  have hc_sv : b_tt G B0 τ H ((A 1)) 1 (.inr (2, [.int sm, .ref ((if se = true then rs else G.2.2 0)), .int (nI n)])) := hc_sv
  have hsa : (se = true → b_tt G B0 τ H rs 2 (.inl (G.2.1 2, q_refs 10 (fun j => if j < n then some (P0 j) else none)))) := hsa
  have hc_tx : b_tt G B0 τ H ((A 3)) 3 (.inr (3, [.ref ((A 4)), .int (nI 0), .int ml, .int (nI tn)])) := hc_tx
  have hc_tb : b_tt G B0 τ H ((A 4)) 4 (.inl (G.2.1 1, 60, .inl bt)) := hc_tb
  have hc_tk : b_tt G B0 τ H ((A 5)) 5 (.inl (G.2.1 0, 8, .inl tk9)) := hc_tk
  have hL : LR G B0 τ d0 F M E H S Z := hL
  have hV : SV G B0 τ d0 c0 n ids P0 H L := hV
  have hn8 := hL.2.2.2.1
  have hn6 := hL.2.2.2.2
  have hnb : nb S = nb S := rfl
  have hns : ns S = ns S := rfl
  have hn : n ≤ 6 := hn
  have htn : tn ≤ 60 := htn
  have ht : ∀ j, t j < 128 := ht
  have hse : se = true ∨ n = 0 := hse
  have hZ : pZ Z S := hZ
  have hW : b_WF S := hW
  have hbt : ∀ j, j < tn → bt j = nI (t j) := hbt
  refine lv_aload_n hx hb dX6_done_0 rfl (lv_at hl 0 rfl) ?_
  refine b_xi (cx_X6_30_9 (rest := []) CX hl.1 (m_X6_reason_9 l (da := da) (td := 100) (a := (A 0)) (asv := (A 1)) (atx := (A 3)) (atk := (A 5)) (hs := hs) (b := b) (s_ := s_) (c_ := c_) hc_D hc_X hL hW (by omega) (by omega)) rfl hc_D.at hS rfl ⟨rfl, rfl, Nat.le_of_ble_eq_true rfl, Nat.le_of_ble_eq_true rfl⟩ (Nat.le_of_ble_eq_true rfl) dX6_done_1 ⟨Nat.le_of_ble_eq_true rfl, Nat.le_of_ble_eq_true rfl⟩) hS (fun E9 q9 Hx1 locs hx9 hS he9 => ?_) (fun r H1 locs hp hS => ?_)
  · exact hx9.elim
  obtain ⟨rfl, hE⟩ := hp
  have hc_D := hc_D.ext hE
  have hc_X := hc_X.ext hE
  have hc_sv := hc_sv.ext hE
  have hsa := fun h9 => (hsa h9).ext hE
  have hc_tx := hc_tx.ext hE
  have hc_tb := hc_tb.ext hE
  have hc_tk := hc_tk.ext hE
  have hL := hL.ext hE
  have hV := hV.ext hE
  have hX := hX.tr hE
  have hF := hF.ext hE
  refine lv_if_ne (tgt := 11) hx hb dX6_done_4 (by decide) (fun c_4 => ?_) (fun c_4 => ?_)
  · refine lv_iconst (v := nI 0) hx hb dX6_done_11 rfl ?_
    refine b_xv0 (cx_X6_33 (rest := []) CX hl.1 (m_X1_needState l (x := nI 0) hlt) rfl hS rfl ⟨rfl, rfl, Nat.le_of_ble_eq_true rfl, Nat.le_of_ble_eq_true rfl⟩ (Nat.le_of_ble_eq_true rfl) dX6_done_12 ⟨Nat.le_of_ble_eq_true rfl, Nat.le_of_ble_eq_true rfl⟩) hS (fun E9 q9 Hx2 locs hx9 hS he9 => ?_) (fun hk_12 locs hS => ?_)
    · rw [← hQ]
      exact b_xout htb hlk he9 hS (Nat.le_of_ble_eq_true rfl) (Nat.le_of_ble_eq_true rfl) ⟨c_4, hx9.2.1, hX.tr hx9.2.2⟩
    exact absurd (by decide) hk_12
  · refine lv_iconst (v := nI 1) hx hb dX6_done_7 rfl ?_
    refine lv_goto (tgt := 12) hx hb dX6_done_8 (by decide) ?_
    refine b_xv0 (cx_X6_33 (rest := []) CX hl.1 (m_X1_needState l (x := nI 1) hlt) rfl hS rfl ⟨rfl, rfl, Nat.le_of_ble_eq_true rfl, Nat.le_of_ble_eq_true rfl⟩ (Nat.le_of_ble_eq_true rfl) dX6_done_12 ⟨Nat.le_of_ble_eq_true rfl, Nat.le_of_ble_eq_true rfl⟩) hS (fun E9 q9 Hx3 locs hx9 hS he9 => ?_) (fun hk_12 locs hS => ?_)
    · exact absurd hx9.1 (by decide)
    refine lv_aload_n hx hb dX6_done_15 rfl (lv_at hl 0 rfl) ?_
    refine gf_X6_3_9 CX hc_D.at rfl dX6_done_16 ?_
    have hXR : XR G B0 τ A H1 (S, n, L, tn, t) := ⟨d0, c0, ids, P0, F, M, E, Z, sm, rs, se, ml, hs, bt, tk9, hc_X, hc_sv, hsa, hse, hc_tx, hc_tb, hbt, hc_tk, hL, hZ, hW, hV, hd0, hdc, hn, htn, ht⟩
    refine b_cv (cs_X6_37 (rest := []) CX hl.1 (m_X1_save l  hXR) rfl rfl rfl hc_X.at hS rfl ⟨rfl, rfl, Nat.le_of_ble_eq_true rfl, Nat.le_of_ble_eq_true rfl⟩ (Nat.le_of_ble_eq_true rfl) dX6_done_19 ⟨Nat.le_of_ble_eq_true rfl, Nat.le_of_ble_eq_true rfl⟩) hS (fun H4 locs hp hS => ?_)
    obtain ⟨τ4, hA9, hF9, hXR⟩ := hp
    have hc_D := hc_D.ca hF9 hA9 (show ¬ (100 = 1 ∨ 100 = 2 ∨ 1000 ≤ 100) by omega)
    have hF0 := hF.tr hA hF9 (fun q9 hq9 x9 => by have x8 : τ q9 = 1 ∨ τ q9 = 2 ∨ 1000 ≤ τ q9 := x9; show τ q9 < 10 ∨ 1000 ≤ τ q9; omega)
    have hA := hA.tr hA9 hF.1
    have hF := hF0
    have hXR : XR G B0 τ4 A H4 (S, (p_sn n), (p_L L S n), tn, t) := hXR
    obtain ⟨d04, c04, ids4, P04, F4, M4, E4, Z4, sm4, rs4, se4, ml4, hs4, bt4, tk94, hc_X, hc_sv, hsa, hse, hc_tx, hc_tb, hbt, hc_tk, hL, hZ, hW, hV, hd0, hdc, hn, htn, ht⟩ := hXR
    have hc_X : b_tt G B0 τ4 H4 ((A 0)) 0 (.inr (0, [.ref ((F4 0)), .ref ((A 1)), .ref ((A 3)), .ref ((A 5)), .long hs4])) := hc_X
    have hc_sv : b_tt G B0 τ4 H4 ((A 1)) 1 (.inr (2, [.int sm4, .ref ((if se4 = true then rs4 else G.2.2 0)), .int (nI ((p_sn n)))])) := hc_sv
    have hsa : (se4 = true → b_tt G B0 τ4 H4 rs4 2 (.inl (G.2.1 2, q_refs 10 (fun j => if j < (p_sn n) then some (P04 j) else none)))) := hsa
    have hc_tx : b_tt G B0 τ4 H4 ((A 3)) 3 (.inr (3, [.ref ((A 4)), .int (nI 0), .int ml4, .int (nI tn)])) := hc_tx
    have hc_tb : b_tt G B0 τ4 H4 ((A 4)) 4 (.inl (G.2.1 1, 60, .inl bt4)) := hc_tb
    have hc_tk : b_tt G B0 τ4 H4 ((A 5)) 5 (.inl (G.2.1 0, 8, .inl tk94)) := hc_tk
    have hL : LR G B0 τ4 d04 F4 M4 E4 H4 S Z4 := hL
    have hV : SV G B0 τ4 d04 c04 ((p_sn n)) ids4 P04 H4 ((p_L L S n)) := hV
    have hn8 := hL.2.2.2.1
    have hn6 := hL.2.2.2.2
    have hnb : nb S = nb S := rfl
    have hns : ns S = ns S := rfl
    have hn : (p_sn n) ≤ 6 := hn
    have htn : tn ≤ 60 := htn
    have ht : ∀ j, t j < 128 := ht
    have hse : se4 = true ∨ (p_sn n) = 0 := hse
    have hZ : pZ Z4 S := hZ
    have hW : b_WF S := hW
    have hbt : ∀ j, j < tn → bt4 j = nI (t j) := hbt
    refine lv_aload_n hx hb dX6_done_22 rfl (lv_at hl 0 rfl) ?_
    refine b_ci (cs_X6_40_9 (rest := []) CX hl.1 (m_X12_does l (da := da) (td := 100) (a := (A 0)) (asv := (A 1)) (atx := (A 3)) (atk := (A 5)) (hs := hs4) (b := b) (s_ := s_) (c_ := c_) hc_D hc_X hL hW (by omega) (by omega) (by omega) (by omega)) rfl hc_D.at hS rfl ⟨rfl, rfl, Nat.le_of_ble_eq_true rfl, Nat.le_of_ble_eq_true rfl⟩ (Nat.le_of_ble_eq_true rfl) dX6_done_23 ⟨Nat.le_of_ble_eq_true rfl, Nat.le_of_ble_eq_true rfl⟩) hS (fun r H5 locs hp hS => ?_)
    obtain ⟨rfl, hF9, hL9⟩ := hp
    have hc_D := hc_D.fr hF9 (show ¬ (1000 * d04 ≤ 100 ∧ 100 < 1000 * d04 + 1000) by omega)
    have hc_X := hc_X.fr hF9 (show ¬ (1000 * d04 ≤ 0 ∧ 0 < 1000 * d04 + 1000) by omega)
    have hc_sv := hc_sv.fr hF9 (show ¬ (1000 * d04 ≤ 1 ∧ 1 < 1000 * d04 + 1000) by omega)
    have hsa := fun h9 => (hsa h9).fr hF9 (show ¬ (1000 * d04 ≤ 2 ∧ 2 < 1000 * d04 + 1000) by omega)
    have hc_tx := hc_tx.fr hF9 (show ¬ (1000 * d04 ≤ 3 ∧ 3 < 1000 * d04 + 1000) by omega)
    have hc_tb := hc_tb.fr hF9 (show ¬ (1000 * d04 ≤ 4 ∧ 4 < 1000 * d04 + 1000) by omega)
    have hc_tk := hc_tk.fr hF9 (show ¬ (1000 * d04 ≤ 5 ∧ 5 < 1000 * d04 + 1000) by omega)
    have hV := hV.fr hF9 (fun k9 h1 h2 h3 i9 hi9 => show ¬ (1000 * d04 ≤ (1000 * k9 + i9) ∧ (1000 * k9 + i9) < 1000 * d04 + 1000) by omega)
    have hz9 := hF.1
    have hF0 := hF.tr hA hF9 (fun q9 hq9 x9 => by have x8 : 1000 * d04 ≤ τ q9 ∧ τ q9 < 1000 * d04 + 1000 := x9; show τ q9 < 10 ∨ 1000 ≤ τ q9; omega)
    have hF := hF0
    have hL : LR G B0 τ4 d04 F4 M4 E4 H5 ((s_deliver S b s_ c_)) Z4 := hL9
    rw [← hQ]
    exact vx_ret (b_iret CX hr hlk hS (Nat.le_of_ble_eq_true rfl) (Nat.le_of_ble_eq_true rfl) dX6_done_26 (⟨c_4, rfl, _, hA, hF, ⟨d04, c04, ids4, P04, F4, M4, E4, Z4, sm4, rs4, se4, ml4, hs4, bt4, tk94, hc_X, hc_sv, hsa, hse, hc_tx, hc_tb, hbt, hc_tk, hL, (pZ.of hZ (fun i j => by simp [s_deliver, u3])), (hW1 c_4), hV, hd0, hdc, hn, htn, ht⟩⟩))
theorem cx_X6_30_10 {p : Program} {l : Launch} {e : Env} {R : Room} {s : State} {m : MethodId} {args : Array Value} {below : List Frame} {meth : Method} {c : Code} {H : Heap} {locs : List Loc} {cells slots : Nat} {cc : ByteArray} {pc nL a : Nat} {ls : Array Slot} {rest : List Value} {G : b_G} {B0 : Nat} (CX : b_Cx p s m args c cc nL RX6 G B0) (hls : ls.size = nL) {rm : Room} {mc ms : Nat} {As st0 : List Value} {Qc : Array Value → State → Outcome → State → Prop} {XC : String → Addr → State → State → Prop} (hM : vx_Met l yX6_reason (wsW_ yX6_reason cX6_reason 2 (Option.some Jvm.ClassFile.FieldType.int) [((0 : Nat), (5 : Nat), (6 : Nat), (18 : Nat)), ((0 : Nat), (5 : Nat), (6 : Nat), (20 : Nat)), ((0 : Nat), (5 : Nat), (6 : Nat), (22 : Nat)), ((0 : Nat), (5 : Nat), (12 : Nat), (25 : Nat))]) rm (b_Pc G B0 H (.ref a :: As)) Qc XC mc ms (b_A B0)) (hn : As.length = 0) {fs : List Value} (hP : b_at G a (.inr (10, fs)) H) (hS : va_S (b_A B0) s.heap H locs) (hst : st0 = As.reverse ++ .ref a :: rest) (hr : rm.cells = mc ∧ rm.slots = ms ∧ rm.frames + 1 ≤ R.frames ∧ 8 + (2 + 11) + rm.locals ≤ R.locals) (hw : (rest.map fun v => v.category).sum ≤ 8) (hdg : decode cc pc = .ok (.invokevirtual 30, 3)) (hf : cells + mc ≤ R.cells ∧ slots + ms ≤ R.slots) : vx_Run p l e R s m args below meth c H locs cells slots mc ms (F0 m pc ls st0) rest (Qc (Value.ref a :: As).toArray) XC (b_A B0) := vx_runVX (C := RX13) CX.fix hM (b_cwVC 0 CX.ts q1181 q1182 q1185 q104 q1193 hr.1 hr.2.1 ⟨by decide, by decide, by decide +kernel⟩ ⟨hr.2.2.1, hr.2.2.2⟩) ⟨b_blind G B0 H _, b_recv CX.K (ci := 10) rfl hP, b_pre _ CX.K hS⟩ rfl hn hls hst (lv_room hw) hdg hf
theorem gf_X6_3_10 {p : Program} {l : Launch} {e : Env} {R : Room} {s : State} {m : MethodId} {args : Array Value} {below : List Frame} {meth : Method} {c : Code} {H : Heap} {locs : List Loc} {cells slots : Nat} {Q : State → Prop} {cc : ByteArray} {pc nL a : Nat} {ls : Array Slot} {rest : List Value} {G : b_G} {B0 : Nat} (CX : b_Cx p s m args c cc nL RX6 G B0) {fs : List Value} (hP : b_at G a (.inr (10, fs)) H) {v : Value} (hv : fs[0]? = some v) (hdg : decode cc pc = .ok (.getfield 3, 3)) (kk : W p l e R s m args below meth c H locs cells slots Q (F0 m (pc + 3) ls (v :: rest))) : W p l e R s m args below meth c H locs cells slots Q (F0 m pc ls (.ref a :: rest)) := b_get CX in_X13 rfl 0 (by decide) q1165 (Or.inl rfl) hP hv hdg kk
theorem cs_X6_40_10 {p : Program} {l : Launch} {e : Env} {R : Room} {s : State} {m : MethodId} {args : Array Value} {below : List Frame} {meth : Method} {c : Code} {H : Heap} {locs : List Loc} {cells slots : Nat} {cc : ByteArray} {pc nL a : Nat} {ls : Array Slot} {rest : List Value} {G : b_G} {B0 : Nat} (CX : b_Cx p s m args c cc nL RX6 G B0) (hls : ls.size = nL) {rm : Room} {mc ms : Nat} {As st0 : List Value} {Qc : Array Value → State → Outcome → State → Prop} (hM : Met l yX13_does (ws_ yX13_does cX13_does 1 (Option.some Jvm.ClassFile.FieldType.int)) rm (b_Pc G B0 H (.ref a :: As)) Qc mc ms (b_A B0)) (hn : As.length = 0) {fs : List Value} (hP : b_at G a (.inr (10, fs)) H) (hS : va_S (b_A B0) s.heap H locs) (hst : st0 = As.reverse ++ .ref a :: rest) (hr : rm.cells = mc ∧ rm.slots = ms ∧ rm.frames + 1 ≤ R.frames ∧ 8 + (1 + 11) + rm.locals ≤ R.locals) (hw : (rest.map fun v => v.category).sum ≤ 8) (hdg : decode cc pc = .ok (.invokevirtual 40, 3)) (hf : cells + mc ≤ R.cells ∧ slots + ms ≤ R.slots) : va_Run p l e R s m args below meth c H locs cells slots mc ms (F0 m pc ls st0) rest (Qc (Value.ref a :: As).toArray) (b_A B0) := va_runU CX.fix hM (va_cwA (C := RX13) (owner := RX6) 0 CX.ts (lw_U q1363 q1365 q1373 q1374 q111 q1375) rfl hr.1 hr.2.1 (CX.K.2.1 _ q1364 rfl) ⟨by decide, by decide, by decide +kernel⟩ ⟨hr.2.2.1, hr.2.2.2⟩) ⟨b_blind G B0 H _, b_recv CX.K (ci := 10) rfl hP, b_pre _ CX.K hS⟩ rfl hn hls hst (lv_room hw) hdg hf
set_option maxHeartbeats 2000000 in
set_option maxRecDepth 100000 in
theorem m_X6_done_10 (l : Launch) {G : b_G} {B0 : Nat} {H : Heap} {τ : b_T} {A : Nat → Nat} {S : b_St} {n : Nat} {L : Nat → b_St} {tn : Nat} {t : Nat → Nat} {da : Nat} {b : Nat} {s_ : Nat} {w_ : Int32} (hc_D : b_tt G B0 τ H da 100 (.inr (10, [.ref ((A 0)), .int (nI b), .int (nI s_), .int w_, .ref ((A 0))]))) (hlt : l.stackTraces = false) (hXR : XR G B0 τ A H (S, n, L, tn, t)) (hBb : b < nb S) (hSs_ : s_ < ns S) (hW1 : (a_sell S s_ b w_) = nI 0 → b_WF ((s_sell S s_ b w_))) : vx_Met l yX6_done (ws_ yX6_done cX6_done 1 (Option.some Jvm.ClassFile.FieldType.int)) ({ frames := 9, cells := 56, slots := 473, locals := 192 } : Room) (b_Pc G B0 H [.ref da]) (b_Qi B0 (fun r H1 => (a_sell S s_ b w_) = nI 0 ∧ r = S 2 s_ 0 + w_ * p_dep S b ∧ ∃ τ1 : b_T, b_Ag τ τ1 H ∧ b_Fr τ (fun t => t < 10 ∨ 1000 ≤ t) H H1 ∧ XR G B0 τ1 A H1 ((s_sell S s_ b w_), (p_sn n), (p_L L S n), tn, t))) (b_X B0 (fun E9 q9 H9 => ¬ (a_sell S s_ b w_) = nI 0 ∧ E9 = "java/lang/IllegalStateException" ∧ b_Ext H H9)) 56 473 (b_A B0) := by
  refine b_ofX (by decide) (Nat.le_of_ble_eq_true rfl) ?_
  intro p e s m below meth c CX hr hlk htb hS ls hl
  have CX : b_Cx p s m _ c cX6_done 1 RX6 G B0 := CX
  have hx := CX.hx
  have hb := CX.hb
  have hl : lv_has ls 1 [(0, .ref da)] := hl
  generalize hQ : vx_MQ below (b_Qi B0 (fun r H1 => (a_sell S s_ b w_) = nI 0 ∧ r = S 2 s_ 0 + w_ * p_dep S b ∧ ∃ τ1 : b_T, b_Ag τ τ1 H ∧ b_Fr τ (fun t => t < 10 ∨ 1000 ≤ t) H H1 ∧ XR G B0 τ1 A H1 ((s_sell S s_ b w_), (p_sn n), (p_L L S n), tn, t))) (b_X B0 (fun E9 q9 H9 => ¬ (a_sell S s_ b w_) = nI 0 ∧ E9 = "java/lang/IllegalStateException" ∧ b_Ext H H9)) ([.ref da] : List Value).toArray s 56 473 (b_A B0) = Q
  have hF : b_Fr τ (fun t => t < 10 ∨ 1000 ≤ t) H H := b_Fr.rf
  have hA : b_Ag τ τ H := b_Ag.rf
  have hX : b_Ext H H := b_Ext.rf
  obtain ⟨d0, c0, ids, P0, F, M, E, Z, sm, rs, se, ml, hs, bt, tk9, hc_X, hc_sv, hsa, hse, hc_tx, hc_tb, hbt, hc_tk, hL, hZ, hW, hV, hd0, hdc, hn, htn, ht⟩ := hXR
  have hc_X : b_tt G B0 τ H ((A 0)) 0 (.inr (0, [.ref ((F 0)), .ref ((A 1)), .ref ((A 3)), .ref ((A 5)), .long hs])) := hc_X
  have hc_sv : b_tt G B0 τ H ((A 1)) 1 (.inr (2, [.int sm, .ref ((if se = true then rs else G.2.2 0)), .int (nI n)])) := hc_sv
  have hsa : (se = true → b_tt G B0 τ H rs 2 (.inl (G.2.1 2, q_refs 10 (fun j => if j < n then some (P0 j) else none)))) := hsa
  have hc_tx : b_tt G B0 τ H ((A 3)) 3 (.inr (3, [.ref ((A 4)), .int (nI 0), .int ml, .int (nI tn)])) := hc_tx
  have hc_tb : b_tt G B0 τ H ((A 4)) 4 (.inl (G.2.1 1, 60, .inl bt)) := hc_tb
  have hc_tk : b_tt G B0 τ H ((A 5)) 5 (.inl (G.2.1 0, 8, .inl tk9)) := hc_tk
  have hL : LR G B0 τ d0 F M E H S Z := hL
  have hV : SV G B0 τ d0 c0 n ids P0 H L := hV
  have hn8 := hL.2.2.2.1
  have hn6 := hL.2.2.2.2
  have hnb : nb S = nb S := rfl
  have hns : ns S = ns S := rfl
  have hn : n ≤ 6 := hn
  have htn : tn ≤ 60 := htn
  have ht : ∀ j, t j < 128 := ht
  have hse : se = true ∨ n = 0 := hse
  have hZ : pZ Z S := hZ
  have hW : b_WF S := hW
  have hbt : ∀ j, j < tn → bt j = nI (t j) := hbt
  refine lv_aload_n hx hb dX6_done_0 rfl (lv_at hl 0 rfl) ?_
  refine b_xi (cx_X6_30_10 (rest := []) CX hl.1 (m_X6_reason_10 l (da := da) (td := 100) (a := (A 0)) (asv := (A 1)) (atx := (A 3)) (atk := (A 5)) (hs := hs) (b := b) (s_ := s_) (w_ := w_) hc_D hc_X hL hW (by omega) (by omega)) rfl hc_D.at hS rfl ⟨rfl, rfl, Nat.le_of_ble_eq_true rfl, Nat.le_of_ble_eq_true rfl⟩ (Nat.le_of_ble_eq_true rfl) dX6_done_1 ⟨Nat.le_of_ble_eq_true rfl, Nat.le_of_ble_eq_true rfl⟩) hS (fun E9 q9 Hx1 locs hx9 hS he9 => ?_) (fun r H1 locs hp hS => ?_)
  · exact hx9.elim
  obtain ⟨rfl, hE⟩ := hp
  have hc_D := hc_D.ext hE
  have hc_X := hc_X.ext hE
  have hc_sv := hc_sv.ext hE
  have hsa := fun h9 => (hsa h9).ext hE
  have hc_tx := hc_tx.ext hE
  have hc_tb := hc_tb.ext hE
  have hc_tk := hc_tk.ext hE
  have hL := hL.ext hE
  have hV := hV.ext hE
  have hX := hX.tr hE
  have hF := hF.ext hE
  refine lv_if_ne (tgt := 11) hx hb dX6_done_4 (by decide) (fun c_4 => ?_) (fun c_4 => ?_)
  · refine lv_iconst (v := nI 0) hx hb dX6_done_11 rfl ?_
    refine b_xv0 (cx_X6_33 (rest := []) CX hl.1 (m_X1_needState l (x := nI 0) hlt) rfl hS rfl ⟨rfl, rfl, Nat.le_of_ble_eq_true rfl, Nat.le_of_ble_eq_true rfl⟩ (Nat.le_of_ble_eq_true rfl) dX6_done_12 ⟨Nat.le_of_ble_eq_true rfl, Nat.le_of_ble_eq_true rfl⟩) hS (fun E9 q9 Hx2 locs hx9 hS he9 => ?_) (fun hk_12 locs hS => ?_)
    · rw [← hQ]
      exact b_xout htb hlk he9 hS (Nat.le_of_ble_eq_true rfl) (Nat.le_of_ble_eq_true rfl) ⟨c_4, hx9.2.1, hX.tr hx9.2.2⟩
    exact absurd (by decide) hk_12
  · refine lv_iconst (v := nI 1) hx hb dX6_done_7 rfl ?_
    refine lv_goto (tgt := 12) hx hb dX6_done_8 (by decide) ?_
    refine b_xv0 (cx_X6_33 (rest := []) CX hl.1 (m_X1_needState l (x := nI 1) hlt) rfl hS rfl ⟨rfl, rfl, Nat.le_of_ble_eq_true rfl, Nat.le_of_ble_eq_true rfl⟩ (Nat.le_of_ble_eq_true rfl) dX6_done_12 ⟨Nat.le_of_ble_eq_true rfl, Nat.le_of_ble_eq_true rfl⟩) hS (fun E9 q9 Hx3 locs hx9 hS he9 => ?_) (fun hk_12 locs hS => ?_)
    · exact absurd hx9.1 (by decide)
    refine lv_aload_n hx hb dX6_done_15 rfl (lv_at hl 0 rfl) ?_
    refine gf_X6_3_10 CX hc_D.at rfl dX6_done_16 ?_
    have hXR : XR G B0 τ A H1 (S, n, L, tn, t) := ⟨d0, c0, ids, P0, F, M, E, Z, sm, rs, se, ml, hs, bt, tk9, hc_X, hc_sv, hsa, hse, hc_tx, hc_tb, hbt, hc_tk, hL, hZ, hW, hV, hd0, hdc, hn, htn, ht⟩
    refine b_cv (cs_X6_37 (rest := []) CX hl.1 (m_X1_save l  hXR) rfl rfl rfl hc_X.at hS rfl ⟨rfl, rfl, Nat.le_of_ble_eq_true rfl, Nat.le_of_ble_eq_true rfl⟩ (Nat.le_of_ble_eq_true rfl) dX6_done_19 ⟨Nat.le_of_ble_eq_true rfl, Nat.le_of_ble_eq_true rfl⟩) hS (fun H4 locs hp hS => ?_)
    obtain ⟨τ4, hA9, hF9, hXR⟩ := hp
    have hc_D := hc_D.ca hF9 hA9 (show ¬ (100 = 1 ∨ 100 = 2 ∨ 1000 ≤ 100) by omega)
    have hF0 := hF.tr hA hF9 (fun q9 hq9 x9 => by have x8 : τ q9 = 1 ∨ τ q9 = 2 ∨ 1000 ≤ τ q9 := x9; show τ q9 < 10 ∨ 1000 ≤ τ q9; omega)
    have hA := hA.tr hA9 hF.1
    have hF := hF0
    have hXR : XR G B0 τ4 A H4 (S, (p_sn n), (p_L L S n), tn, t) := hXR
    obtain ⟨d04, c04, ids4, P04, F4, M4, E4, Z4, sm4, rs4, se4, ml4, hs4, bt4, tk94, hc_X, hc_sv, hsa, hse, hc_tx, hc_tb, hbt, hc_tk, hL, hZ, hW, hV, hd0, hdc, hn, htn, ht⟩ := hXR
    have hc_X : b_tt G B0 τ4 H4 ((A 0)) 0 (.inr (0, [.ref ((F4 0)), .ref ((A 1)), .ref ((A 3)), .ref ((A 5)), .long hs4])) := hc_X
    have hc_sv : b_tt G B0 τ4 H4 ((A 1)) 1 (.inr (2, [.int sm4, .ref ((if se4 = true then rs4 else G.2.2 0)), .int (nI ((p_sn n)))])) := hc_sv
    have hsa : (se4 = true → b_tt G B0 τ4 H4 rs4 2 (.inl (G.2.1 2, q_refs 10 (fun j => if j < (p_sn n) then some (P04 j) else none)))) := hsa
    have hc_tx : b_tt G B0 τ4 H4 ((A 3)) 3 (.inr (3, [.ref ((A 4)), .int (nI 0), .int ml4, .int (nI tn)])) := hc_tx
    have hc_tb : b_tt G B0 τ4 H4 ((A 4)) 4 (.inl (G.2.1 1, 60, .inl bt4)) := hc_tb
    have hc_tk : b_tt G B0 τ4 H4 ((A 5)) 5 (.inl (G.2.1 0, 8, .inl tk94)) := hc_tk
    have hL : LR G B0 τ4 d04 F4 M4 E4 H4 S Z4 := hL
    have hV : SV G B0 τ4 d04 c04 ((p_sn n)) ids4 P04 H4 ((p_L L S n)) := hV
    have hn8 := hL.2.2.2.1
    have hn6 := hL.2.2.2.2
    have hnb : nb S = nb S := rfl
    have hns : ns S = ns S := rfl
    have hn : (p_sn n) ≤ 6 := hn
    have htn : tn ≤ 60 := htn
    have ht : ∀ j, t j < 128 := ht
    have hse : se4 = true ∨ (p_sn n) = 0 := hse
    have hZ : pZ Z4 S := hZ
    have hW : b_WF S := hW
    have hbt : ∀ j, j < tn → bt4 j = nI (t j) := hbt
    refine lv_aload_n hx hb dX6_done_22 rfl (lv_at hl 0 rfl) ?_
    refine b_ci (cs_X6_40_10 (rest := []) CX hl.1 (m_X13_does l (da := da) (td := 100) (a := (A 0)) (asv := (A 1)) (atx := (A 3)) (atk := (A 5)) (hs := hs4) (b := b) (s_ := s_) (w_ := w_) hc_D hc_X hL hW (by omega) (by omega) (by omega) (by omega)) rfl hc_D.at hS rfl ⟨rfl, rfl, Nat.le_of_ble_eq_true rfl, Nat.le_of_ble_eq_true rfl⟩ (Nat.le_of_ble_eq_true rfl) dX6_done_23 ⟨Nat.le_of_ble_eq_true rfl, Nat.le_of_ble_eq_true rfl⟩) hS (fun r H5 locs hp hS => ?_)
    obtain ⟨rfl, hF9, hL9⟩ := hp
    have hc_D := hc_D.fr hF9 (show ¬ (1000 * d04 ≤ 100 ∧ 100 < 1000 * d04 + 1000) by omega)
    have hc_X := hc_X.fr hF9 (show ¬ (1000 * d04 ≤ 0 ∧ 0 < 1000 * d04 + 1000) by omega)
    have hc_sv := hc_sv.fr hF9 (show ¬ (1000 * d04 ≤ 1 ∧ 1 < 1000 * d04 + 1000) by omega)
    have hsa := fun h9 => (hsa h9).fr hF9 (show ¬ (1000 * d04 ≤ 2 ∧ 2 < 1000 * d04 + 1000) by omega)
    have hc_tx := hc_tx.fr hF9 (show ¬ (1000 * d04 ≤ 3 ∧ 3 < 1000 * d04 + 1000) by omega)
    have hc_tb := hc_tb.fr hF9 (show ¬ (1000 * d04 ≤ 4 ∧ 4 < 1000 * d04 + 1000) by omega)
    have hc_tk := hc_tk.fr hF9 (show ¬ (1000 * d04 ≤ 5 ∧ 5 < 1000 * d04 + 1000) by omega)
    have hV := hV.fr hF9 (fun k9 h1 h2 h3 i9 hi9 => show ¬ (1000 * d04 ≤ (1000 * k9 + i9) ∧ (1000 * k9 + i9) < 1000 * d04 + 1000) by omega)
    have hz9 := hF.1
    have hF0 := hF.tr hA hF9 (fun q9 hq9 x9 => by have x8 : 1000 * d04 ≤ τ q9 ∧ τ q9 < 1000 * d04 + 1000 := x9; show τ q9 < 10 ∨ 1000 ≤ τ q9; omega)
    have hF := hF0
    have hL : LR G B0 τ4 d04 F4 M4 E4 H5 ((s_sell S s_ b w_)) Z4 := hL9
    rw [← hQ]
    exact vx_ret (b_iret CX hr hlk hS (Nat.le_of_ble_eq_true rfl) (Nat.le_of_ble_eq_true rfl) dX6_done_26 (⟨c_4, rfl, _, hA, hF, ⟨d04, c04, ids4, P04, F4, M4, E4, Z4, sm4, rs4, se4, ml4, hs4, bt4, tk94, hc_X, hc_sv, hsa, hse, hc_tx, hc_tb, hbt, hc_tk, hL, (pZ.of hZ (fun i j => by simp [s_sell, u3])), (hW1 c_4), hV, hd0, hdc, hn, htn, ht⟩⟩))
theorem cx_X6_30_11 {p : Program} {l : Launch} {e : Env} {R : Room} {s : State} {m : MethodId} {args : Array Value} {below : List Frame} {meth : Method} {c : Code} {H : Heap} {locs : List Loc} {cells slots : Nat} {cc : ByteArray} {pc nL a : Nat} {ls : Array Slot} {rest : List Value} {G : b_G} {B0 : Nat} (CX : b_Cx p s m args c cc nL RX6 G B0) (hls : ls.size = nL) {rm : Room} {mc ms : Nat} {As st0 : List Value} {Qc : Array Value → State → Outcome → State → Prop} {XC : String → Addr → State → State → Prop} (hM : vx_Met l yX6_reason (wsW_ yX6_reason cX6_reason 2 (Option.some Jvm.ClassFile.FieldType.int) [((0 : Nat), (5 : Nat), (6 : Nat), (18 : Nat)), ((0 : Nat), (5 : Nat), (6 : Nat), (20 : Nat)), ((0 : Nat), (5 : Nat), (6 : Nat), (22 : Nat)), ((0 : Nat), (5 : Nat), (12 : Nat), (25 : Nat))]) rm (b_Pc G B0 H (.ref a :: As)) Qc XC mc ms (b_A B0)) (hn : As.length = 0) {fs : List Value} (hP : b_at G a (.inr (11, fs)) H) (hS : va_S (b_A B0) s.heap H locs) (hst : st0 = As.reverse ++ .ref a :: rest) (hr : rm.cells = mc ∧ rm.slots = ms ∧ rm.frames + 1 ≤ R.frames ∧ 8 + (2 + 11) + rm.locals ≤ R.locals) (hw : (rest.map fun v => v.category).sum ≤ 8) (hdg : decode cc pc = .ok (.invokevirtual 30, 3)) (hf : cells + mc ≤ R.cells ∧ slots + ms ≤ R.slots) : vx_Run p l e R s m args below meth c H locs cells slots mc ms (F0 m pc ls st0) rest (Qc (Value.ref a :: As).toArray) XC (b_A B0) := vx_runVX (C := RX14) CX.fix hM (b_cwVC 0 CX.ts q1181 q1182 q1186 q104 q1193 hr.1 hr.2.1 ⟨by decide, by decide, by decide +kernel⟩ ⟨hr.2.2.1, hr.2.2.2⟩) ⟨b_blind G B0 H _, b_recv CX.K (ci := 11) rfl hP, b_pre _ CX.K hS⟩ rfl hn hls hst (lv_room hw) hdg hf
theorem gf_X6_3_11 {p : Program} {l : Launch} {e : Env} {R : Room} {s : State} {m : MethodId} {args : Array Value} {below : List Frame} {meth : Method} {c : Code} {H : Heap} {locs : List Loc} {cells slots : Nat} {Q : State → Prop} {cc : ByteArray} {pc nL a : Nat} {ls : Array Slot} {rest : List Value} {G : b_G} {B0 : Nat} (CX : b_Cx p s m args c cc nL RX6 G B0) {fs : List Value} (hP : b_at G a (.inr (11, fs)) H) {v : Value} (hv : fs[0]? = some v) (hdg : decode cc pc = .ok (.getfield 3, 3)) (kk : W p l e R s m args below meth c H locs cells slots Q (F0 m (pc + 3) ls (v :: rest))) : W p l e R s m args below meth c H locs cells slots Q (F0 m pc ls (.ref a :: rest)) := b_get CX in_X14 rfl 0 (by decide) q1165 (Or.inl rfl) hP hv hdg kk
theorem cs_X6_40_11 {p : Program} {l : Launch} {e : Env} {R : Room} {s : State} {m : MethodId} {args : Array Value} {below : List Frame} {meth : Method} {c : Code} {H : Heap} {locs : List Loc} {cells slots : Nat} {cc : ByteArray} {pc nL a : Nat} {ls : Array Slot} {rest : List Value} {G : b_G} {B0 : Nat} (CX : b_Cx p s m args c cc nL RX6 G B0) (hls : ls.size = nL) {rm : Room} {mc ms : Nat} {As st0 : List Value} {Qc : Array Value → State → Outcome → State → Prop} (hM : Met l yX14_does (ws_ yX14_does cX14_does 1 (Option.some Jvm.ClassFile.FieldType.int)) rm (b_Pc G B0 H (.ref a :: As)) Qc mc ms (b_A B0)) (hn : As.length = 0) {fs : List Value} (hP : b_at G a (.inr (11, fs)) H) (hS : va_S (b_A B0) s.heap H locs) (hst : st0 = As.reverse ++ .ref a :: rest) (hr : rm.cells = mc ∧ rm.slots = ms ∧ rm.frames + 1 ≤ R.frames ∧ 8 + (1 + 11) + rm.locals ≤ R.locals) (hw : (rest.map fun v => v.category).sum ≤ 8) (hdg : decode cc pc = .ok (.invokevirtual 40, 3)) (hf : cells + mc ≤ R.cells ∧ slots + ms ≤ R.slots) : va_Run p l e R s m args below meth c H locs cells slots mc ms (F0 m pc ls st0) rest (Qc (Value.ref a :: As).toArray) (b_A B0) := va_runU CX.fix hM (va_cwA (C := RX14) (owner := RX6) 0 CX.ts (lw_U q1363 q1365 q1380 q1381 q112 q1382) rfl hr.1 hr.2.1 (CX.K.2.1 _ q1364 rfl) ⟨by decide, by decide, by decide +kernel⟩ ⟨hr.2.2.1, hr.2.2.2⟩) ⟨b_blind G B0 H _, b_recv CX.K (ci := 11) rfl hP, b_pre _ CX.K hS⟩ rfl hn hls hst (lv_room hw) hdg hf
set_option maxHeartbeats 2000000 in
set_option maxRecDepth 100000 in
theorem m_X6_done_11 (l : Launch) {G : b_G} {B0 : Nat} {H : Heap} {τ : b_T} {A : Nat → Nat} {S : b_St} {n : Nat} {L : Nat → b_St} {tn : Nat} {t : Nat → Nat} {da : Nat} {b : Nat} {s_ : Nat} {w_ : Int32} (hc_D : b_tt G B0 τ H da 100 (.inr (11, [.ref ((A 0)), .int (nI b), .int (nI s_), .int w_, .ref ((A 0))]))) (hlt : l.stackTraces = false) (hXR : XR G B0 τ A H (S, n, L, tn, t)) (hBb : b < nb S) (hSs_ : s_ < ns S) (hW1 : (a_take S s_ b w_) = nI 0 → b_WF ((s_take S s_ b w_))) : vx_Met l yX6_done (ws_ yX6_done cX6_done 1 (Option.some Jvm.ClassFile.FieldType.int)) ({ frames := 9, cells := 57, slots := 479, locals := 192 } : Room) (b_Pc G B0 H [.ref da]) (b_Qi B0 (fun r H1 => (a_take S s_ b w_) = nI 0 ∧ r = S 2 s_ 0 - w_ * p_dep S b ∧ ∃ τ1 : b_T, b_Ag τ τ1 H ∧ b_Fr τ (fun t => t < 10 ∨ 1000 ≤ t) H H1 ∧ XR G B0 τ1 A H1 ((s_take S s_ b w_), (p_sn n), (p_L L S n), tn, t))) (b_X B0 (fun E9 q9 H9 => ¬ (a_take S s_ b w_) = nI 0 ∧ E9 = "java/lang/IllegalStateException" ∧ b_Ext H H9)) 57 479 (b_A B0) := by
  refine b_ofX (by decide) (Nat.le_of_ble_eq_true rfl) ?_
  intro p e s m below meth c CX hr hlk htb hS ls hl
  have CX : b_Cx p s m _ c cX6_done 1 RX6 G B0 := CX
  have hx := CX.hx
  have hb := CX.hb
  have hl : lv_has ls 1 [(0, .ref da)] := hl
  generalize hQ : vx_MQ below (b_Qi B0 (fun r H1 => (a_take S s_ b w_) = nI 0 ∧ r = S 2 s_ 0 - w_ * p_dep S b ∧ ∃ τ1 : b_T, b_Ag τ τ1 H ∧ b_Fr τ (fun t => t < 10 ∨ 1000 ≤ t) H H1 ∧ XR G B0 τ1 A H1 ((s_take S s_ b w_), (p_sn n), (p_L L S n), tn, t))) (b_X B0 (fun E9 q9 H9 => ¬ (a_take S s_ b w_) = nI 0 ∧ E9 = "java/lang/IllegalStateException" ∧ b_Ext H H9)) ([.ref da] : List Value).toArray s 57 479 (b_A B0) = Q
  have hF : b_Fr τ (fun t => t < 10 ∨ 1000 ≤ t) H H := b_Fr.rf
  have hA : b_Ag τ τ H := b_Ag.rf
  have hX : b_Ext H H := b_Ext.rf
  obtain ⟨d0, c0, ids, P0, F, M, E, Z, sm, rs, se, ml, hs, bt, tk9, hc_X, hc_sv, hsa, hse, hc_tx, hc_tb, hbt, hc_tk, hL, hZ, hW, hV, hd0, hdc, hn, htn, ht⟩ := hXR
  have hc_X : b_tt G B0 τ H ((A 0)) 0 (.inr (0, [.ref ((F 0)), .ref ((A 1)), .ref ((A 3)), .ref ((A 5)), .long hs])) := hc_X
  have hc_sv : b_tt G B0 τ H ((A 1)) 1 (.inr (2, [.int sm, .ref ((if se = true then rs else G.2.2 0)), .int (nI n)])) := hc_sv
  have hsa : (se = true → b_tt G B0 τ H rs 2 (.inl (G.2.1 2, q_refs 10 (fun j => if j < n then some (P0 j) else none)))) := hsa
  have hc_tx : b_tt G B0 τ H ((A 3)) 3 (.inr (3, [.ref ((A 4)), .int (nI 0), .int ml, .int (nI tn)])) := hc_tx
  have hc_tb : b_tt G B0 τ H ((A 4)) 4 (.inl (G.2.1 1, 60, .inl bt)) := hc_tb
  have hc_tk : b_tt G B0 τ H ((A 5)) 5 (.inl (G.2.1 0, 8, .inl tk9)) := hc_tk
  have hL : LR G B0 τ d0 F M E H S Z := hL
  have hV : SV G B0 τ d0 c0 n ids P0 H L := hV
  have hn8 := hL.2.2.2.1
  have hn6 := hL.2.2.2.2
  have hnb : nb S = nb S := rfl
  have hns : ns S = ns S := rfl
  have hn : n ≤ 6 := hn
  have htn : tn ≤ 60 := htn
  have ht : ∀ j, t j < 128 := ht
  have hse : se = true ∨ n = 0 := hse
  have hZ : pZ Z S := hZ
  have hW : b_WF S := hW
  have hbt : ∀ j, j < tn → bt j = nI (t j) := hbt
  refine lv_aload_n hx hb dX6_done_0 rfl (lv_at hl 0 rfl) ?_
  refine b_xi (cx_X6_30_11 (rest := []) CX hl.1 (m_X6_reason_11 l (da := da) (td := 100) (a := (A 0)) (asv := (A 1)) (atx := (A 3)) (atk := (A 5)) (hs := hs) (b := b) (s_ := s_) (w_ := w_) hc_D hc_X hL hW (by omega) (by omega)) rfl hc_D.at hS rfl ⟨rfl, rfl, Nat.le_of_ble_eq_true rfl, Nat.le_of_ble_eq_true rfl⟩ (Nat.le_of_ble_eq_true rfl) dX6_done_1 ⟨Nat.le_of_ble_eq_true rfl, Nat.le_of_ble_eq_true rfl⟩) hS (fun E9 q9 Hx1 locs hx9 hS he9 => ?_) (fun r H1 locs hp hS => ?_)
  · exact hx9.elim
  obtain ⟨rfl, hE⟩ := hp
  have hc_D := hc_D.ext hE
  have hc_X := hc_X.ext hE
  have hc_sv := hc_sv.ext hE
  have hsa := fun h9 => (hsa h9).ext hE
  have hc_tx := hc_tx.ext hE
  have hc_tb := hc_tb.ext hE
  have hc_tk := hc_tk.ext hE
  have hL := hL.ext hE
  have hV := hV.ext hE
  have hX := hX.tr hE
  have hF := hF.ext hE
  refine lv_if_ne (tgt := 11) hx hb dX6_done_4 (by decide) (fun c_4 => ?_) (fun c_4 => ?_)
  · refine lv_iconst (v := nI 0) hx hb dX6_done_11 rfl ?_
    refine b_xv0 (cx_X6_33 (rest := []) CX hl.1 (m_X1_needState l (x := nI 0) hlt) rfl hS rfl ⟨rfl, rfl, Nat.le_of_ble_eq_true rfl, Nat.le_of_ble_eq_true rfl⟩ (Nat.le_of_ble_eq_true rfl) dX6_done_12 ⟨Nat.le_of_ble_eq_true rfl, Nat.le_of_ble_eq_true rfl⟩) hS (fun E9 q9 Hx2 locs hx9 hS he9 => ?_) (fun hk_12 locs hS => ?_)
    · rw [← hQ]
      exact b_xout htb hlk he9 hS (Nat.le_of_ble_eq_true rfl) (Nat.le_of_ble_eq_true rfl) ⟨c_4, hx9.2.1, hX.tr hx9.2.2⟩
    exact absurd (by decide) hk_12
  · refine lv_iconst (v := nI 1) hx hb dX6_done_7 rfl ?_
    refine lv_goto (tgt := 12) hx hb dX6_done_8 (by decide) ?_
    refine b_xv0 (cx_X6_33 (rest := []) CX hl.1 (m_X1_needState l (x := nI 1) hlt) rfl hS rfl ⟨rfl, rfl, Nat.le_of_ble_eq_true rfl, Nat.le_of_ble_eq_true rfl⟩ (Nat.le_of_ble_eq_true rfl) dX6_done_12 ⟨Nat.le_of_ble_eq_true rfl, Nat.le_of_ble_eq_true rfl⟩) hS (fun E9 q9 Hx3 locs hx9 hS he9 => ?_) (fun hk_12 locs hS => ?_)
    · exact absurd hx9.1 (by decide)
    refine lv_aload_n hx hb dX6_done_15 rfl (lv_at hl 0 rfl) ?_
    refine gf_X6_3_11 CX hc_D.at rfl dX6_done_16 ?_
    have hXR : XR G B0 τ A H1 (S, n, L, tn, t) := ⟨d0, c0, ids, P0, F, M, E, Z, sm, rs, se, ml, hs, bt, tk9, hc_X, hc_sv, hsa, hse, hc_tx, hc_tb, hbt, hc_tk, hL, hZ, hW, hV, hd0, hdc, hn, htn, ht⟩
    refine b_cv (cs_X6_37 (rest := []) CX hl.1 (m_X1_save l  hXR) rfl rfl rfl hc_X.at hS rfl ⟨rfl, rfl, Nat.le_of_ble_eq_true rfl, Nat.le_of_ble_eq_true rfl⟩ (Nat.le_of_ble_eq_true rfl) dX6_done_19 ⟨Nat.le_of_ble_eq_true rfl, Nat.le_of_ble_eq_true rfl⟩) hS (fun H4 locs hp hS => ?_)
    obtain ⟨τ4, hA9, hF9, hXR⟩ := hp
    have hc_D := hc_D.ca hF9 hA9 (show ¬ (100 = 1 ∨ 100 = 2 ∨ 1000 ≤ 100) by omega)
    have hF0 := hF.tr hA hF9 (fun q9 hq9 x9 => by have x8 : τ q9 = 1 ∨ τ q9 = 2 ∨ 1000 ≤ τ q9 := x9; show τ q9 < 10 ∨ 1000 ≤ τ q9; omega)
    have hA := hA.tr hA9 hF.1
    have hF := hF0
    have hXR : XR G B0 τ4 A H4 (S, (p_sn n), (p_L L S n), tn, t) := hXR
    obtain ⟨d04, c04, ids4, P04, F4, M4, E4, Z4, sm4, rs4, se4, ml4, hs4, bt4, tk94, hc_X, hc_sv, hsa, hse, hc_tx, hc_tb, hbt, hc_tk, hL, hZ, hW, hV, hd0, hdc, hn, htn, ht⟩ := hXR
    have hc_X : b_tt G B0 τ4 H4 ((A 0)) 0 (.inr (0, [.ref ((F4 0)), .ref ((A 1)), .ref ((A 3)), .ref ((A 5)), .long hs4])) := hc_X
    have hc_sv : b_tt G B0 τ4 H4 ((A 1)) 1 (.inr (2, [.int sm4, .ref ((if se4 = true then rs4 else G.2.2 0)), .int (nI ((p_sn n)))])) := hc_sv
    have hsa : (se4 = true → b_tt G B0 τ4 H4 rs4 2 (.inl (G.2.1 2, q_refs 10 (fun j => if j < (p_sn n) then some (P04 j) else none)))) := hsa
    have hc_tx : b_tt G B0 τ4 H4 ((A 3)) 3 (.inr (3, [.ref ((A 4)), .int (nI 0), .int ml4, .int (nI tn)])) := hc_tx
    have hc_tb : b_tt G B0 τ4 H4 ((A 4)) 4 (.inl (G.2.1 1, 60, .inl bt4)) := hc_tb
    have hc_tk : b_tt G B0 τ4 H4 ((A 5)) 5 (.inl (G.2.1 0, 8, .inl tk94)) := hc_tk
    have hL : LR G B0 τ4 d04 F4 M4 E4 H4 S Z4 := hL
    have hV : SV G B0 τ4 d04 c04 ((p_sn n)) ids4 P04 H4 ((p_L L S n)) := hV
    have hn8 := hL.2.2.2.1
    have hn6 := hL.2.2.2.2
    have hnb : nb S = nb S := rfl
    have hns : ns S = ns S := rfl
    have hn : (p_sn n) ≤ 6 := hn
    have htn : tn ≤ 60 := htn
    have ht : ∀ j, t j < 128 := ht
    have hse : se4 = true ∨ (p_sn n) = 0 := hse
    have hZ : pZ Z4 S := hZ
    have hW : b_WF S := hW
    have hbt : ∀ j, j < tn → bt4 j = nI (t j) := hbt
    refine lv_aload_n hx hb dX6_done_22 rfl (lv_at hl 0 rfl) ?_
    refine b_ci (cs_X6_40_11 (rest := []) CX hl.1 (m_X14_does l (da := da) (td := 100) (a := (A 0)) (asv := (A 1)) (atx := (A 3)) (atk := (A 5)) (hs := hs4) (b := b) (s_ := s_) (w_ := w_) hc_D hc_X hL hW (by omega) (by omega) (by omega) (by omega)) rfl hc_D.at hS rfl ⟨rfl, rfl, Nat.le_of_ble_eq_true rfl, Nat.le_of_ble_eq_true rfl⟩ (Nat.le_of_ble_eq_true rfl) dX6_done_23 ⟨Nat.le_of_ble_eq_true rfl, Nat.le_of_ble_eq_true rfl⟩) hS (fun r H5 locs hp hS => ?_)
    obtain ⟨rfl, hF9, hL9⟩ := hp
    have hc_D := hc_D.fr hF9 (show ¬ (1000 * d04 ≤ 100 ∧ 100 < 1000 * d04 + 1000) by omega)
    have hc_X := hc_X.fr hF9 (show ¬ (1000 * d04 ≤ 0 ∧ 0 < 1000 * d04 + 1000) by omega)
    have hc_sv := hc_sv.fr hF9 (show ¬ (1000 * d04 ≤ 1 ∧ 1 < 1000 * d04 + 1000) by omega)
    have hsa := fun h9 => (hsa h9).fr hF9 (show ¬ (1000 * d04 ≤ 2 ∧ 2 < 1000 * d04 + 1000) by omega)
    have hc_tx := hc_tx.fr hF9 (show ¬ (1000 * d04 ≤ 3 ∧ 3 < 1000 * d04 + 1000) by omega)
    have hc_tb := hc_tb.fr hF9 (show ¬ (1000 * d04 ≤ 4 ∧ 4 < 1000 * d04 + 1000) by omega)
    have hc_tk := hc_tk.fr hF9 (show ¬ (1000 * d04 ≤ 5 ∧ 5 < 1000 * d04 + 1000) by omega)
    have hV := hV.fr hF9 (fun k9 h1 h2 h3 i9 hi9 => show ¬ (1000 * d04 ≤ (1000 * k9 + i9) ∧ (1000 * k9 + i9) < 1000 * d04 + 1000) by omega)
    have hz9 := hF.1
    have hF0 := hF.tr hA hF9 (fun q9 hq9 x9 => by have x8 : 1000 * d04 ≤ τ q9 ∧ τ q9 < 1000 * d04 + 1000 := x9; show τ q9 < 10 ∨ 1000 ≤ τ q9; omega)
    have hF := hF0
    have hL : LR G B0 τ4 d04 F4 M4 E4 H5 ((s_take S s_ b w_)) Z4 := hL9
    rw [← hQ]
    exact vx_ret (b_iret CX hr hlk hS (Nat.le_of_ble_eq_true rfl) (Nat.le_of_ble_eq_true rfl) dX6_done_26 (⟨c_4, rfl, _, hA, hF, ⟨d04, c04, ids4, P04, F4, M4, E4, Z4, sm4, rs4, se4, ml4, hs4, bt4, tk94, hc_X, hc_sv, hsa, hse, hc_tx, hc_tb, hbt, hc_tk, hL, (pZ.of hZ (fun i j => by simp [s_take, u3])), (hW1 c_4), hV, hd0, hdc, hn, htn, ht⟩⟩))
theorem cx_X6_30_12 {p : Program} {l : Launch} {e : Env} {R : Room} {s : State} {m : MethodId} {args : Array Value} {below : List Frame} {meth : Method} {c : Code} {H : Heap} {locs : List Loc} {cells slots : Nat} {cc : ByteArray} {pc nL a : Nat} {ls : Array Slot} {rest : List Value} {G : b_G} {B0 : Nat} (CX : b_Cx p s m args c cc nL RX6 G B0) (hls : ls.size = nL) {rm : Room} {mc ms : Nat} {As st0 : List Value} {Qc : Array Value → State → Outcome → State → Prop} {XC : String → Addr → State → State → Prop} (hM : vx_Met l yX6_reason (wsW_ yX6_reason cX6_reason 2 (Option.some Jvm.ClassFile.FieldType.int) [((0 : Nat), (5 : Nat), (6 : Nat), (18 : Nat)), ((0 : Nat), (5 : Nat), (6 : Nat), (20 : Nat)), ((0 : Nat), (5 : Nat), (6 : Nat), (22 : Nat)), ((0 : Nat), (5 : Nat), (12 : Nat), (25 : Nat))]) rm (b_Pc G B0 H (.ref a :: As)) Qc XC mc ms (b_A B0)) (hn : As.length = 0) {fs : List Value} (hP : b_at G a (.inr (12, fs)) H) (hS : va_S (b_A B0) s.heap H locs) (hst : st0 = As.reverse ++ .ref a :: rest) (hr : rm.cells = mc ∧ rm.slots = ms ∧ rm.frames + 1 ≤ R.frames ∧ 8 + (2 + 11) + rm.locals ≤ R.locals) (hw : (rest.map fun v => v.category).sum ≤ 8) (hdg : decode cc pc = .ok (.invokevirtual 30, 3)) (hf : cells + mc ≤ R.cells ∧ slots + ms ≤ R.slots) : vx_Run p l e R s m args below meth c H locs cells slots mc ms (F0 m pc ls st0) rest (Qc (Value.ref a :: As).toArray) XC (b_A B0) := vx_runVX (C := RX15) CX.fix hM (b_cwVC 0 CX.ts q1181 q1182 q1187 q104 q1193 hr.1 hr.2.1 ⟨by decide, by decide, by decide +kernel⟩ ⟨hr.2.2.1, hr.2.2.2⟩) ⟨b_blind G B0 H _, b_recv CX.K (ci := 12) rfl hP, b_pre _ CX.K hS⟩ rfl hn hls hst (lv_room hw) hdg hf
theorem gf_X6_3_12 {p : Program} {l : Launch} {e : Env} {R : Room} {s : State} {m : MethodId} {args : Array Value} {below : List Frame} {meth : Method} {c : Code} {H : Heap} {locs : List Loc} {cells slots : Nat} {Q : State → Prop} {cc : ByteArray} {pc nL a : Nat} {ls : Array Slot} {rest : List Value} {G : b_G} {B0 : Nat} (CX : b_Cx p s m args c cc nL RX6 G B0) {fs : List Value} (hP : b_at G a (.inr (12, fs)) H) {v : Value} (hv : fs[0]? = some v) (hdg : decode cc pc = .ok (.getfield 3, 3)) (kk : W p l e R s m args below meth c H locs cells slots Q (F0 m (pc + 3) ls (v :: rest))) : W p l e R s m args below meth c H locs cells slots Q (F0 m pc ls (.ref a :: rest)) := b_get CX in_X15 rfl 0 (by decide) q1165 (Or.inl rfl) hP hv hdg kk
theorem cs_X6_40_12 {p : Program} {l : Launch} {e : Env} {R : Room} {s : State} {m : MethodId} {args : Array Value} {below : List Frame} {meth : Method} {c : Code} {H : Heap} {locs : List Loc} {cells slots : Nat} {cc : ByteArray} {pc nL a : Nat} {ls : Array Slot} {rest : List Value} {G : b_G} {B0 : Nat} (CX : b_Cx p s m args c cc nL RX6 G B0) (hls : ls.size = nL) {rm : Room} {mc ms : Nat} {As st0 : List Value} {Qc : Array Value → State → Outcome → State → Prop} (hM : Met l yX15_does (ws_ yX15_does cX15_does 1 (Option.some Jvm.ClassFile.FieldType.int)) rm (b_Pc G B0 H (.ref a :: As)) Qc mc ms (b_A B0)) (hn : As.length = 0) {fs : List Value} (hP : b_at G a (.inr (12, fs)) H) (hS : va_S (b_A B0) s.heap H locs) (hst : st0 = As.reverse ++ .ref a :: rest) (hr : rm.cells = mc ∧ rm.slots = ms ∧ rm.frames + 1 ≤ R.frames ∧ 8 + (1 + 11) + rm.locals ≤ R.locals) (hw : (rest.map fun v => v.category).sum ≤ 8) (hdg : decode cc pc = .ok (.invokevirtual 40, 3)) (hf : cells + mc ≤ R.cells ∧ slots + ms ≤ R.slots) : va_Run p l e R s m args below meth c H locs cells slots mc ms (F0 m pc ls st0) rest (Qc (Value.ref a :: As).toArray) (b_A B0) := va_runU CX.fix hM (va_cwA (C := RX15) (owner := RX6) 0 CX.ts (lw_U q1363 q1365 q1387 q1388 q113 q1389) rfl hr.1 hr.2.1 (CX.K.2.1 _ q1364 rfl) ⟨by decide, by decide, by decide +kernel⟩ ⟨hr.2.2.1, hr.2.2.2⟩) ⟨b_blind G B0 H _, b_recv CX.K (ci := 12) rfl hP, b_pre _ CX.K hS⟩ rfl hn hls hst (lv_room hw) hdg hf
set_option maxHeartbeats 2000000 in
set_option maxRecDepth 100000 in
theorem m_X6_done_12 (l : Launch) {G : b_G} {B0 : Nat} {H : Heap} {τ : b_T} {A : Nat → Nat} {S : b_St} {n : Nat} {L : Nat → b_St} {tn : Nat} {t : Nat → Nat} {da : Nat} {b : Nat} {s_ : Nat} {w_ : Int32} (hc_D : b_tt G B0 τ H da 100 (.inr (12, [.ref ((A 0)), .int (nI b), .int (nI s_), .int w_, .ref ((A 0))]))) (hlt : l.stackTraces = false) (hXR : XR G B0 τ A H (S, n, L, tn, t)) (hBb : b < nb S) (hSs_ : s_ < ns S) (hW1 : (a_break S s_ b w_) = nI 0 → b_WF ((s_break S s_ b w_))) : vx_Met l yX6_done (ws_ yX6_done cX6_done 1 (Option.some Jvm.ClassFile.FieldType.int)) ({ frames := 9, cells := 56, slots := 473, locals := 192 } : Room) (b_Pc G B0 H [.ref da]) (b_Qi B0 (fun r H1 => (a_break S s_ b w_) = nI 0 ∧ r = p_paid S b w_ ∧ ∃ τ1 : b_T, b_Ag τ τ1 H ∧ b_Fr τ (fun t => t < 10 ∨ 1000 ≤ t) H H1 ∧ XR G B0 τ1 A H1 ((s_break S s_ b w_), (p_sn n), (p_L L S n), tn, t))) (b_X B0 (fun E9 q9 H9 => ¬ (a_break S s_ b w_) = nI 0 ∧ E9 = "java/lang/IllegalStateException" ∧ b_Ext H H9)) 56 473 (b_A B0) := by
  refine b_ofX (by decide) (Nat.le_of_ble_eq_true rfl) ?_
  intro p e s m below meth c CX hr hlk htb hS ls hl
  have CX : b_Cx p s m _ c cX6_done 1 RX6 G B0 := CX
  have hx := CX.hx
  have hb := CX.hb
  have hl : lv_has ls 1 [(0, .ref da)] := hl
  generalize hQ : vx_MQ below (b_Qi B0 (fun r H1 => (a_break S s_ b w_) = nI 0 ∧ r = p_paid S b w_ ∧ ∃ τ1 : b_T, b_Ag τ τ1 H ∧ b_Fr τ (fun t => t < 10 ∨ 1000 ≤ t) H H1 ∧ XR G B0 τ1 A H1 ((s_break S s_ b w_), (p_sn n), (p_L L S n), tn, t))) (b_X B0 (fun E9 q9 H9 => ¬ (a_break S s_ b w_) = nI 0 ∧ E9 = "java/lang/IllegalStateException" ∧ b_Ext H H9)) ([.ref da] : List Value).toArray s 56 473 (b_A B0) = Q
  have hF : b_Fr τ (fun t => t < 10 ∨ 1000 ≤ t) H H := b_Fr.rf
  have hA : b_Ag τ τ H := b_Ag.rf
  have hX : b_Ext H H := b_Ext.rf
  obtain ⟨d0, c0, ids, P0, F, M, E, Z, sm, rs, se, ml, hs, bt, tk9, hc_X, hc_sv, hsa, hse, hc_tx, hc_tb, hbt, hc_tk, hL, hZ, hW, hV, hd0, hdc, hn, htn, ht⟩ := hXR
  have hc_X : b_tt G B0 τ H ((A 0)) 0 (.inr (0, [.ref ((F 0)), .ref ((A 1)), .ref ((A 3)), .ref ((A 5)), .long hs])) := hc_X
  have hc_sv : b_tt G B0 τ H ((A 1)) 1 (.inr (2, [.int sm, .ref ((if se = true then rs else G.2.2 0)), .int (nI n)])) := hc_sv
  have hsa : (se = true → b_tt G B0 τ H rs 2 (.inl (G.2.1 2, q_refs 10 (fun j => if j < n then some (P0 j) else none)))) := hsa
  have hc_tx : b_tt G B0 τ H ((A 3)) 3 (.inr (3, [.ref ((A 4)), .int (nI 0), .int ml, .int (nI tn)])) := hc_tx
  have hc_tb : b_tt G B0 τ H ((A 4)) 4 (.inl (G.2.1 1, 60, .inl bt)) := hc_tb
  have hc_tk : b_tt G B0 τ H ((A 5)) 5 (.inl (G.2.1 0, 8, .inl tk9)) := hc_tk
  have hL : LR G B0 τ d0 F M E H S Z := hL
  have hV : SV G B0 τ d0 c0 n ids P0 H L := hV
  have hn8 := hL.2.2.2.1
  have hn6 := hL.2.2.2.2
  have hnb : nb S = nb S := rfl
  have hns : ns S = ns S := rfl
  have hn : n ≤ 6 := hn
  have htn : tn ≤ 60 := htn
  have ht : ∀ j, t j < 128 := ht
  have hse : se = true ∨ n = 0 := hse
  have hZ : pZ Z S := hZ
  have hW : b_WF S := hW
  have hbt : ∀ j, j < tn → bt j = nI (t j) := hbt
  refine lv_aload_n hx hb dX6_done_0 rfl (lv_at hl 0 rfl) ?_
  refine b_xi (cx_X6_30_12 (rest := []) CX hl.1 (m_X6_reason_12 l (da := da) (td := 100) (a := (A 0)) (asv := (A 1)) (atx := (A 3)) (atk := (A 5)) (hs := hs) (b := b) (s_ := s_) (w_ := w_) hc_D hc_X hL hW (by omega) (by omega)) rfl hc_D.at hS rfl ⟨rfl, rfl, Nat.le_of_ble_eq_true rfl, Nat.le_of_ble_eq_true rfl⟩ (Nat.le_of_ble_eq_true rfl) dX6_done_1 ⟨Nat.le_of_ble_eq_true rfl, Nat.le_of_ble_eq_true rfl⟩) hS (fun E9 q9 Hx1 locs hx9 hS he9 => ?_) (fun r H1 locs hp hS => ?_)
  · exact hx9.elim
  obtain ⟨rfl, hE⟩ := hp
  have hc_D := hc_D.ext hE
  have hc_X := hc_X.ext hE
  have hc_sv := hc_sv.ext hE
  have hsa := fun h9 => (hsa h9).ext hE
  have hc_tx := hc_tx.ext hE
  have hc_tb := hc_tb.ext hE
  have hc_tk := hc_tk.ext hE
  have hL := hL.ext hE
  have hV := hV.ext hE
  have hX := hX.tr hE
  have hF := hF.ext hE
  refine lv_if_ne (tgt := 11) hx hb dX6_done_4 (by decide) (fun c_4 => ?_) (fun c_4 => ?_)
  · refine lv_iconst (v := nI 0) hx hb dX6_done_11 rfl ?_
    refine b_xv0 (cx_X6_33 (rest := []) CX hl.1 (m_X1_needState l (x := nI 0) hlt) rfl hS rfl ⟨rfl, rfl, Nat.le_of_ble_eq_true rfl, Nat.le_of_ble_eq_true rfl⟩ (Nat.le_of_ble_eq_true rfl) dX6_done_12 ⟨Nat.le_of_ble_eq_true rfl, Nat.le_of_ble_eq_true rfl⟩) hS (fun E9 q9 Hx2 locs hx9 hS he9 => ?_) (fun hk_12 locs hS => ?_)
    · rw [← hQ]
      exact b_xout htb hlk he9 hS (Nat.le_of_ble_eq_true rfl) (Nat.le_of_ble_eq_true rfl) ⟨c_4, hx9.2.1, hX.tr hx9.2.2⟩
    exact absurd (by decide) hk_12
  · refine lv_iconst (v := nI 1) hx hb dX6_done_7 rfl ?_
    refine lv_goto (tgt := 12) hx hb dX6_done_8 (by decide) ?_
    refine b_xv0 (cx_X6_33 (rest := []) CX hl.1 (m_X1_needState l (x := nI 1) hlt) rfl hS rfl ⟨rfl, rfl, Nat.le_of_ble_eq_true rfl, Nat.le_of_ble_eq_true rfl⟩ (Nat.le_of_ble_eq_true rfl) dX6_done_12 ⟨Nat.le_of_ble_eq_true rfl, Nat.le_of_ble_eq_true rfl⟩) hS (fun E9 q9 Hx3 locs hx9 hS he9 => ?_) (fun hk_12 locs hS => ?_)
    · exact absurd hx9.1 (by decide)
    refine lv_aload_n hx hb dX6_done_15 rfl (lv_at hl 0 rfl) ?_
    refine gf_X6_3_12 CX hc_D.at rfl dX6_done_16 ?_
    have hXR : XR G B0 τ A H1 (S, n, L, tn, t) := ⟨d0, c0, ids, P0, F, M, E, Z, sm, rs, se, ml, hs, bt, tk9, hc_X, hc_sv, hsa, hse, hc_tx, hc_tb, hbt, hc_tk, hL, hZ, hW, hV, hd0, hdc, hn, htn, ht⟩
    refine b_cv (cs_X6_37 (rest := []) CX hl.1 (m_X1_save l  hXR) rfl rfl rfl hc_X.at hS rfl ⟨rfl, rfl, Nat.le_of_ble_eq_true rfl, Nat.le_of_ble_eq_true rfl⟩ (Nat.le_of_ble_eq_true rfl) dX6_done_19 ⟨Nat.le_of_ble_eq_true rfl, Nat.le_of_ble_eq_true rfl⟩) hS (fun H4 locs hp hS => ?_)
    obtain ⟨τ4, hA9, hF9, hXR⟩ := hp
    have hc_D := hc_D.ca hF9 hA9 (show ¬ (100 = 1 ∨ 100 = 2 ∨ 1000 ≤ 100) by omega)
    have hF0 := hF.tr hA hF9 (fun q9 hq9 x9 => by have x8 : τ q9 = 1 ∨ τ q9 = 2 ∨ 1000 ≤ τ q9 := x9; show τ q9 < 10 ∨ 1000 ≤ τ q9; omega)
    have hA := hA.tr hA9 hF.1
    have hF := hF0
    have hXR : XR G B0 τ4 A H4 (S, (p_sn n), (p_L L S n), tn, t) := hXR
    obtain ⟨d04, c04, ids4, P04, F4, M4, E4, Z4, sm4, rs4, se4, ml4, hs4, bt4, tk94, hc_X, hc_sv, hsa, hse, hc_tx, hc_tb, hbt, hc_tk, hL, hZ, hW, hV, hd0, hdc, hn, htn, ht⟩ := hXR
    have hc_X : b_tt G B0 τ4 H4 ((A 0)) 0 (.inr (0, [.ref ((F4 0)), .ref ((A 1)), .ref ((A 3)), .ref ((A 5)), .long hs4])) := hc_X
    have hc_sv : b_tt G B0 τ4 H4 ((A 1)) 1 (.inr (2, [.int sm4, .ref ((if se4 = true then rs4 else G.2.2 0)), .int (nI ((p_sn n)))])) := hc_sv
    have hsa : (se4 = true → b_tt G B0 τ4 H4 rs4 2 (.inl (G.2.1 2, q_refs 10 (fun j => if j < (p_sn n) then some (P04 j) else none)))) := hsa
    have hc_tx : b_tt G B0 τ4 H4 ((A 3)) 3 (.inr (3, [.ref ((A 4)), .int (nI 0), .int ml4, .int (nI tn)])) := hc_tx
    have hc_tb : b_tt G B0 τ4 H4 ((A 4)) 4 (.inl (G.2.1 1, 60, .inl bt4)) := hc_tb
    have hc_tk : b_tt G B0 τ4 H4 ((A 5)) 5 (.inl (G.2.1 0, 8, .inl tk94)) := hc_tk
    have hL : LR G B0 τ4 d04 F4 M4 E4 H4 S Z4 := hL
    have hV : SV G B0 τ4 d04 c04 ((p_sn n)) ids4 P04 H4 ((p_L L S n)) := hV
    have hn8 := hL.2.2.2.1
    have hn6 := hL.2.2.2.2
    have hnb : nb S = nb S := rfl
    have hns : ns S = ns S := rfl
    have hn : (p_sn n) ≤ 6 := hn
    have htn : tn ≤ 60 := htn
    have ht : ∀ j, t j < 128 := ht
    have hse : se4 = true ∨ (p_sn n) = 0 := hse
    have hZ : pZ Z4 S := hZ
    have hW : b_WF S := hW
    have hbt : ∀ j, j < tn → bt4 j = nI (t j) := hbt
    refine lv_aload_n hx hb dX6_done_22 rfl (lv_at hl 0 rfl) ?_
    refine b_ci (cs_X6_40_12 (rest := []) CX hl.1 (m_X15_does l (da := da) (td := 100) (a := (A 0)) (asv := (A 1)) (atx := (A 3)) (atk := (A 5)) (hs := hs4) (b := b) (s_ := s_) (w_ := w_) hc_D hc_X hL hW (by omega) (by omega) (by omega) (by omega)) rfl hc_D.at hS rfl ⟨rfl, rfl, Nat.le_of_ble_eq_true rfl, Nat.le_of_ble_eq_true rfl⟩ (Nat.le_of_ble_eq_true rfl) dX6_done_23 ⟨Nat.le_of_ble_eq_true rfl, Nat.le_of_ble_eq_true rfl⟩) hS (fun r H5 locs hp hS => ?_)
    obtain ⟨rfl, hF9, hL9⟩ := hp
    have hc_D := hc_D.fr hF9 (show ¬ (1000 * d04 ≤ 100 ∧ 100 < 1000 * d04 + 1000) by omega)
    have hc_X := hc_X.fr hF9 (show ¬ (1000 * d04 ≤ 0 ∧ 0 < 1000 * d04 + 1000) by omega)
    have hc_sv := hc_sv.fr hF9 (show ¬ (1000 * d04 ≤ 1 ∧ 1 < 1000 * d04 + 1000) by omega)
    have hsa := fun h9 => (hsa h9).fr hF9 (show ¬ (1000 * d04 ≤ 2 ∧ 2 < 1000 * d04 + 1000) by omega)
    have hc_tx := hc_tx.fr hF9 (show ¬ (1000 * d04 ≤ 3 ∧ 3 < 1000 * d04 + 1000) by omega)
    have hc_tb := hc_tb.fr hF9 (show ¬ (1000 * d04 ≤ 4 ∧ 4 < 1000 * d04 + 1000) by omega)
    have hc_tk := hc_tk.fr hF9 (show ¬ (1000 * d04 ≤ 5 ∧ 5 < 1000 * d04 + 1000) by omega)
    have hV := hV.fr hF9 (fun k9 h1 h2 h3 i9 hi9 => show ¬ (1000 * d04 ≤ (1000 * k9 + i9) ∧ (1000 * k9 + i9) < 1000 * d04 + 1000) by omega)
    have hz9 := hF.1
    have hF0 := hF.tr hA hF9 (fun q9 hq9 x9 => by have x8 : 1000 * d04 ≤ τ q9 ∧ τ q9 < 1000 * d04 + 1000 := x9; show τ q9 < 10 ∨ 1000 ≤ τ q9; omega)
    have hF := hF0
    have hL : LR G B0 τ4 d04 F4 M4 E4 H5 ((s_break S s_ b w_)) Z4 := hL9
    rw [← hQ]
    exact vx_ret (b_iret CX hr hlk hS (Nat.le_of_ble_eq_true rfl) (Nat.le_of_ble_eq_true rfl) dX6_done_26 (⟨c_4, rfl, _, hA, hF, ⟨d04, c04, ids4, P04, F4, M4, E4, Z4, sm4, rs4, se4, ml4, hs4, bt4, tk94, hc_X, hc_sv, hsa, hse, hc_tx, hc_tb, hbt, hc_tk, hL, (pZ.of hZ (fun i j => by simp [s_break, u3])), (hW1 c_4), hV, hd0, hdc, hn, htn, ht⟩⟩))
theorem cx_X6_30_13 {p : Program} {l : Launch} {e : Env} {R : Room} {s : State} {m : MethodId} {args : Array Value} {below : List Frame} {meth : Method} {c : Code} {H : Heap} {locs : List Loc} {cells slots : Nat} {cc : ByteArray} {pc nL a : Nat} {ls : Array Slot} {rest : List Value} {G : b_G} {B0 : Nat} (CX : b_Cx p s m args c cc nL RX6 G B0) (hls : ls.size = nL) {rm : Room} {mc ms : Nat} {As st0 : List Value} {Qc : Array Value → State → Outcome → State → Prop} {XC : String → Addr → State → State → Prop} (hM : vx_Met l yX6_reason (wsW_ yX6_reason cX6_reason 2 (Option.some Jvm.ClassFile.FieldType.int) [((0 : Nat), (5 : Nat), (6 : Nat), (18 : Nat)), ((0 : Nat), (5 : Nat), (6 : Nat), (20 : Nat)), ((0 : Nat), (5 : Nat), (6 : Nat), (22 : Nat)), ((0 : Nat), (5 : Nat), (12 : Nat), (25 : Nat))]) rm (b_Pc G B0 H (.ref a :: As)) Qc XC mc ms (b_A B0)) (hn : As.length = 0) {fs : List Value} (hP : b_at G a (.inr (13, fs)) H) (hS : va_S (b_A B0) s.heap H locs) (hst : st0 = As.reverse ++ .ref a :: rest) (hr : rm.cells = mc ∧ rm.slots = ms ∧ rm.frames + 1 ≤ R.frames ∧ 8 + (2 + 11) + rm.locals ≤ R.locals) (hw : (rest.map fun v => v.category).sum ≤ 8) (hdg : decode cc pc = .ok (.invokevirtual 30, 3)) (hf : cells + mc ≤ R.cells ∧ slots + ms ≤ R.slots) : vx_Run p l e R s m args below meth c H locs cells slots mc ms (F0 m pc ls st0) rest (Qc (Value.ref a :: As).toArray) XC (b_A B0) := vx_runVX (C := RX17) CX.fix hM (b_cwVC 0 CX.ts q1181 q1182 q1188 q104 q1193 hr.1 hr.2.1 ⟨by decide, by decide, by decide +kernel⟩ ⟨hr.2.2.1, hr.2.2.2⟩) ⟨b_blind G B0 H _, b_recv CX.K (ci := 13) rfl hP, b_pre _ CX.K hS⟩ rfl hn hls hst (lv_room hw) hdg hf
theorem gf_X6_3_13 {p : Program} {l : Launch} {e : Env} {R : Room} {s : State} {m : MethodId} {args : Array Value} {below : List Frame} {meth : Method} {c : Code} {H : Heap} {locs : List Loc} {cells slots : Nat} {Q : State → Prop} {cc : ByteArray} {pc nL a : Nat} {ls : Array Slot} {rest : List Value} {G : b_G} {B0 : Nat} (CX : b_Cx p s m args c cc nL RX6 G B0) {fs : List Value} (hP : b_at G a (.inr (13, fs)) H) {v : Value} (hv : fs[0]? = some v) (hdg : decode cc pc = .ok (.getfield 3, 3)) (kk : W p l e R s m args below meth c H locs cells slots Q (F0 m (pc + 3) ls (v :: rest))) : W p l e R s m args below meth c H locs cells slots Q (F0 m pc ls (.ref a :: rest)) := b_get CX in_X17 rfl 0 (by decide) q1165 (Or.inl rfl) hP hv hdg kk
theorem cs_X6_40_13 {p : Program} {l : Launch} {e : Env} {R : Room} {s : State} {m : MethodId} {args : Array Value} {below : List Frame} {meth : Method} {c : Code} {H : Heap} {locs : List Loc} {cells slots : Nat} {cc : ByteArray} {pc nL a : Nat} {ls : Array Slot} {rest : List Value} {G : b_G} {B0 : Nat} (CX : b_Cx p s m args c cc nL RX6 G B0) (hls : ls.size = nL) {rm : Room} {mc ms : Nat} {As st0 : List Value} {Qc : Array Value → State → Outcome → State → Prop} (hM : Met l yX17_does (ws_ yX17_does cX17_does 1 (Option.some Jvm.ClassFile.FieldType.int)) rm (b_Pc G B0 H (.ref a :: As)) Qc mc ms (b_A B0)) (hn : As.length = 0) {fs : List Value} (hP : b_at G a (.inr (13, fs)) H) (hS : va_S (b_A B0) s.heap H locs) (hst : st0 = As.reverse ++ .ref a :: rest) (hr : rm.cells = mc ∧ rm.slots = ms ∧ rm.frames + 1 ≤ R.frames ∧ 8 + (1 + 11) + rm.locals ≤ R.locals) (hw : (rest.map fun v => v.category).sum ≤ 8) (hdg : decode cc pc = .ok (.invokevirtual 40, 3)) (hf : cells + mc ≤ R.cells ∧ slots + ms ≤ R.slots) : va_Run p l e R s m args below meth c H locs cells slots mc ms (F0 m pc ls st0) rest (Qc (Value.ref a :: As).toArray) (b_A B0) := va_runU CX.fix hM (va_cwA (C := RX17) (owner := RX6) 0 CX.ts (lw_U q1363 q1365 q1395 q1396 q115 q1397) rfl hr.1 hr.2.1 (CX.K.2.1 _ q1364 rfl) ⟨by decide, by decide, by decide +kernel⟩ ⟨hr.2.2.1, hr.2.2.2⟩) ⟨b_blind G B0 H _, b_recv CX.K (ci := 13) rfl hP, b_pre _ CX.K hS⟩ rfl hn hls hst (lv_room hw) hdg hf
set_option maxHeartbeats 2000000 in
set_option maxRecDepth 100000 in
theorem m_X6_done_13 (l : Launch) {G : b_G} {B0 : Nat} {H : Heap} {τ : b_T} {A : Nat → Nat} {S : b_St} {n : Nat} {L : Nat → b_St} {tn : Nat} {t : Nat → Nat} {da : Nat} {s_ : Nat} {k : Nat} {c_ : Nat} (hc_D : b_tt G B0 τ H da 100 (.inr (13, [.ref ((A 0)), .int (nI s_), .int (nI k), .int (nI c_), .ref ((A 0))]))) (hlt : l.stackTraces = false) (hXR : XR G B0 τ A H (S, n, L, tn, t)) (hSs_ : s_ < ns S) (hk : k < 3) (hW1 : (a_collect S s_ k (nI c_)) = nI 0 → b_WF ((s_collect S s_ k c_))) (hc : c_ ≤ 50) (hpk0 : (a_collect S s_ k (nI c_)) = nI 0 → p_picks S s_ k c_) : vx_Met l yX6_done (ws_ yX6_done cX6_done 1 (Option.some Jvm.ClassFile.FieldType.int)) ({ frames := 9, cells := 57, slots := 479, locals := 192 } : Room) (b_Pc G B0 H [.ref da]) (b_Qi B0 (fun r H1 => (a_collect S s_ k (nI c_)) = nI 0 ∧ r = p_deps S k (nI c_) ∧ ∃ τ1 : b_T, b_Ag τ τ1 H ∧ b_Fr τ (fun t => t < 10 ∨ 1000 ≤ t) H H1 ∧ XR G B0 τ1 A H1 ((s_collect S s_ k c_), (p_sn n), (p_L L S n), tn, t))) (b_X B0 (fun E9 q9 H9 => ¬ (a_collect S s_ k (nI c_)) = nI 0 ∧ E9 = "java/lang/IllegalStateException" ∧ b_Ext H H9)) 57 479 (b_A B0) := by
  refine b_ofX (by decide) (Nat.le_of_ble_eq_true rfl) ?_
  intro p e s m below meth c CX hr hlk htb hS ls hl
  have CX : b_Cx p s m _ c cX6_done 1 RX6 G B0 := CX
  have hx := CX.hx
  have hb := CX.hb
  have hl : lv_has ls 1 [(0, .ref da)] := hl
  generalize hQ : vx_MQ below (b_Qi B0 (fun r H1 => (a_collect S s_ k (nI c_)) = nI 0 ∧ r = p_deps S k (nI c_) ∧ ∃ τ1 : b_T, b_Ag τ τ1 H ∧ b_Fr τ (fun t => t < 10 ∨ 1000 ≤ t) H H1 ∧ XR G B0 τ1 A H1 ((s_collect S s_ k c_), (p_sn n), (p_L L S n), tn, t))) (b_X B0 (fun E9 q9 H9 => ¬ (a_collect S s_ k (nI c_)) = nI 0 ∧ E9 = "java/lang/IllegalStateException" ∧ b_Ext H H9)) ([.ref da] : List Value).toArray s 57 479 (b_A B0) = Q
  have hF : b_Fr τ (fun t => t < 10 ∨ 1000 ≤ t) H H := b_Fr.rf
  have hA : b_Ag τ τ H := b_Ag.rf
  have hX : b_Ext H H := b_Ext.rf
  obtain ⟨d0, c0, ids, P0, F, M, E, Z, sm, rs, se, ml, hs, bt, tk9, hc_X, hc_sv, hsa, hse, hc_tx, hc_tb, hbt, hc_tk, hL, hZ, hW, hV, hd0, hdc, hn, htn, ht⟩ := hXR
  have hc_X : b_tt G B0 τ H ((A 0)) 0 (.inr (0, [.ref ((F 0)), .ref ((A 1)), .ref ((A 3)), .ref ((A 5)), .long hs])) := hc_X
  have hc_sv : b_tt G B0 τ H ((A 1)) 1 (.inr (2, [.int sm, .ref ((if se = true then rs else G.2.2 0)), .int (nI n)])) := hc_sv
  have hsa : (se = true → b_tt G B0 τ H rs 2 (.inl (G.2.1 2, q_refs 10 (fun j => if j < n then some (P0 j) else none)))) := hsa
  have hc_tx : b_tt G B0 τ H ((A 3)) 3 (.inr (3, [.ref ((A 4)), .int (nI 0), .int ml, .int (nI tn)])) := hc_tx
  have hc_tb : b_tt G B0 τ H ((A 4)) 4 (.inl (G.2.1 1, 60, .inl bt)) := hc_tb
  have hc_tk : b_tt G B0 τ H ((A 5)) 5 (.inl (G.2.1 0, 8, .inl tk9)) := hc_tk
  have hL : LR G B0 τ d0 F M E H S Z := hL
  have hV : SV G B0 τ d0 c0 n ids P0 H L := hV
  have hn8 := hL.2.2.2.1
  have hn6 := hL.2.2.2.2
  have hnb : nb S = nb S := rfl
  have hns : ns S = ns S := rfl
  have hn : n ≤ 6 := hn
  have htn : tn ≤ 60 := htn
  have ht : ∀ j, t j < 128 := ht
  have hse : se = true ∨ n = 0 := hse
  have hZ : pZ Z S := hZ
  have hW : b_WF S := hW
  have hbt : ∀ j, j < tn → bt j = nI (t j) := hbt
  refine lv_aload_n hx hb dX6_done_0 rfl (lv_at hl 0 rfl) ?_
  refine b_xi (cx_X6_30_13 (rest := []) CX hl.1 (m_X6_reason_13 l (da := da) (td := 100) (a := (A 0)) (asv := (A 1)) (atx := (A 3)) (atk := (A 5)) (hs := hs) (s_ := s_) (k := k) (c_ := c_) hc_D hc_X hL hW (by omega) (by omega)) rfl hc_D.at hS rfl ⟨rfl, rfl, Nat.le_of_ble_eq_true rfl, Nat.le_of_ble_eq_true rfl⟩ (Nat.le_of_ble_eq_true rfl) dX6_done_1 ⟨Nat.le_of_ble_eq_true rfl, Nat.le_of_ble_eq_true rfl⟩) hS (fun E9 q9 Hx1 locs hx9 hS he9 => ?_) (fun r H1 locs hp hS => ?_)
  · exact hx9.elim
  obtain ⟨rfl, hE⟩ := hp
  have hc_D := hc_D.ext hE
  have hc_X := hc_X.ext hE
  have hc_sv := hc_sv.ext hE
  have hsa := fun h9 => (hsa h9).ext hE
  have hc_tx := hc_tx.ext hE
  have hc_tb := hc_tb.ext hE
  have hc_tk := hc_tk.ext hE
  have hL := hL.ext hE
  have hV := hV.ext hE
  have hX := hX.tr hE
  have hF := hF.ext hE
  refine lv_if_ne (tgt := 11) hx hb dX6_done_4 (by decide) (fun c_4 => ?_) (fun c_4 => ?_)
  · refine lv_iconst (v := nI 0) hx hb dX6_done_11 rfl ?_
    refine b_xv0 (cx_X6_33 (rest := []) CX hl.1 (m_X1_needState l (x := nI 0) hlt) rfl hS rfl ⟨rfl, rfl, Nat.le_of_ble_eq_true rfl, Nat.le_of_ble_eq_true rfl⟩ (Nat.le_of_ble_eq_true rfl) dX6_done_12 ⟨Nat.le_of_ble_eq_true rfl, Nat.le_of_ble_eq_true rfl⟩) hS (fun E9 q9 Hx2 locs hx9 hS he9 => ?_) (fun hk_12 locs hS => ?_)
    · rw [← hQ]
      exact b_xout htb hlk he9 hS (Nat.le_of_ble_eq_true rfl) (Nat.le_of_ble_eq_true rfl) ⟨c_4, hx9.2.1, hX.tr hx9.2.2⟩
    exact absurd (by decide) hk_12
  · have hpk := hpk0 c_4
    refine lv_iconst (v := nI 1) hx hb dX6_done_7 rfl ?_
    refine lv_goto (tgt := 12) hx hb dX6_done_8 (by decide) ?_
    refine b_xv0 (cx_X6_33 (rest := []) CX hl.1 (m_X1_needState l (x := nI 1) hlt) rfl hS rfl ⟨rfl, rfl, Nat.le_of_ble_eq_true rfl, Nat.le_of_ble_eq_true rfl⟩ (Nat.le_of_ble_eq_true rfl) dX6_done_12 ⟨Nat.le_of_ble_eq_true rfl, Nat.le_of_ble_eq_true rfl⟩) hS (fun E9 q9 Hx3 locs hx9 hS he9 => ?_) (fun hk_12 locs hS => ?_)
    · exact absurd hx9.1 (by decide)
    refine lv_aload_n hx hb dX6_done_15 rfl (lv_at hl 0 rfl) ?_
    refine gf_X6_3_13 CX hc_D.at rfl dX6_done_16 ?_
    have hXR : XR G B0 τ A H1 (S, n, L, tn, t) := ⟨d0, c0, ids, P0, F, M, E, Z, sm, rs, se, ml, hs, bt, tk9, hc_X, hc_sv, hsa, hse, hc_tx, hc_tb, hbt, hc_tk, hL, hZ, hW, hV, hd0, hdc, hn, htn, ht⟩
    refine b_cv (cs_X6_37 (rest := []) CX hl.1 (m_X1_save l  hXR) rfl rfl rfl hc_X.at hS rfl ⟨rfl, rfl, Nat.le_of_ble_eq_true rfl, Nat.le_of_ble_eq_true rfl⟩ (Nat.le_of_ble_eq_true rfl) dX6_done_19 ⟨Nat.le_of_ble_eq_true rfl, Nat.le_of_ble_eq_true rfl⟩) hS (fun H4 locs hp hS => ?_)
    obtain ⟨τ4, hA9, hF9, hXR⟩ := hp
    have hc_D := hc_D.ca hF9 hA9 (show ¬ (100 = 1 ∨ 100 = 2 ∨ 1000 ≤ 100) by omega)
    have hF0 := hF.tr hA hF9 (fun q9 hq9 x9 => by have x8 : τ q9 = 1 ∨ τ q9 = 2 ∨ 1000 ≤ τ q9 := x9; show τ q9 < 10 ∨ 1000 ≤ τ q9; omega)
    have hA := hA.tr hA9 hF.1
    have hF := hF0
    have hXR : XR G B0 τ4 A H4 (S, (p_sn n), (p_L L S n), tn, t) := hXR
    obtain ⟨d04, c04, ids4, P04, F4, M4, E4, Z4, sm4, rs4, se4, ml4, hs4, bt4, tk94, hc_X, hc_sv, hsa, hse, hc_tx, hc_tb, hbt, hc_tk, hL, hZ, hW, hV, hd0, hdc, hn, htn, ht⟩ := hXR
    have hc_X : b_tt G B0 τ4 H4 ((A 0)) 0 (.inr (0, [.ref ((F4 0)), .ref ((A 1)), .ref ((A 3)), .ref ((A 5)), .long hs4])) := hc_X
    have hc_sv : b_tt G B0 τ4 H4 ((A 1)) 1 (.inr (2, [.int sm4, .ref ((if se4 = true then rs4 else G.2.2 0)), .int (nI ((p_sn n)))])) := hc_sv
    have hsa : (se4 = true → b_tt G B0 τ4 H4 rs4 2 (.inl (G.2.1 2, q_refs 10 (fun j => if j < (p_sn n) then some (P04 j) else none)))) := hsa
    have hc_tx : b_tt G B0 τ4 H4 ((A 3)) 3 (.inr (3, [.ref ((A 4)), .int (nI 0), .int ml4, .int (nI tn)])) := hc_tx
    have hc_tb : b_tt G B0 τ4 H4 ((A 4)) 4 (.inl (G.2.1 1, 60, .inl bt4)) := hc_tb
    have hc_tk : b_tt G B0 τ4 H4 ((A 5)) 5 (.inl (G.2.1 0, 8, .inl tk94)) := hc_tk
    have hL : LR G B0 τ4 d04 F4 M4 E4 H4 S Z4 := hL
    have hV : SV G B0 τ4 d04 c04 ((p_sn n)) ids4 P04 H4 ((p_L L S n)) := hV
    have hn8 := hL.2.2.2.1
    have hn6 := hL.2.2.2.2
    have hnb : nb S = nb S := rfl
    have hns : ns S = ns S := rfl
    have hn : (p_sn n) ≤ 6 := hn
    have htn : tn ≤ 60 := htn
    have ht : ∀ j, t j < 128 := ht
    have hse : se4 = true ∨ (p_sn n) = 0 := hse
    have hZ : pZ Z4 S := hZ
    have hW : b_WF S := hW
    have hbt : ∀ j, j < tn → bt4 j = nI (t j) := hbt
    refine lv_aload_n hx hb dX6_done_22 rfl (lv_at hl 0 rfl) ?_
    refine b_ci (cs_X6_40_13 (rest := []) CX hl.1 (m_X17_does l (da := da) (td := 100) (a := (A 0)) (asv := (A 1)) (atx := (A 3)) (atk := (A 5)) (f := tk94) (hs := hs4) (s_ := s_) (k := k) (c_ := c_) hc_D hc_X hc_tk hL hW (by omega) (by omega) (by omega) (by omega) (by omega) hpk (by omega)) rfl hc_D.at hS rfl ⟨rfl, rfl, Nat.le_of_ble_eq_true rfl, Nat.le_of_ble_eq_true rfl⟩ (Nat.le_of_ble_eq_true rfl) dX6_done_23 ⟨Nat.le_of_ble_eq_true rfl, Nat.le_of_ble_eq_true rfl⟩) hS (fun r H5 locs hp hS => ?_)
    obtain ⟨rfl, hF9, hx0, hL9⟩ := hp
    have hc_D := hc_D.fr hF9 (show ¬ ((1000 * d04 ≤ 100 ∧ 100 < 1000 * d04 + 1000) ∨ 100 = 5) by omega)
    have hc_X := hc_X.fr hF9 (show ¬ ((1000 * d04 ≤ 0 ∧ 0 < 1000 * d04 + 1000) ∨ 0 = 5) by omega)
    have hc_sv := hc_sv.fr hF9 (show ¬ ((1000 * d04 ≤ 1 ∧ 1 < 1000 * d04 + 1000) ∨ 1 = 5) by omega)
    have hsa := fun h9 => (hsa h9).fr hF9 (show ¬ ((1000 * d04 ≤ 2 ∧ 2 < 1000 * d04 + 1000) ∨ 2 = 5) by omega)
    have hc_tx := hc_tx.fr hF9 (show ¬ ((1000 * d04 ≤ 3 ∧ 3 < 1000 * d04 + 1000) ∨ 3 = 5) by omega)
    have hc_tb := hc_tb.fr hF9 (show ¬ ((1000 * d04 ≤ 4 ∧ 4 < 1000 * d04 + 1000) ∨ 4 = 5) by omega)
    have hV := hV.fr hF9 (fun k9 h1 h2 h3 i9 hi9 => show ¬ ((1000 * d04 ≤ (1000 * k9 + i9) ∧ (1000 * k9 + i9) < 1000 * d04 + 1000) ∨ (1000 * k9 + i9) = 5) by omega)
    have hz9 := hF.1
    have hF0 := hF.tr hA hF9 (fun q9 hq9 x9 => by have x8 : (1000 * d04 ≤ τ q9 ∧ τ q9 < 1000 * d04 + 1000) ∨ τ q9 = 5 := x9; show τ q9 < 10 ∨ 1000 ≤ τ q9; omega)
    have hF := hF0
    have hc_tk : b_tt G B0 τ4 H5 ((A 5)) 5 (.inl (G.2.1 0, 8, .inl ((fun q => nI (p_tk S s_ k (12 * c_) q))))) := hx0
    have hL : LR G B0 τ4 d04 F4 M4 E4 H5 ((s_collect S s_ k c_)) Z4 := hL9
    rw [← hQ]
    exact vx_ret (b_iret CX hr hlk hS (Nat.le_of_ble_eq_true rfl) (Nat.le_of_ble_eq_true rfl) dX6_done_26 (⟨c_4, rfl, _, hA, hF, ⟨d04, c04, ids4, P04, F4, M4, E4, Z4, sm4, rs4, se4, ml4, hs4, bt4, (fun q => nI (p_tk S s_ k (12 * c_) q)), hc_X, hc_sv, hsa, hse, hc_tx, hc_tb, hbt, hc_tk, hL, (pZ.of hZ (fun i j => by simp [s_collect, s_collB, s_coll, u3])), (hW1 c_4), hV, hd0, hdc, hn, htn, ht⟩⟩))
theorem cx_X6_30_14 {p : Program} {l : Launch} {e : Env} {R : Room} {s : State} {m : MethodId} {args : Array Value} {below : List Frame} {meth : Method} {c : Code} {H : Heap} {locs : List Loc} {cells slots : Nat} {cc : ByteArray} {pc nL a : Nat} {ls : Array Slot} {rest : List Value} {G : b_G} {B0 : Nat} (CX : b_Cx p s m args c cc nL RX6 G B0) (hls : ls.size = nL) {rm : Room} {mc ms : Nat} {As st0 : List Value} {Qc : Array Value → State → Outcome → State → Prop} {XC : String → Addr → State → State → Prop} (hM : vx_Met l yX6_reason (wsW_ yX6_reason cX6_reason 2 (Option.some Jvm.ClassFile.FieldType.int) [((0 : Nat), (5 : Nat), (6 : Nat), (18 : Nat)), ((0 : Nat), (5 : Nat), (6 : Nat), (20 : Nat)), ((0 : Nat), (5 : Nat), (6 : Nat), (22 : Nat)), ((0 : Nat), (5 : Nat), (12 : Nat), (25 : Nat))]) rm (b_Pc G B0 H (.ref a :: As)) Qc XC mc ms (b_A B0)) (hn : As.length = 0) {fs : List Value} (hP : b_at G a (.inr (14, fs)) H) (hS : va_S (b_A B0) s.heap H locs) (hst : st0 = As.reverse ++ .ref a :: rest) (hr : rm.cells = mc ∧ rm.slots = ms ∧ rm.frames + 1 ≤ R.frames ∧ 8 + (2 + 11) + rm.locals ≤ R.locals) (hw : (rest.map fun v => v.category).sum ≤ 8) (hdg : decode cc pc = .ok (.invokevirtual 30, 3)) (hf : cells + mc ≤ R.cells ∧ slots + ms ≤ R.slots) : vx_Run p l e R s m args below meth c H locs cells slots mc ms (F0 m pc ls st0) rest (Qc (Value.ref a :: As).toArray) XC (b_A B0) := vx_runVX (C := RX7) CX.fix hM (b_cwVC 0 CX.ts q1181 q1182 q1189 q104 q1193 hr.1 hr.2.1 ⟨by decide, by decide, by decide +kernel⟩ ⟨hr.2.2.1, hr.2.2.2⟩) ⟨b_blind G B0 H _, b_recv CX.K (ci := 14) rfl hP, b_pre _ CX.K hS⟩ rfl hn hls hst (lv_room hw) hdg hf
theorem gf_X6_3_14 {p : Program} {l : Launch} {e : Env} {R : Room} {s : State} {m : MethodId} {args : Array Value} {below : List Frame} {meth : Method} {c : Code} {H : Heap} {locs : List Loc} {cells slots : Nat} {Q : State → Prop} {cc : ByteArray} {pc nL a : Nat} {ls : Array Slot} {rest : List Value} {G : b_G} {B0 : Nat} (CX : b_Cx p s m args c cc nL RX6 G B0) {fs : List Value} (hP : b_at G a (.inr (14, fs)) H) {v : Value} (hv : fs[0]? = some v) (hdg : decode cc pc = .ok (.getfield 3, 3)) (kk : W p l e R s m args below meth c H locs cells slots Q (F0 m (pc + 3) ls (v :: rest))) : W p l e R s m args below meth c H locs cells slots Q (F0 m pc ls (.ref a :: rest)) := b_get CX in_X7 rfl 0 (by decide) q1165 (Or.inl rfl) hP hv hdg kk
theorem cs_X6_40_14 {p : Program} {l : Launch} {e : Env} {R : Room} {s : State} {m : MethodId} {args : Array Value} {below : List Frame} {meth : Method} {c : Code} {H : Heap} {locs : List Loc} {cells slots : Nat} {cc : ByteArray} {pc nL a : Nat} {ls : Array Slot} {rest : List Value} {G : b_G} {B0 : Nat} (CX : b_Cx p s m args c cc nL RX6 G B0) (hls : ls.size = nL) {rm : Room} {mc ms : Nat} {As st0 : List Value} {Qc : Array Value → State → Outcome → State → Prop} (hM : Met l yX7_does (ws_ yX7_does cX7_does 1 (Option.some Jvm.ClassFile.FieldType.int)) rm (b_Pc G B0 H (.ref a :: As)) Qc mc ms (b_A B0)) (hn : As.length = 0) {fs : List Value} (hP : b_at G a (.inr (14, fs)) H) (hS : va_S (b_A B0) s.heap H locs) (hst : st0 = As.reverse ++ .ref a :: rest) (hr : rm.cells = mc ∧ rm.slots = ms ∧ rm.frames + 1 ≤ R.frames ∧ 8 + (1 + 11) + rm.locals ≤ R.locals) (hw : (rest.map fun v => v.category).sum ≤ 8) (hdg : decode cc pc = .ok (.invokevirtual 40, 3)) (hf : cells + mc ≤ R.cells ∧ slots + ms ≤ R.slots) : va_Run p l e R s m args below meth c H locs cells slots mc ms (F0 m pc ls st0) rest (Qc (Value.ref a :: As).toArray) (b_A B0) := va_runU CX.fix hM (va_cwA (C := RX7) (owner := RX6) 0 CX.ts (lw_U q1363 q1365 q1403 q1404 q105 q1405) rfl hr.1 hr.2.1 (CX.K.2.1 _ q1364 rfl) ⟨by decide, by decide, by decide +kernel⟩ ⟨hr.2.2.1, hr.2.2.2⟩) ⟨b_blind G B0 H _, b_recv CX.K (ci := 14) rfl hP, b_pre _ CX.K hS⟩ rfl hn hls hst (lv_room hw) hdg hf
set_option maxHeartbeats 2000000 in
set_option maxRecDepth 100000 in
theorem m_X6_done_14 (l : Launch) {G : b_G} {B0 : Nat} {H : Heap} {τ : b_T} {A : Nat → Nat} {S : b_St} {n : Nat} {L : Nat → b_St} {tn : Nat} {t : Nat → Nat} {da : Nat} {b : Nat} {w_ : Int32} (hc_D : b_tt G B0 τ H da 100 (.inr (14, [.ref ((A 0)), .int (nI b), .int w_, .ref ((A 0))]))) (hlt : l.stackTraces = false) (hXR : XR G B0 τ A H (S, n, L, tn, t)) (hBb : b < nb S) (hW1 : (c_lt (S 1 b 1) w_) = nI 0 → b_WF ((s_fill S b w_))) : vx_Met l yX6_done (ws_ yX6_done cX6_done 1 (Option.some Jvm.ClassFile.FieldType.int)) ({ frames := 9, cells := 56, slots := 473, locals := 191 } : Room) (b_Pc G B0 H [.ref da]) (b_Qi B0 (fun r H1 => (c_lt (S 1 b 1) w_) = nI 0 ∧ r = p_full S b w_ ∧ ∃ τ1 : b_T, b_Ag τ τ1 H ∧ b_Fr τ (fun t => t < 10 ∨ 1000 ≤ t) H H1 ∧ XR G B0 τ1 A H1 ((s_fill S b w_), (p_sn n), (p_L L S n), tn, t))) (b_X B0 (fun E9 q9 H9 => ¬ (c_lt (S 1 b 1) w_) = nI 0 ∧ E9 = "java/lang/IllegalStateException" ∧ b_Ext H H9)) 56 473 (b_A B0) := by
  refine b_ofX (by decide) (Nat.le_of_ble_eq_true rfl) ?_
  intro p e s m below meth c CX hr hlk htb hS ls hl
  have CX : b_Cx p s m _ c cX6_done 1 RX6 G B0 := CX
  have hx := CX.hx
  have hb := CX.hb
  have hl : lv_has ls 1 [(0, .ref da)] := hl
  generalize hQ : vx_MQ below (b_Qi B0 (fun r H1 => (c_lt (S 1 b 1) w_) = nI 0 ∧ r = p_full S b w_ ∧ ∃ τ1 : b_T, b_Ag τ τ1 H ∧ b_Fr τ (fun t => t < 10 ∨ 1000 ≤ t) H H1 ∧ XR G B0 τ1 A H1 ((s_fill S b w_), (p_sn n), (p_L L S n), tn, t))) (b_X B0 (fun E9 q9 H9 => ¬ (c_lt (S 1 b 1) w_) = nI 0 ∧ E9 = "java/lang/IllegalStateException" ∧ b_Ext H H9)) ([.ref da] : List Value).toArray s 56 473 (b_A B0) = Q
  have hF : b_Fr τ (fun t => t < 10 ∨ 1000 ≤ t) H H := b_Fr.rf
  have hA : b_Ag τ τ H := b_Ag.rf
  have hX : b_Ext H H := b_Ext.rf
  obtain ⟨d0, c0, ids, P0, F, M, E, Z, sm, rs, se, ml, hs, bt, tk9, hc_X, hc_sv, hsa, hse, hc_tx, hc_tb, hbt, hc_tk, hL, hZ, hW, hV, hd0, hdc, hn, htn, ht⟩ := hXR
  have hc_X : b_tt G B0 τ H ((A 0)) 0 (.inr (0, [.ref ((F 0)), .ref ((A 1)), .ref ((A 3)), .ref ((A 5)), .long hs])) := hc_X
  have hc_sv : b_tt G B0 τ H ((A 1)) 1 (.inr (2, [.int sm, .ref ((if se = true then rs else G.2.2 0)), .int (nI n)])) := hc_sv
  have hsa : (se = true → b_tt G B0 τ H rs 2 (.inl (G.2.1 2, q_refs 10 (fun j => if j < n then some (P0 j) else none)))) := hsa
  have hc_tx : b_tt G B0 τ H ((A 3)) 3 (.inr (3, [.ref ((A 4)), .int (nI 0), .int ml, .int (nI tn)])) := hc_tx
  have hc_tb : b_tt G B0 τ H ((A 4)) 4 (.inl (G.2.1 1, 60, .inl bt)) := hc_tb
  have hc_tk : b_tt G B0 τ H ((A 5)) 5 (.inl (G.2.1 0, 8, .inl tk9)) := hc_tk
  have hL : LR G B0 τ d0 F M E H S Z := hL
  have hV : SV G B0 τ d0 c0 n ids P0 H L := hV
  have hn8 := hL.2.2.2.1
  have hn6 := hL.2.2.2.2
  have hnb : nb S = nb S := rfl
  have hns : ns S = ns S := rfl
  have hn : n ≤ 6 := hn
  have htn : tn ≤ 60 := htn
  have ht : ∀ j, t j < 128 := ht
  have hse : se = true ∨ n = 0 := hse
  have hZ : pZ Z S := hZ
  have hW : b_WF S := hW
  have hbt : ∀ j, j < tn → bt j = nI (t j) := hbt
  refine lv_aload_n hx hb dX6_done_0 rfl (lv_at hl 0 rfl) ?_
  refine b_xi (cx_X6_30_14 (rest := []) CX hl.1 (m_X6_reason_14 l (da := da) (td := 100) (a := (A 0)) (asv := (A 1)) (atx := (A 3)) (atk := (A 5)) (hs := hs) (b := b) (w_ := w_) hc_D hc_X hL hW (by omega)) rfl hc_D.at hS rfl ⟨rfl, rfl, Nat.le_of_ble_eq_true rfl, Nat.le_of_ble_eq_true rfl⟩ (Nat.le_of_ble_eq_true rfl) dX6_done_1 ⟨Nat.le_of_ble_eq_true rfl, Nat.le_of_ble_eq_true rfl⟩) hS (fun E9 q9 Hx1 locs hx9 hS he9 => ?_) (fun r H1 locs hp hS => ?_)
  · exact hx9.elim
  obtain ⟨rfl, hE⟩ := hp
  have hc_D := hc_D.ext hE
  have hc_X := hc_X.ext hE
  have hc_sv := hc_sv.ext hE
  have hsa := fun h9 => (hsa h9).ext hE
  have hc_tx := hc_tx.ext hE
  have hc_tb := hc_tb.ext hE
  have hc_tk := hc_tk.ext hE
  have hL := hL.ext hE
  have hV := hV.ext hE
  have hX := hX.tr hE
  have hF := hF.ext hE
  refine lv_if_ne (tgt := 11) hx hb dX6_done_4 (by decide) (fun c_4 => ?_) (fun c_4 => ?_)
  · refine lv_iconst (v := nI 0) hx hb dX6_done_11 rfl ?_
    refine b_xv0 (cx_X6_33 (rest := []) CX hl.1 (m_X1_needState l (x := nI 0) hlt) rfl hS rfl ⟨rfl, rfl, Nat.le_of_ble_eq_true rfl, Nat.le_of_ble_eq_true rfl⟩ (Nat.le_of_ble_eq_true rfl) dX6_done_12 ⟨Nat.le_of_ble_eq_true rfl, Nat.le_of_ble_eq_true rfl⟩) hS (fun E9 q9 Hx2 locs hx9 hS he9 => ?_) (fun hk_12 locs hS => ?_)
    · rw [← hQ]
      exact b_xout htb hlk he9 hS (Nat.le_of_ble_eq_true rfl) (Nat.le_of_ble_eq_true rfl) ⟨c_4, hx9.2.1, hX.tr hx9.2.2⟩
    exact absurd (by decide) hk_12
  · refine lv_iconst (v := nI 1) hx hb dX6_done_7 rfl ?_
    refine lv_goto (tgt := 12) hx hb dX6_done_8 (by decide) ?_
    refine b_xv0 (cx_X6_33 (rest := []) CX hl.1 (m_X1_needState l (x := nI 1) hlt) rfl hS rfl ⟨rfl, rfl, Nat.le_of_ble_eq_true rfl, Nat.le_of_ble_eq_true rfl⟩ (Nat.le_of_ble_eq_true rfl) dX6_done_12 ⟨Nat.le_of_ble_eq_true rfl, Nat.le_of_ble_eq_true rfl⟩) hS (fun E9 q9 Hx3 locs hx9 hS he9 => ?_) (fun hk_12 locs hS => ?_)
    · exact absurd hx9.1 (by decide)
    refine lv_aload_n hx hb dX6_done_15 rfl (lv_at hl 0 rfl) ?_
    refine gf_X6_3_14 CX hc_D.at rfl dX6_done_16 ?_
    have hXR : XR G B0 τ A H1 (S, n, L, tn, t) := ⟨d0, c0, ids, P0, F, M, E, Z, sm, rs, se, ml, hs, bt, tk9, hc_X, hc_sv, hsa, hse, hc_tx, hc_tb, hbt, hc_tk, hL, hZ, hW, hV, hd0, hdc, hn, htn, ht⟩
    refine b_cv (cs_X6_37 (rest := []) CX hl.1 (m_X1_save l  hXR) rfl rfl rfl hc_X.at hS rfl ⟨rfl, rfl, Nat.le_of_ble_eq_true rfl, Nat.le_of_ble_eq_true rfl⟩ (Nat.le_of_ble_eq_true rfl) dX6_done_19 ⟨Nat.le_of_ble_eq_true rfl, Nat.le_of_ble_eq_true rfl⟩) hS (fun H4 locs hp hS => ?_)
    obtain ⟨τ4, hA9, hF9, hXR⟩ := hp
    have hc_D := hc_D.ca hF9 hA9 (show ¬ (100 = 1 ∨ 100 = 2 ∨ 1000 ≤ 100) by omega)
    have hF0 := hF.tr hA hF9 (fun q9 hq9 x9 => by have x8 : τ q9 = 1 ∨ τ q9 = 2 ∨ 1000 ≤ τ q9 := x9; show τ q9 < 10 ∨ 1000 ≤ τ q9; omega)
    have hA := hA.tr hA9 hF.1
    have hF := hF0
    have hXR : XR G B0 τ4 A H4 (S, (p_sn n), (p_L L S n), tn, t) := hXR
    obtain ⟨d04, c04, ids4, P04, F4, M4, E4, Z4, sm4, rs4, se4, ml4, hs4, bt4, tk94, hc_X, hc_sv, hsa, hse, hc_tx, hc_tb, hbt, hc_tk, hL, hZ, hW, hV, hd0, hdc, hn, htn, ht⟩ := hXR
    have hc_X : b_tt G B0 τ4 H4 ((A 0)) 0 (.inr (0, [.ref ((F4 0)), .ref ((A 1)), .ref ((A 3)), .ref ((A 5)), .long hs4])) := hc_X
    have hc_sv : b_tt G B0 τ4 H4 ((A 1)) 1 (.inr (2, [.int sm4, .ref ((if se4 = true then rs4 else G.2.2 0)), .int (nI ((p_sn n)))])) := hc_sv
    have hsa : (se4 = true → b_tt G B0 τ4 H4 rs4 2 (.inl (G.2.1 2, q_refs 10 (fun j => if j < (p_sn n) then some (P04 j) else none)))) := hsa
    have hc_tx : b_tt G B0 τ4 H4 ((A 3)) 3 (.inr (3, [.ref ((A 4)), .int (nI 0), .int ml4, .int (nI tn)])) := hc_tx
    have hc_tb : b_tt G B0 τ4 H4 ((A 4)) 4 (.inl (G.2.1 1, 60, .inl bt4)) := hc_tb
    have hc_tk : b_tt G B0 τ4 H4 ((A 5)) 5 (.inl (G.2.1 0, 8, .inl tk94)) := hc_tk
    have hL : LR G B0 τ4 d04 F4 M4 E4 H4 S Z4 := hL
    have hV : SV G B0 τ4 d04 c04 ((p_sn n)) ids4 P04 H4 ((p_L L S n)) := hV
    have hn8 := hL.2.2.2.1
    have hn6 := hL.2.2.2.2
    have hnb : nb S = nb S := rfl
    have hns : ns S = ns S := rfl
    have hn : (p_sn n) ≤ 6 := hn
    have htn : tn ≤ 60 := htn
    have ht : ∀ j, t j < 128 := ht
    have hse : se4 = true ∨ (p_sn n) = 0 := hse
    have hZ : pZ Z4 S := hZ
    have hW : b_WF S := hW
    have hbt : ∀ j, j < tn → bt4 j = nI (t j) := hbt
    refine lv_aload_n hx hb dX6_done_22 rfl (lv_at hl 0 rfl) ?_
    refine b_ci (cs_X6_40_14 (rest := []) CX hl.1 (m_X7_does l (da := da) (td := 100) (a := (A 0)) (asv := (A 1)) (atx := (A 3)) (atk := (A 5)) (hs := hs4) (b := b) (w_ := w_) hc_D hc_X hL hW (by omega) (by omega) (by omega)) rfl hc_D.at hS rfl ⟨rfl, rfl, Nat.le_of_ble_eq_true rfl, Nat.le_of_ble_eq_true rfl⟩ (Nat.le_of_ble_eq_true rfl) dX6_done_23 ⟨Nat.le_of_ble_eq_true rfl, Nat.le_of_ble_eq_true rfl⟩) hS (fun r H5 locs hp hS => ?_)
    obtain ⟨rfl, hF9, hL9⟩ := hp
    have hc_D := hc_D.fr hF9 (show ¬ (1000 * d04 ≤ 100 ∧ 100 < 1000 * d04 + 1000) by omega)
    have hc_X := hc_X.fr hF9 (show ¬ (1000 * d04 ≤ 0 ∧ 0 < 1000 * d04 + 1000) by omega)
    have hc_sv := hc_sv.fr hF9 (show ¬ (1000 * d04 ≤ 1 ∧ 1 < 1000 * d04 + 1000) by omega)
    have hsa := fun h9 => (hsa h9).fr hF9 (show ¬ (1000 * d04 ≤ 2 ∧ 2 < 1000 * d04 + 1000) by omega)
    have hc_tx := hc_tx.fr hF9 (show ¬ (1000 * d04 ≤ 3 ∧ 3 < 1000 * d04 + 1000) by omega)
    have hc_tb := hc_tb.fr hF9 (show ¬ (1000 * d04 ≤ 4 ∧ 4 < 1000 * d04 + 1000) by omega)
    have hc_tk := hc_tk.fr hF9 (show ¬ (1000 * d04 ≤ 5 ∧ 5 < 1000 * d04 + 1000) by omega)
    have hV := hV.fr hF9 (fun k9 h1 h2 h3 i9 hi9 => show ¬ (1000 * d04 ≤ (1000 * k9 + i9) ∧ (1000 * k9 + i9) < 1000 * d04 + 1000) by omega)
    have hz9 := hF.1
    have hF0 := hF.tr hA hF9 (fun q9 hq9 x9 => by have x8 : 1000 * d04 ≤ τ q9 ∧ τ q9 < 1000 * d04 + 1000 := x9; show τ q9 < 10 ∨ 1000 ≤ τ q9; omega)
    have hF := hF0
    have hL : LR G B0 τ4 d04 F4 M4 E4 H5 ((s_fill S b w_)) Z4 := hL9
    rw [← hQ]
    exact vx_ret (b_iret CX hr hlk hS (Nat.le_of_ble_eq_true rfl) (Nat.le_of_ble_eq_true rfl) dX6_done_26 (⟨c_4, rfl, _, hA, hF, ⟨d04, c04, ids4, P04, F4, M4, E4, Z4, sm4, rs4, se4, ml4, hs4, bt4, tk94, hc_X, hc_sv, hsa, hse, hc_tx, hc_tb, hbt, hc_tk, hL, (pZ.of hZ (fun i j => by simp [s_fill, u3])), (hW1 c_4), hV, hd0, hdc, hn, htn, ht⟩⟩))
theorem cx_X6_30_15 {p : Program} {l : Launch} {e : Env} {R : Room} {s : State} {m : MethodId} {args : Array Value} {below : List Frame} {meth : Method} {c : Code} {H : Heap} {locs : List Loc} {cells slots : Nat} {cc : ByteArray} {pc nL a : Nat} {ls : Array Slot} {rest : List Value} {G : b_G} {B0 : Nat} (CX : b_Cx p s m args c cc nL RX6 G B0) (hls : ls.size = nL) {rm : Room} {mc ms : Nat} {As st0 : List Value} {Qc : Array Value → State → Outcome → State → Prop} {XC : String → Addr → State → State → Prop} (hM : vx_Met l yX6_reason (wsW_ yX6_reason cX6_reason 2 (Option.some Jvm.ClassFile.FieldType.int) [((0 : Nat), (5 : Nat), (6 : Nat), (18 : Nat)), ((0 : Nat), (5 : Nat), (6 : Nat), (20 : Nat)), ((0 : Nat), (5 : Nat), (6 : Nat), (22 : Nat)), ((0 : Nat), (5 : Nat), (12 : Nat), (25 : Nat))]) rm (b_Pc G B0 H (.ref a :: As)) Qc XC mc ms (b_A B0)) (hn : As.length = 0) {fs : List Value} (hP : b_at G a (.inr (15, fs)) H) (hS : va_S (b_A B0) s.heap H locs) (hst : st0 = As.reverse ++ .ref a :: rest) (hr : rm.cells = mc ∧ rm.slots = ms ∧ rm.frames + 1 ≤ R.frames ∧ 8 + (2 + 11) + rm.locals ≤ R.locals) (hw : (rest.map fun v => v.category).sum ≤ 8) (hdg : decode cc pc = .ok (.invokevirtual 30, 3)) (hf : cells + mc ≤ R.cells ∧ slots + ms ≤ R.slots) : vx_Run p l e R s m args below meth c H locs cells slots mc ms (F0 m pc ls st0) rest (Qc (Value.ref a :: As).toArray) XC (b_A B0) := vx_runVX (C := RX16) CX.fix hM (b_cwVC 0 CX.ts q1181 q1182 q1190 q104 q1193 hr.1 hr.2.1 ⟨by decide, by decide, by decide +kernel⟩ ⟨hr.2.2.1, hr.2.2.2⟩) ⟨b_blind G B0 H _, b_recv CX.K (ci := 15) rfl hP, b_pre _ CX.K hS⟩ rfl hn hls hst (lv_room hw) hdg hf
theorem gf_X6_3_15 {p : Program} {l : Launch} {e : Env} {R : Room} {s : State} {m : MethodId} {args : Array Value} {below : List Frame} {meth : Method} {c : Code} {H : Heap} {locs : List Loc} {cells slots : Nat} {Q : State → Prop} {cc : ByteArray} {pc nL a : Nat} {ls : Array Slot} {rest : List Value} {G : b_G} {B0 : Nat} (CX : b_Cx p s m args c cc nL RX6 G B0) {fs : List Value} (hP : b_at G a (.inr (15, fs)) H) {v : Value} (hv : fs[0]? = some v) (hdg : decode cc pc = .ok (.getfield 3, 3)) (kk : W p l e R s m args below meth c H locs cells slots Q (F0 m (pc + 3) ls (v :: rest))) : W p l e R s m args below meth c H locs cells slots Q (F0 m pc ls (.ref a :: rest)) := b_get CX in_X16 rfl 0 (by decide) q1165 (Or.inl rfl) hP hv hdg kk
theorem cs_X6_40_15 {p : Program} {l : Launch} {e : Env} {R : Room} {s : State} {m : MethodId} {args : Array Value} {below : List Frame} {meth : Method} {c : Code} {H : Heap} {locs : List Loc} {cells slots : Nat} {cc : ByteArray} {pc nL a : Nat} {ls : Array Slot} {rest : List Value} {G : b_G} {B0 : Nat} (CX : b_Cx p s m args c cc nL RX6 G B0) (hls : ls.size = nL) {rm : Room} {mc ms : Nat} {As st0 : List Value} {Qc : Array Value → State → Outcome → State → Prop} (hM : Met l yX16_does (ws_ yX16_does cX16_does 1 (Option.some Jvm.ClassFile.FieldType.int)) rm (b_Pc G B0 H (.ref a :: As)) Qc mc ms (b_A B0)) (hn : As.length = 0) {fs : List Value} (hP : b_at G a (.inr (15, fs)) H) (hS : va_S (b_A B0) s.heap H locs) (hst : st0 = As.reverse ++ .ref a :: rest) (hr : rm.cells = mc ∧ rm.slots = ms ∧ rm.frames + 1 ≤ R.frames ∧ 8 + (1 + 11) + rm.locals ≤ R.locals) (hw : (rest.map fun v => v.category).sum ≤ 8) (hdg : decode cc pc = .ok (.invokevirtual 40, 3)) (hf : cells + mc ≤ R.cells ∧ slots + ms ≤ R.slots) : va_Run p l e R s m args below meth c H locs cells slots mc ms (F0 m pc ls st0) rest (Qc (Value.ref a :: As).toArray) (b_A B0) := va_runU CX.fix hM (va_cwA (C := RX16) (owner := RX6) 0 CX.ts (lw_U q1363 q1365 q1411 q1412 q114 q1413) rfl hr.1 hr.2.1 (CX.K.2.1 _ q1364 rfl) ⟨by decide, by decide, by decide +kernel⟩ ⟨hr.2.2.1, hr.2.2.2⟩) ⟨b_blind G B0 H _, b_recv CX.K (ci := 15) rfl hP, b_pre _ CX.K hS⟩ rfl hn hls hst (lv_room hw) hdg hf
set_option maxHeartbeats 2000000 in
set_option maxRecDepth 100000 in
theorem m_X6_done_15 (l : Launch) {G : b_G} {B0 : Nat} {H : Heap} {τ : b_T} {A : Nat → Nat} {S : b_St} {n : Nat} {L : Nat → b_St} {tn : Nat} {t : Nat → Nat} {da : Nat} {b : Nat} {w_ : Int32} (hc_D : b_tt G B0 τ H da 100 (.inr (15, [.ref ((A 0)), .int (nI b), .int w_, .ref ((A 0))]))) (hlt : l.stackTraces = false) (hXR : XR G B0 τ A H (S, n, L, tn, t)) (hBb : b < nb S) (hW1 : (c_lt (S 1 b 3) w_) = nI 0 → b_WF ((s_lose S b w_))) : vx_Met l yX6_done (ws_ yX6_done cX6_done 1 (Option.some Jvm.ClassFile.FieldType.int)) ({ frames := 9, cells := 56, slots := 473, locals := 191 } : Room) (b_Pc G B0 H [.ref da]) (b_Qi B0 (fun r H1 => (c_lt (S 1 b 3) w_) = nI 0 ∧ r = S 1 b 3 - w_ ∧ ∃ τ1 : b_T, b_Ag τ τ1 H ∧ b_Fr τ (fun t => t < 10 ∨ 1000 ≤ t) H H1 ∧ XR G B0 τ1 A H1 ((s_lose S b w_), (p_sn n), (p_L L S n), tn, t))) (b_X B0 (fun E9 q9 H9 => ¬ (c_lt (S 1 b 3) w_) = nI 0 ∧ E9 = "java/lang/IllegalStateException" ∧ b_Ext H H9)) 56 473 (b_A B0) := by
  refine b_ofX (by decide) (Nat.le_of_ble_eq_true rfl) ?_
  intro p e s m below meth c CX hr hlk htb hS ls hl
  have CX : b_Cx p s m _ c cX6_done 1 RX6 G B0 := CX
  have hx := CX.hx
  have hb := CX.hb
  have hl : lv_has ls 1 [(0, .ref da)] := hl
  generalize hQ : vx_MQ below (b_Qi B0 (fun r H1 => (c_lt (S 1 b 3) w_) = nI 0 ∧ r = S 1 b 3 - w_ ∧ ∃ τ1 : b_T, b_Ag τ τ1 H ∧ b_Fr τ (fun t => t < 10 ∨ 1000 ≤ t) H H1 ∧ XR G B0 τ1 A H1 ((s_lose S b w_), (p_sn n), (p_L L S n), tn, t))) (b_X B0 (fun E9 q9 H9 => ¬ (c_lt (S 1 b 3) w_) = nI 0 ∧ E9 = "java/lang/IllegalStateException" ∧ b_Ext H H9)) ([.ref da] : List Value).toArray s 56 473 (b_A B0) = Q
  have hF : b_Fr τ (fun t => t < 10 ∨ 1000 ≤ t) H H := b_Fr.rf
  have hA : b_Ag τ τ H := b_Ag.rf
  have hX : b_Ext H H := b_Ext.rf
  obtain ⟨d0, c0, ids, P0, F, M, E, Z, sm, rs, se, ml, hs, bt, tk9, hc_X, hc_sv, hsa, hse, hc_tx, hc_tb, hbt, hc_tk, hL, hZ, hW, hV, hd0, hdc, hn, htn, ht⟩ := hXR
  have hc_X : b_tt G B0 τ H ((A 0)) 0 (.inr (0, [.ref ((F 0)), .ref ((A 1)), .ref ((A 3)), .ref ((A 5)), .long hs])) := hc_X
  have hc_sv : b_tt G B0 τ H ((A 1)) 1 (.inr (2, [.int sm, .ref ((if se = true then rs else G.2.2 0)), .int (nI n)])) := hc_sv
  have hsa : (se = true → b_tt G B0 τ H rs 2 (.inl (G.2.1 2, q_refs 10 (fun j => if j < n then some (P0 j) else none)))) := hsa
  have hc_tx : b_tt G B0 τ H ((A 3)) 3 (.inr (3, [.ref ((A 4)), .int (nI 0), .int ml, .int (nI tn)])) := hc_tx
  have hc_tb : b_tt G B0 τ H ((A 4)) 4 (.inl (G.2.1 1, 60, .inl bt)) := hc_tb
  have hc_tk : b_tt G B0 τ H ((A 5)) 5 (.inl (G.2.1 0, 8, .inl tk9)) := hc_tk
  have hL : LR G B0 τ d0 F M E H S Z := hL
  have hV : SV G B0 τ d0 c0 n ids P0 H L := hV
  have hn8 := hL.2.2.2.1
  have hn6 := hL.2.2.2.2
  have hnb : nb S = nb S := rfl
  have hns : ns S = ns S := rfl
  have hn : n ≤ 6 := hn
  have htn : tn ≤ 60 := htn
  have ht : ∀ j, t j < 128 := ht
  have hse : se = true ∨ n = 0 := hse
  have hZ : pZ Z S := hZ
  have hW : b_WF S := hW
  have hbt : ∀ j, j < tn → bt j = nI (t j) := hbt
  refine lv_aload_n hx hb dX6_done_0 rfl (lv_at hl 0 rfl) ?_
  refine b_xi (cx_X6_30_15 (rest := []) CX hl.1 (m_X6_reason_15 l (da := da) (td := 100) (a := (A 0)) (asv := (A 1)) (atx := (A 3)) (atk := (A 5)) (hs := hs) (b := b) (w_ := w_) hc_D hc_X hL hW (by omega)) rfl hc_D.at hS rfl ⟨rfl, rfl, Nat.le_of_ble_eq_true rfl, Nat.le_of_ble_eq_true rfl⟩ (Nat.le_of_ble_eq_true rfl) dX6_done_1 ⟨Nat.le_of_ble_eq_true rfl, Nat.le_of_ble_eq_true rfl⟩) hS (fun E9 q9 Hx1 locs hx9 hS he9 => ?_) (fun r H1 locs hp hS => ?_)
  · exact hx9.elim
  obtain ⟨rfl, hE⟩ := hp
  have hc_D := hc_D.ext hE
  have hc_X := hc_X.ext hE
  have hc_sv := hc_sv.ext hE
  have hsa := fun h9 => (hsa h9).ext hE
  have hc_tx := hc_tx.ext hE
  have hc_tb := hc_tb.ext hE
  have hc_tk := hc_tk.ext hE
  have hL := hL.ext hE
  have hV := hV.ext hE
  have hX := hX.tr hE
  have hF := hF.ext hE
  refine lv_if_ne (tgt := 11) hx hb dX6_done_4 (by decide) (fun c_4 => ?_) (fun c_4 => ?_)
  · refine lv_iconst (v := nI 0) hx hb dX6_done_11 rfl ?_
    refine b_xv0 (cx_X6_33 (rest := []) CX hl.1 (m_X1_needState l (x := nI 0) hlt) rfl hS rfl ⟨rfl, rfl, Nat.le_of_ble_eq_true rfl, Nat.le_of_ble_eq_true rfl⟩ (Nat.le_of_ble_eq_true rfl) dX6_done_12 ⟨Nat.le_of_ble_eq_true rfl, Nat.le_of_ble_eq_true rfl⟩) hS (fun E9 q9 Hx2 locs hx9 hS he9 => ?_) (fun hk_12 locs hS => ?_)
    · rw [← hQ]
      exact b_xout htb hlk he9 hS (Nat.le_of_ble_eq_true rfl) (Nat.le_of_ble_eq_true rfl) ⟨c_4, hx9.2.1, hX.tr hx9.2.2⟩
    exact absurd (by decide) hk_12
  · refine lv_iconst (v := nI 1) hx hb dX6_done_7 rfl ?_
    refine lv_goto (tgt := 12) hx hb dX6_done_8 (by decide) ?_
    refine b_xv0 (cx_X6_33 (rest := []) CX hl.1 (m_X1_needState l (x := nI 1) hlt) rfl hS rfl ⟨rfl, rfl, Nat.le_of_ble_eq_true rfl, Nat.le_of_ble_eq_true rfl⟩ (Nat.le_of_ble_eq_true rfl) dX6_done_12 ⟨Nat.le_of_ble_eq_true rfl, Nat.le_of_ble_eq_true rfl⟩) hS (fun E9 q9 Hx3 locs hx9 hS he9 => ?_) (fun hk_12 locs hS => ?_)
    · exact absurd hx9.1 (by decide)
    refine lv_aload_n hx hb dX6_done_15 rfl (lv_at hl 0 rfl) ?_
    refine gf_X6_3_15 CX hc_D.at rfl dX6_done_16 ?_
    have hXR : XR G B0 τ A H1 (S, n, L, tn, t) := ⟨d0, c0, ids, P0, F, M, E, Z, sm, rs, se, ml, hs, bt, tk9, hc_X, hc_sv, hsa, hse, hc_tx, hc_tb, hbt, hc_tk, hL, hZ, hW, hV, hd0, hdc, hn, htn, ht⟩
    refine b_cv (cs_X6_37 (rest := []) CX hl.1 (m_X1_save l  hXR) rfl rfl rfl hc_X.at hS rfl ⟨rfl, rfl, Nat.le_of_ble_eq_true rfl, Nat.le_of_ble_eq_true rfl⟩ (Nat.le_of_ble_eq_true rfl) dX6_done_19 ⟨Nat.le_of_ble_eq_true rfl, Nat.le_of_ble_eq_true rfl⟩) hS (fun H4 locs hp hS => ?_)
    obtain ⟨τ4, hA9, hF9, hXR⟩ := hp
    have hc_D := hc_D.ca hF9 hA9 (show ¬ (100 = 1 ∨ 100 = 2 ∨ 1000 ≤ 100) by omega)
    have hF0 := hF.tr hA hF9 (fun q9 hq9 x9 => by have x8 : τ q9 = 1 ∨ τ q9 = 2 ∨ 1000 ≤ τ q9 := x9; show τ q9 < 10 ∨ 1000 ≤ τ q9; omega)
    have hA := hA.tr hA9 hF.1
    have hF := hF0
    have hXR : XR G B0 τ4 A H4 (S, (p_sn n), (p_L L S n), tn, t) := hXR
    obtain ⟨d04, c04, ids4, P04, F4, M4, E4, Z4, sm4, rs4, se4, ml4, hs4, bt4, tk94, hc_X, hc_sv, hsa, hse, hc_tx, hc_tb, hbt, hc_tk, hL, hZ, hW, hV, hd0, hdc, hn, htn, ht⟩ := hXR
    have hc_X : b_tt G B0 τ4 H4 ((A 0)) 0 (.inr (0, [.ref ((F4 0)), .ref ((A 1)), .ref ((A 3)), .ref ((A 5)), .long hs4])) := hc_X
    have hc_sv : b_tt G B0 τ4 H4 ((A 1)) 1 (.inr (2, [.int sm4, .ref ((if se4 = true then rs4 else G.2.2 0)), .int (nI ((p_sn n)))])) := hc_sv
    have hsa : (se4 = true → b_tt G B0 τ4 H4 rs4 2 (.inl (G.2.1 2, q_refs 10 (fun j => if j < (p_sn n) then some (P04 j) else none)))) := hsa
    have hc_tx : b_tt G B0 τ4 H4 ((A 3)) 3 (.inr (3, [.ref ((A 4)), .int (nI 0), .int ml4, .int (nI tn)])) := hc_tx
    have hc_tb : b_tt G B0 τ4 H4 ((A 4)) 4 (.inl (G.2.1 1, 60, .inl bt4)) := hc_tb
    have hc_tk : b_tt G B0 τ4 H4 ((A 5)) 5 (.inl (G.2.1 0, 8, .inl tk94)) := hc_tk
    have hL : LR G B0 τ4 d04 F4 M4 E4 H4 S Z4 := hL
    have hV : SV G B0 τ4 d04 c04 ((p_sn n)) ids4 P04 H4 ((p_L L S n)) := hV
    have hn8 := hL.2.2.2.1
    have hn6 := hL.2.2.2.2
    have hnb : nb S = nb S := rfl
    have hns : ns S = ns S := rfl
    have hn : (p_sn n) ≤ 6 := hn
    have htn : tn ≤ 60 := htn
    have ht : ∀ j, t j < 128 := ht
    have hse : se4 = true ∨ (p_sn n) = 0 := hse
    have hZ : pZ Z4 S := hZ
    have hW : b_WF S := hW
    have hbt : ∀ j, j < tn → bt4 j = nI (t j) := hbt
    refine lv_aload_n hx hb dX6_done_22 rfl (lv_at hl 0 rfl) ?_
    refine b_ci (cs_X6_40_15 (rest := []) CX hl.1 (m_X16_does l (da := da) (td := 100) (a := (A 0)) (asv := (A 1)) (atx := (A 3)) (atk := (A 5)) (hs := hs4) (b := b) (w_ := w_) hc_D hc_X hL hW (by omega) (by omega) (by omega)) rfl hc_D.at hS rfl ⟨rfl, rfl, Nat.le_of_ble_eq_true rfl, Nat.le_of_ble_eq_true rfl⟩ (Nat.le_of_ble_eq_true rfl) dX6_done_23 ⟨Nat.le_of_ble_eq_true rfl, Nat.le_of_ble_eq_true rfl⟩) hS (fun r H5 locs hp hS => ?_)
    obtain ⟨rfl, hF9, hL9⟩ := hp
    have hc_D := hc_D.fr hF9 (show ¬ (1000 * d04 ≤ 100 ∧ 100 < 1000 * d04 + 1000) by omega)
    have hc_X := hc_X.fr hF9 (show ¬ (1000 * d04 ≤ 0 ∧ 0 < 1000 * d04 + 1000) by omega)
    have hc_sv := hc_sv.fr hF9 (show ¬ (1000 * d04 ≤ 1 ∧ 1 < 1000 * d04 + 1000) by omega)
    have hsa := fun h9 => (hsa h9).fr hF9 (show ¬ (1000 * d04 ≤ 2 ∧ 2 < 1000 * d04 + 1000) by omega)
    have hc_tx := hc_tx.fr hF9 (show ¬ (1000 * d04 ≤ 3 ∧ 3 < 1000 * d04 + 1000) by omega)
    have hc_tb := hc_tb.fr hF9 (show ¬ (1000 * d04 ≤ 4 ∧ 4 < 1000 * d04 + 1000) by omega)
    have hc_tk := hc_tk.fr hF9 (show ¬ (1000 * d04 ≤ 5 ∧ 5 < 1000 * d04 + 1000) by omega)
    have hV := hV.fr hF9 (fun k9 h1 h2 h3 i9 hi9 => show ¬ (1000 * d04 ≤ (1000 * k9 + i9) ∧ (1000 * k9 + i9) < 1000 * d04 + 1000) by omega)
    have hz9 := hF.1
    have hF0 := hF.tr hA hF9 (fun q9 hq9 x9 => by have x8 : 1000 * d04 ≤ τ q9 ∧ τ q9 < 1000 * d04 + 1000 := x9; show τ q9 < 10 ∨ 1000 ≤ τ q9; omega)
    have hF := hF0
    have hL : LR G B0 τ4 d04 F4 M4 E4 H5 ((s_lose S b w_)) Z4 := hL9
    rw [← hQ]
    exact vx_ret (b_iret CX hr hlk hS (Nat.le_of_ble_eq_true rfl) (Nat.le_of_ble_eq_true rfl) dX6_done_26 (⟨c_4, rfl, _, hA, hF, ⟨d04, c04, ids4, P04, F4, M4, E4, Z4, sm4, rs4, se4, ml4, hs4, bt4, tk94, hc_X, hc_sv, hsa, hse, hc_tx, hc_tb, hbt, hc_tk, hL, (pZ.of hZ (fun i j => by simp [s_lose, u3])), (hW1 c_4), hV, hd0, hdc, hn, htn, ht⟩⟩))
theorem cx_X6_30_16 {p : Program} {l : Launch} {e : Env} {R : Room} {s : State} {m : MethodId} {args : Array Value} {below : List Frame} {meth : Method} {c : Code} {H : Heap} {locs : List Loc} {cells slots : Nat} {cc : ByteArray} {pc nL a : Nat} {ls : Array Slot} {rest : List Value} {G : b_G} {B0 : Nat} (CX : b_Cx p s m args c cc nL RX6 G B0) (hls : ls.size = nL) {rm : Room} {mc ms : Nat} {As st0 : List Value} {Qc : Array Value → State → Outcome → State → Prop} {XC : String → Addr → State → State → Prop} (hM : vx_Met l yX6_reason (wsW_ yX6_reason cX6_reason 2 (Option.some Jvm.ClassFile.FieldType.int) [((0 : Nat), (5 : Nat), (6 : Nat), (18 : Nat)), ((0 : Nat), (5 : Nat), (6 : Nat), (20 : Nat)), ((0 : Nat), (5 : Nat), (6 : Nat), (22 : Nat)), ((0 : Nat), (5 : Nat), (12 : Nat), (25 : Nat))]) rm (b_Pc G B0 H (.ref a :: As)) Qc XC mc ms (b_A B0)) (hn : As.length = 0) {fs : List Value} (hP : b_at G a (.inr (16, fs)) H) (hS : va_S (b_A B0) s.heap H locs) (hst : st0 = As.reverse ++ .ref a :: rest) (hr : rm.cells = mc ∧ rm.slots = ms ∧ rm.frames + 1 ≤ R.frames ∧ 8 + (2 + 11) + rm.locals ≤ R.locals) (hw : (rest.map fun v => v.category).sum ≤ 8) (hdg : decode cc pc = .ok (.invokevirtual 30, 3)) (hf : cells + mc ≤ R.cells ∧ slots + ms ≤ R.slots) : vx_Run p l e R s m args below meth c H locs cells slots mc ms (F0 m pc ls st0) rest (Qc (Value.ref a :: As).toArray) XC (b_A B0) := vx_runVX (C := RX18) CX.fix hM (b_cwVC 0 CX.ts q1181 q1182 q1191 q104 q1193 hr.1 hr.2.1 ⟨by decide, by decide, by decide +kernel⟩ ⟨hr.2.2.1, hr.2.2.2⟩) ⟨b_blind G B0 H _, b_recv CX.K (ci := 16) rfl hP, b_pre _ CX.K hS⟩ rfl hn hls hst (lv_room hw) hdg hf
theorem gf_X6_3_16 {p : Program} {l : Launch} {e : Env} {R : Room} {s : State} {m : MethodId} {args : Array Value} {below : List Frame} {meth : Method} {c : Code} {H : Heap} {locs : List Loc} {cells slots : Nat} {Q : State → Prop} {cc : ByteArray} {pc nL a : Nat} {ls : Array Slot} {rest : List Value} {G : b_G} {B0 : Nat} (CX : b_Cx p s m args c cc nL RX6 G B0) {fs : List Value} (hP : b_at G a (.inr (16, fs)) H) {v : Value} (hv : fs[0]? = some v) (hdg : decode cc pc = .ok (.getfield 3, 3)) (kk : W p l e R s m args below meth c H locs cells slots Q (F0 m (pc + 3) ls (v :: rest))) : W p l e R s m args below meth c H locs cells slots Q (F0 m pc ls (.ref a :: rest)) := b_get CX in_X18 rfl 0 (by decide) q1165 (Or.inl rfl) hP hv hdg kk
theorem cs_X6_40_16 {p : Program} {l : Launch} {e : Env} {R : Room} {s : State} {m : MethodId} {args : Array Value} {below : List Frame} {meth : Method} {c : Code} {H : Heap} {locs : List Loc} {cells slots : Nat} {cc : ByteArray} {pc nL a : Nat} {ls : Array Slot} {rest : List Value} {G : b_G} {B0 : Nat} (CX : b_Cx p s m args c cc nL RX6 G B0) (hls : ls.size = nL) {rm : Room} {mc ms : Nat} {As st0 : List Value} {Qc : Array Value → State → Outcome → State → Prop} (hM : Met l yX18_does (ws_ yX18_does cX18_does 1 (Option.some Jvm.ClassFile.FieldType.int)) rm (b_Pc G B0 H (.ref a :: As)) Qc mc ms (b_A B0)) (hn : As.length = 0) {fs : List Value} (hP : b_at G a (.inr (16, fs)) H) (hS : va_S (b_A B0) s.heap H locs) (hst : st0 = As.reverse ++ .ref a :: rest) (hr : rm.cells = mc ∧ rm.slots = ms ∧ rm.frames + 1 ≤ R.frames ∧ 8 + (1 + 11) + rm.locals ≤ R.locals) (hw : (rest.map fun v => v.category).sum ≤ 8) (hdg : decode cc pc = .ok (.invokevirtual 40, 3)) (hf : cells + mc ≤ R.cells ∧ slots + ms ≤ R.slots) : va_Run p l e R s m args below meth c H locs cells slots mc ms (F0 m pc ls st0) rest (Qc (Value.ref a :: As).toArray) (b_A B0) := va_runU CX.fix hM (va_cwA (C := RX18) (owner := RX6) 0 CX.ts (lw_U q1363 q1365 q1418 q1419 q116 q1420) rfl hr.1 hr.2.1 (CX.K.2.1 _ q1364 rfl) ⟨by decide, by decide, by decide +kernel⟩ ⟨hr.2.2.1, hr.2.2.2⟩) ⟨b_blind G B0 H _, b_recv CX.K (ci := 16) rfl hP, b_pre _ CX.K hS⟩ rfl hn hls hst (lv_room hw) hdg hf
set_option maxHeartbeats 2000000 in
set_option maxRecDepth 100000 in
theorem m_X6_done_16 (l : Launch) {G : b_G} {B0 : Nat} {H : Heap} {τ : b_T} {A : Nat → Nat} {S : b_St} {n : Nat} {L : Nat → b_St} {tn : Nat} {t : Nat → Nat} {da : Nat} {k : Nat} {w_ : Int32} (hc_D : b_tt G B0 τ H da 100 (.inr (16, [.ref ((A 0)), .int (nI k), .int w_, .ref ((A 0))]))) (hlt : l.stackTraces = false) (hXR : XR G B0 τ A H (S, n, L, tn, t)) (hk : k < 3) (hW1 : (c_lt (p_yard S k) w_) = nI 0 → b_WF ((s_sort S k w_))) : vx_Met l yX6_done (ws_ yX6_done cX6_done 1 (Option.some Jvm.ClassFile.FieldType.int)) ({ frames := 9, cells := 56, slots := 473, locals := 191 } : Room) (b_Pc G B0 H [.ref da]) (b_Qi B0 (fun r H1 => (c_lt (p_yard S k) w_) = nI 0 ∧ r = p_yard (s_sort S k w_) k ∧ ∃ τ1 : b_T, b_Ag τ τ1 H ∧ b_Fr τ (fun t => t < 10 ∨ 1000 ≤ t) H H1 ∧ XR G B0 τ1 A H1 ((s_sort S k w_), (p_sn n), (p_L L S n), tn, t))) (b_X B0 (fun E9 q9 H9 => ¬ (c_lt (p_yard S k) w_) = nI 0 ∧ E9 = "java/lang/IllegalStateException" ∧ b_Ext H H9)) 56 473 (b_A B0) := by
  refine b_ofX (by decide) (Nat.le_of_ble_eq_true rfl) ?_
  intro p e s m below meth c CX hr hlk htb hS ls hl
  have CX : b_Cx p s m _ c cX6_done 1 RX6 G B0 := CX
  have hx := CX.hx
  have hb := CX.hb
  have hl : lv_has ls 1 [(0, .ref da)] := hl
  generalize hQ : vx_MQ below (b_Qi B0 (fun r H1 => (c_lt (p_yard S k) w_) = nI 0 ∧ r = p_yard (s_sort S k w_) k ∧ ∃ τ1 : b_T, b_Ag τ τ1 H ∧ b_Fr τ (fun t => t < 10 ∨ 1000 ≤ t) H H1 ∧ XR G B0 τ1 A H1 ((s_sort S k w_), (p_sn n), (p_L L S n), tn, t))) (b_X B0 (fun E9 q9 H9 => ¬ (c_lt (p_yard S k) w_) = nI 0 ∧ E9 = "java/lang/IllegalStateException" ∧ b_Ext H H9)) ([.ref da] : List Value).toArray s 56 473 (b_A B0) = Q
  have hF : b_Fr τ (fun t => t < 10 ∨ 1000 ≤ t) H H := b_Fr.rf
  have hA : b_Ag τ τ H := b_Ag.rf
  have hX : b_Ext H H := b_Ext.rf
  obtain ⟨d0, c0, ids, P0, F, M, E, Z, sm, rs, se, ml, hs, bt, tk9, hc_X, hc_sv, hsa, hse, hc_tx, hc_tb, hbt, hc_tk, hL, hZ, hW, hV, hd0, hdc, hn, htn, ht⟩ := hXR
  have hc_X : b_tt G B0 τ H ((A 0)) 0 (.inr (0, [.ref ((F 0)), .ref ((A 1)), .ref ((A 3)), .ref ((A 5)), .long hs])) := hc_X
  have hc_sv : b_tt G B0 τ H ((A 1)) 1 (.inr (2, [.int sm, .ref ((if se = true then rs else G.2.2 0)), .int (nI n)])) := hc_sv
  have hsa : (se = true → b_tt G B0 τ H rs 2 (.inl (G.2.1 2, q_refs 10 (fun j => if j < n then some (P0 j) else none)))) := hsa
  have hc_tx : b_tt G B0 τ H ((A 3)) 3 (.inr (3, [.ref ((A 4)), .int (nI 0), .int ml, .int (nI tn)])) := hc_tx
  have hc_tb : b_tt G B0 τ H ((A 4)) 4 (.inl (G.2.1 1, 60, .inl bt)) := hc_tb
  have hc_tk : b_tt G B0 τ H ((A 5)) 5 (.inl (G.2.1 0, 8, .inl tk9)) := hc_tk
  have hL : LR G B0 τ d0 F M E H S Z := hL
  have hV : SV G B0 τ d0 c0 n ids P0 H L := hV
  have hn8 := hL.2.2.2.1
  have hn6 := hL.2.2.2.2
  have hnb : nb S = nb S := rfl
  have hns : ns S = ns S := rfl
  have hn : n ≤ 6 := hn
  have htn : tn ≤ 60 := htn
  have ht : ∀ j, t j < 128 := ht
  have hse : se = true ∨ n = 0 := hse
  have hZ : pZ Z S := hZ
  have hW : b_WF S := hW
  have hbt : ∀ j, j < tn → bt j = nI (t j) := hbt
  refine lv_aload_n hx hb dX6_done_0 rfl (lv_at hl 0 rfl) ?_
  refine b_xi (cx_X6_30_16 (rest := []) CX hl.1 (m_X6_reason_16 l (da := da) (td := 100) (a := (A 0)) (asv := (A 1)) (atx := (A 3)) (atk := (A 5)) (hs := hs) (k := k) (w_ := w_) hc_D hc_X hL hW (by omega)) rfl hc_D.at hS rfl ⟨rfl, rfl, Nat.le_of_ble_eq_true rfl, Nat.le_of_ble_eq_true rfl⟩ (Nat.le_of_ble_eq_true rfl) dX6_done_1 ⟨Nat.le_of_ble_eq_true rfl, Nat.le_of_ble_eq_true rfl⟩) hS (fun E9 q9 Hx1 locs hx9 hS he9 => ?_) (fun r H1 locs hp hS => ?_)
  · exact hx9.elim
  obtain ⟨rfl, hE⟩ := hp
  have hc_D := hc_D.ext hE
  have hc_X := hc_X.ext hE
  have hc_sv := hc_sv.ext hE
  have hsa := fun h9 => (hsa h9).ext hE
  have hc_tx := hc_tx.ext hE
  have hc_tb := hc_tb.ext hE
  have hc_tk := hc_tk.ext hE
  have hL := hL.ext hE
  have hV := hV.ext hE
  have hX := hX.tr hE
  have hF := hF.ext hE
  refine lv_if_ne (tgt := 11) hx hb dX6_done_4 (by decide) (fun c_4 => ?_) (fun c_4 => ?_)
  · refine lv_iconst (v := nI 0) hx hb dX6_done_11 rfl ?_
    refine b_xv0 (cx_X6_33 (rest := []) CX hl.1 (m_X1_needState l (x := nI 0) hlt) rfl hS rfl ⟨rfl, rfl, Nat.le_of_ble_eq_true rfl, Nat.le_of_ble_eq_true rfl⟩ (Nat.le_of_ble_eq_true rfl) dX6_done_12 ⟨Nat.le_of_ble_eq_true rfl, Nat.le_of_ble_eq_true rfl⟩) hS (fun E9 q9 Hx2 locs hx9 hS he9 => ?_) (fun hk_12 locs hS => ?_)
    · rw [← hQ]
      exact b_xout htb hlk he9 hS (Nat.le_of_ble_eq_true rfl) (Nat.le_of_ble_eq_true rfl) ⟨c_4, hx9.2.1, hX.tr hx9.2.2⟩
    exact absurd (by decide) hk_12
  · refine lv_iconst (v := nI 1) hx hb dX6_done_7 rfl ?_
    refine lv_goto (tgt := 12) hx hb dX6_done_8 (by decide) ?_
    refine b_xv0 (cx_X6_33 (rest := []) CX hl.1 (m_X1_needState l (x := nI 1) hlt) rfl hS rfl ⟨rfl, rfl, Nat.le_of_ble_eq_true rfl, Nat.le_of_ble_eq_true rfl⟩ (Nat.le_of_ble_eq_true rfl) dX6_done_12 ⟨Nat.le_of_ble_eq_true rfl, Nat.le_of_ble_eq_true rfl⟩) hS (fun E9 q9 Hx3 locs hx9 hS he9 => ?_) (fun hk_12 locs hS => ?_)
    · exact absurd hx9.1 (by decide)
    refine lv_aload_n hx hb dX6_done_15 rfl (lv_at hl 0 rfl) ?_
    refine gf_X6_3_16 CX hc_D.at rfl dX6_done_16 ?_
    have hXR : XR G B0 τ A H1 (S, n, L, tn, t) := ⟨d0, c0, ids, P0, F, M, E, Z, sm, rs, se, ml, hs, bt, tk9, hc_X, hc_sv, hsa, hse, hc_tx, hc_tb, hbt, hc_tk, hL, hZ, hW, hV, hd0, hdc, hn, htn, ht⟩
    refine b_cv (cs_X6_37 (rest := []) CX hl.1 (m_X1_save l  hXR) rfl rfl rfl hc_X.at hS rfl ⟨rfl, rfl, Nat.le_of_ble_eq_true rfl, Nat.le_of_ble_eq_true rfl⟩ (Nat.le_of_ble_eq_true rfl) dX6_done_19 ⟨Nat.le_of_ble_eq_true rfl, Nat.le_of_ble_eq_true rfl⟩) hS (fun H4 locs hp hS => ?_)
    obtain ⟨τ4, hA9, hF9, hXR⟩ := hp
    have hc_D := hc_D.ca hF9 hA9 (show ¬ (100 = 1 ∨ 100 = 2 ∨ 1000 ≤ 100) by omega)
    have hF0 := hF.tr hA hF9 (fun q9 hq9 x9 => by have x8 : τ q9 = 1 ∨ τ q9 = 2 ∨ 1000 ≤ τ q9 := x9; show τ q9 < 10 ∨ 1000 ≤ τ q9; omega)
    have hA := hA.tr hA9 hF.1
    have hF := hF0
    have hXR : XR G B0 τ4 A H4 (S, (p_sn n), (p_L L S n), tn, t) := hXR
    obtain ⟨d04, c04, ids4, P04, F4, M4, E4, Z4, sm4, rs4, se4, ml4, hs4, bt4, tk94, hc_X, hc_sv, hsa, hse, hc_tx, hc_tb, hbt, hc_tk, hL, hZ, hW, hV, hd0, hdc, hn, htn, ht⟩ := hXR
    have hc_X : b_tt G B0 τ4 H4 ((A 0)) 0 (.inr (0, [.ref ((F4 0)), .ref ((A 1)), .ref ((A 3)), .ref ((A 5)), .long hs4])) := hc_X
    have hc_sv : b_tt G B0 τ4 H4 ((A 1)) 1 (.inr (2, [.int sm4, .ref ((if se4 = true then rs4 else G.2.2 0)), .int (nI ((p_sn n)))])) := hc_sv
    have hsa : (se4 = true → b_tt G B0 τ4 H4 rs4 2 (.inl (G.2.1 2, q_refs 10 (fun j => if j < (p_sn n) then some (P04 j) else none)))) := hsa
    have hc_tx : b_tt G B0 τ4 H4 ((A 3)) 3 (.inr (3, [.ref ((A 4)), .int (nI 0), .int ml4, .int (nI tn)])) := hc_tx
    have hc_tb : b_tt G B0 τ4 H4 ((A 4)) 4 (.inl (G.2.1 1, 60, .inl bt4)) := hc_tb
    have hc_tk : b_tt G B0 τ4 H4 ((A 5)) 5 (.inl (G.2.1 0, 8, .inl tk94)) := hc_tk
    have hL : LR G B0 τ4 d04 F4 M4 E4 H4 S Z4 := hL
    have hV : SV G B0 τ4 d04 c04 ((p_sn n)) ids4 P04 H4 ((p_L L S n)) := hV
    have hn8 := hL.2.2.2.1
    have hn6 := hL.2.2.2.2
    have hnb : nb S = nb S := rfl
    have hns : ns S = ns S := rfl
    have hn : (p_sn n) ≤ 6 := hn
    have htn : tn ≤ 60 := htn
    have ht : ∀ j, t j < 128 := ht
    have hse : se4 = true ∨ (p_sn n) = 0 := hse
    have hZ : pZ Z4 S := hZ
    have hW : b_WF S := hW
    have hbt : ∀ j, j < tn → bt4 j = nI (t j) := hbt
    refine lv_aload_n hx hb dX6_done_22 rfl (lv_at hl 0 rfl) ?_
    refine b_ci (cs_X6_40_16 (rest := []) CX hl.1 (m_X18_does l (da := da) (td := 100) (a := (A 0)) (asv := (A 1)) (atx := (A 3)) (atk := (A 5)) (hs := hs4) (k := k) (w_ := w_) hc_D hc_X hL hW (by omega) (by omega) (by omega)) rfl hc_D.at hS rfl ⟨rfl, rfl, Nat.le_of_ble_eq_true rfl, Nat.le_of_ble_eq_true rfl⟩ (Nat.le_of_ble_eq_true rfl) dX6_done_23 ⟨Nat.le_of_ble_eq_true rfl, Nat.le_of_ble_eq_true rfl⟩) hS (fun r H5 locs hp hS => ?_)
    obtain ⟨rfl, hF9, hL9⟩ := hp
    have hc_D := hc_D.fr hF9 (show ¬ (1000 * d04 ≤ 100 ∧ 100 < 1000 * d04 + 1000) by omega)
    have hc_X := hc_X.fr hF9 (show ¬ (1000 * d04 ≤ 0 ∧ 0 < 1000 * d04 + 1000) by omega)
    have hc_sv := hc_sv.fr hF9 (show ¬ (1000 * d04 ≤ 1 ∧ 1 < 1000 * d04 + 1000) by omega)
    have hsa := fun h9 => (hsa h9).fr hF9 (show ¬ (1000 * d04 ≤ 2 ∧ 2 < 1000 * d04 + 1000) by omega)
    have hc_tx := hc_tx.fr hF9 (show ¬ (1000 * d04 ≤ 3 ∧ 3 < 1000 * d04 + 1000) by omega)
    have hc_tb := hc_tb.fr hF9 (show ¬ (1000 * d04 ≤ 4 ∧ 4 < 1000 * d04 + 1000) by omega)
    have hc_tk := hc_tk.fr hF9 (show ¬ (1000 * d04 ≤ 5 ∧ 5 < 1000 * d04 + 1000) by omega)
    have hV := hV.fr hF9 (fun k9 h1 h2 h3 i9 hi9 => show ¬ (1000 * d04 ≤ (1000 * k9 + i9) ∧ (1000 * k9 + i9) < 1000 * d04 + 1000) by omega)
    have hz9 := hF.1
    have hF0 := hF.tr hA hF9 (fun q9 hq9 x9 => by have x8 : 1000 * d04 ≤ τ q9 ∧ τ q9 < 1000 * d04 + 1000 := x9; show τ q9 < 10 ∨ 1000 ≤ τ q9; omega)
    have hF := hF0
    have hL : LR G B0 τ4 d04 F4 M4 E4 H5 ((s_sort S k w_)) Z4 := hL9
    rw [← hQ]
    exact vx_ret (b_iret CX hr hlk hS (Nat.le_of_ble_eq_true rfl) (Nat.le_of_ble_eq_true rfl) dX6_done_26 (⟨c_4, rfl, _, hA, hF, ⟨d04, c04, ids4, P04, F4, M4, E4, Z4, sm4, rs4, se4, ml4, hs4, bt4, tk94, hc_X, hc_sv, hsa, hse, hc_tx, hc_tb, hbt, hc_tk, hL, (pZ.of hZ (fun i j => by simp [s_sort, s_mv, u3])), (hW1 c_4), hV, hd0, hdc, hn, htn, ht⟩⟩))
theorem cx_X6_30_17 {p : Program} {l : Launch} {e : Env} {R : Room} {s : State} {m : MethodId} {args : Array Value} {below : List Frame} {meth : Method} {c : Code} {H : Heap} {locs : List Loc} {cells slots : Nat} {cc : ByteArray} {pc nL a : Nat} {ls : Array Slot} {rest : List Value} {G : b_G} {B0 : Nat} (CX : b_Cx p s m args c cc nL RX6 G B0) (hls : ls.size = nL) {rm : Room} {mc ms : Nat} {As st0 : List Value} {Qc : Array Value → State → Outcome → State → Prop} {XC : String → Addr → State → State → Prop} (hM : vx_Met l yX6_reason (wsW_ yX6_reason cX6_reason 2 (Option.some Jvm.ClassFile.FieldType.int) [((0 : Nat), (5 : Nat), (6 : Nat), (18 : Nat)), ((0 : Nat), (5 : Nat), (6 : Nat), (20 : Nat)), ((0 : Nat), (5 : Nat), (6 : Nat), (22 : Nat)), ((0 : Nat), (5 : Nat), (12 : Nat), (25 : Nat))]) rm (b_Pc G B0 H (.ref a :: As)) Qc XC mc ms (b_A B0)) (hn : As.length = 0) {fs : List Value} (hP : b_at G a (.inr (17, fs)) H) (hS : va_S (b_A B0) s.heap H locs) (hst : st0 = As.reverse ++ .ref a :: rest) (hr : rm.cells = mc ∧ rm.slots = ms ∧ rm.frames + 1 ≤ R.frames ∧ 8 + (2 + 11) + rm.locals ≤ R.locals) (hw : (rest.map fun v => v.category).sum ≤ 8) (hdg : decode cc pc = .ok (.invokevirtual 30, 3)) (hf : cells + mc ≤ R.cells ∧ slots + ms ≤ R.slots) : vx_Run p l e R s m args below meth c H locs cells slots mc ms (F0 m pc ls st0) rest (Qc (Value.ref a :: As).toArray) XC (b_A B0) := vx_runVX (C := RX19) CX.fix hM (b_cwVC 0 CX.ts q1181 q1182 q1192 q104 q1193 hr.1 hr.2.1 ⟨by decide, by decide, by decide +kernel⟩ ⟨hr.2.2.1, hr.2.2.2⟩) ⟨b_blind G B0 H _, b_recv CX.K (ci := 17) rfl hP, b_pre _ CX.K hS⟩ rfl hn hls hst (lv_room hw) hdg hf
theorem gf_X6_3_17 {p : Program} {l : Launch} {e : Env} {R : Room} {s : State} {m : MethodId} {args : Array Value} {below : List Frame} {meth : Method} {c : Code} {H : Heap} {locs : List Loc} {cells slots : Nat} {Q : State → Prop} {cc : ByteArray} {pc nL a : Nat} {ls : Array Slot} {rest : List Value} {G : b_G} {B0 : Nat} (CX : b_Cx p s m args c cc nL RX6 G B0) {fs : List Value} (hP : b_at G a (.inr (17, fs)) H) {v : Value} (hv : fs[0]? = some v) (hdg : decode cc pc = .ok (.getfield 3, 3)) (kk : W p l e R s m args below meth c H locs cells slots Q (F0 m (pc + 3) ls (v :: rest))) : W p l e R s m args below meth c H locs cells slots Q (F0 m pc ls (.ref a :: rest)) := b_get CX in_X19 rfl 0 (by decide) q1165 (Or.inl rfl) hP hv hdg kk
theorem cs_X6_40_17 {p : Program} {l : Launch} {e : Env} {R : Room} {s : State} {m : MethodId} {args : Array Value} {below : List Frame} {meth : Method} {c : Code} {H : Heap} {locs : List Loc} {cells slots : Nat} {cc : ByteArray} {pc nL a : Nat} {ls : Array Slot} {rest : List Value} {G : b_G} {B0 : Nat} (CX : b_Cx p s m args c cc nL RX6 G B0) (hls : ls.size = nL) {rm : Room} {mc ms : Nat} {As st0 : List Value} {Qc : Array Value → State → Outcome → State → Prop} (hM : Met l yX19_does (ws_ yX19_does cX19_does 1 (Option.some Jvm.ClassFile.FieldType.int)) rm (b_Pc G B0 H (.ref a :: As)) Qc mc ms (b_A B0)) (hn : As.length = 0) {fs : List Value} (hP : b_at G a (.inr (17, fs)) H) (hS : va_S (b_A B0) s.heap H locs) (hst : st0 = As.reverse ++ .ref a :: rest) (hr : rm.cells = mc ∧ rm.slots = ms ∧ rm.frames + 1 ≤ R.frames ∧ 8 + (1 + 11) + rm.locals ≤ R.locals) (hw : (rest.map fun v => v.category).sum ≤ 8) (hdg : decode cc pc = .ok (.invokevirtual 40, 3)) (hf : cells + mc ≤ R.cells ∧ slots + ms ≤ R.slots) : va_Run p l e R s m args below meth c H locs cells slots mc ms (F0 m pc ls st0) rest (Qc (Value.ref a :: As).toArray) (b_A B0) := va_runU CX.fix hM (va_cwA (C := RX19) (owner := RX6) 0 CX.ts (lw_U q1363 q1365 q1425 q1426 q117 q1427) rfl hr.1 hr.2.1 (CX.K.2.1 _ q1364 rfl) ⟨by decide, by decide, by decide +kernel⟩ ⟨hr.2.2.1, hr.2.2.2⟩) ⟨b_blind G B0 H _, b_recv CX.K (ci := 17) rfl hP, b_pre _ CX.K hS⟩ rfl hn hls hst (lv_room hw) hdg hf
set_option maxHeartbeats 2000000 in
set_option maxRecDepth 100000 in
theorem m_X6_done_17 (l : Launch) {G : b_G} {B0 : Nat} {H : Heap} {τ : b_T} {A : Nat → Nat} {S : b_St} {n : Nat} {L : Nat → b_St} {tn : Nat} {t : Nat → Nat} {da : Nat} {x : Nat} {w_ : Int32} {y : Nat} (hc_D : b_tt G B0 τ H da 100 (.inr (17, [.ref ((A 0)), .int (nI x), .int w_, .int (nI y), .ref ((A 0))]))) (hlt : l.stackTraces = false) (hXR : XR G B0 τ A H (S, n, L, tn, t)) (hBx : x < nb S) (hBy : y < nb S) (hne : ¬ x = y) (hW1 : (c_lt (S 1 x 1) w_) = nI 0 → b_WF ((s_swap S x y w_))) : vx_Met l yX6_done (ws_ yX6_done cX6_done 1 (Option.some Jvm.ClassFile.FieldType.int)) ({ frames := 9, cells := 56, slots := 473, locals := 191 } : Room) (b_Pc G B0 H [.ref da]) (b_Qi B0 (fun r H1 => (c_lt (S 1 x 1) w_) = nI 0 ∧ r = S 3 x y + w_ - S 3 y x ∧ ∃ τ1 : b_T, b_Ag τ τ1 H ∧ b_Fr τ (fun t => t < 10 ∨ 1000 ≤ t) H H1 ∧ XR G B0 τ1 A H1 ((s_swap S x y w_), (p_sn n), (p_L L S n), tn, t))) (b_X B0 (fun E9 q9 H9 => ¬ (c_lt (S 1 x 1) w_) = nI 0 ∧ E9 = "java/lang/IllegalStateException" ∧ b_Ext H H9)) 56 473 (b_A B0) := by
  refine b_ofX (by decide) (Nat.le_of_ble_eq_true rfl) ?_
  intro p e s m below meth c CX hr hlk htb hS ls hl
  have CX : b_Cx p s m _ c cX6_done 1 RX6 G B0 := CX
  have hx := CX.hx
  have hb := CX.hb
  have hl : lv_has ls 1 [(0, .ref da)] := hl
  generalize hQ : vx_MQ below (b_Qi B0 (fun r H1 => (c_lt (S 1 x 1) w_) = nI 0 ∧ r = S 3 x y + w_ - S 3 y x ∧ ∃ τ1 : b_T, b_Ag τ τ1 H ∧ b_Fr τ (fun t => t < 10 ∨ 1000 ≤ t) H H1 ∧ XR G B0 τ1 A H1 ((s_swap S x y w_), (p_sn n), (p_L L S n), tn, t))) (b_X B0 (fun E9 q9 H9 => ¬ (c_lt (S 1 x 1) w_) = nI 0 ∧ E9 = "java/lang/IllegalStateException" ∧ b_Ext H H9)) ([.ref da] : List Value).toArray s 56 473 (b_A B0) = Q
  have hF : b_Fr τ (fun t => t < 10 ∨ 1000 ≤ t) H H := b_Fr.rf
  have hA : b_Ag τ τ H := b_Ag.rf
  have hX : b_Ext H H := b_Ext.rf
  obtain ⟨d0, c0, ids, P0, F, M, E, Z, sm, rs, se, ml, hs, bt, tk9, hc_X, hc_sv, hsa, hse, hc_tx, hc_tb, hbt, hc_tk, hL, hZ, hW, hV, hd0, hdc, hn, htn, ht⟩ := hXR
  have hc_X : b_tt G B0 τ H ((A 0)) 0 (.inr (0, [.ref ((F 0)), .ref ((A 1)), .ref ((A 3)), .ref ((A 5)), .long hs])) := hc_X
  have hc_sv : b_tt G B0 τ H ((A 1)) 1 (.inr (2, [.int sm, .ref ((if se = true then rs else G.2.2 0)), .int (nI n)])) := hc_sv
  have hsa : (se = true → b_tt G B0 τ H rs 2 (.inl (G.2.1 2, q_refs 10 (fun j => if j < n then some (P0 j) else none)))) := hsa
  have hc_tx : b_tt G B0 τ H ((A 3)) 3 (.inr (3, [.ref ((A 4)), .int (nI 0), .int ml, .int (nI tn)])) := hc_tx
  have hc_tb : b_tt G B0 τ H ((A 4)) 4 (.inl (G.2.1 1, 60, .inl bt)) := hc_tb
  have hc_tk : b_tt G B0 τ H ((A 5)) 5 (.inl (G.2.1 0, 8, .inl tk9)) := hc_tk
  have hL : LR G B0 τ d0 F M E H S Z := hL
  have hV : SV G B0 τ d0 c0 n ids P0 H L := hV
  have hn8 := hL.2.2.2.1
  have hn6 := hL.2.2.2.2
  have hnb : nb S = nb S := rfl
  have hns : ns S = ns S := rfl
  have hn : n ≤ 6 := hn
  have htn : tn ≤ 60 := htn
  have ht : ∀ j, t j < 128 := ht
  have hse : se = true ∨ n = 0 := hse
  have hZ : pZ Z S := hZ
  have hW : b_WF S := hW
  have hbt : ∀ j, j < tn → bt j = nI (t j) := hbt
  refine lv_aload_n hx hb dX6_done_0 rfl (lv_at hl 0 rfl) ?_
  refine b_xi (cx_X6_30_17 (rest := []) CX hl.1 (m_X6_reason_17 l (da := da) (td := 100) (a := (A 0)) (asv := (A 1)) (atx := (A 3)) (atk := (A 5)) (hs := hs) (x := x) (w_ := w_) (y := y) hc_D hc_X hL hW (by omega) (by omega) (by assumption)) rfl hc_D.at hS rfl ⟨rfl, rfl, Nat.le_of_ble_eq_true rfl, Nat.le_of_ble_eq_true rfl⟩ (Nat.le_of_ble_eq_true rfl) dX6_done_1 ⟨Nat.le_of_ble_eq_true rfl, Nat.le_of_ble_eq_true rfl⟩) hS (fun E9 q9 Hx1 locs hx9 hS he9 => ?_) (fun r H1 locs hp hS => ?_)
  · exact hx9.elim
  obtain ⟨rfl, hE⟩ := hp
  have hc_D := hc_D.ext hE
  have hc_X := hc_X.ext hE
  have hc_sv := hc_sv.ext hE
  have hsa := fun h9 => (hsa h9).ext hE
  have hc_tx := hc_tx.ext hE
  have hc_tb := hc_tb.ext hE
  have hc_tk := hc_tk.ext hE
  have hL := hL.ext hE
  have hV := hV.ext hE
  have hX := hX.tr hE
  have hF := hF.ext hE
  refine lv_if_ne (tgt := 11) hx hb dX6_done_4 (by decide) (fun c_4 => ?_) (fun c_4 => ?_)
  · refine lv_iconst (v := nI 0) hx hb dX6_done_11 rfl ?_
    refine b_xv0 (cx_X6_33 (rest := []) CX hl.1 (m_X1_needState l (x := nI 0) hlt) rfl hS rfl ⟨rfl, rfl, Nat.le_of_ble_eq_true rfl, Nat.le_of_ble_eq_true rfl⟩ (Nat.le_of_ble_eq_true rfl) dX6_done_12 ⟨Nat.le_of_ble_eq_true rfl, Nat.le_of_ble_eq_true rfl⟩) hS (fun E9 q9 Hx2 locs hx9 hS he9 => ?_) (fun hk_12 locs hS => ?_)
    · rw [← hQ]
      exact b_xout htb hlk he9 hS (Nat.le_of_ble_eq_true rfl) (Nat.le_of_ble_eq_true rfl) ⟨c_4, hx9.2.1, hX.tr hx9.2.2⟩
    exact absurd (by decide) hk_12
  · refine lv_iconst (v := nI 1) hx hb dX6_done_7 rfl ?_
    refine lv_goto (tgt := 12) hx hb dX6_done_8 (by decide) ?_
    refine b_xv0 (cx_X6_33 (rest := []) CX hl.1 (m_X1_needState l (x := nI 1) hlt) rfl hS rfl ⟨rfl, rfl, Nat.le_of_ble_eq_true rfl, Nat.le_of_ble_eq_true rfl⟩ (Nat.le_of_ble_eq_true rfl) dX6_done_12 ⟨Nat.le_of_ble_eq_true rfl, Nat.le_of_ble_eq_true rfl⟩) hS (fun E9 q9 Hx3 locs hx9 hS he9 => ?_) (fun hk_12 locs hS => ?_)
    · exact absurd hx9.1 (by decide)
    refine lv_aload_n hx hb dX6_done_15 rfl (lv_at hl 0 rfl) ?_
    refine gf_X6_3_17 CX hc_D.at rfl dX6_done_16 ?_
    have hXR : XR G B0 τ A H1 (S, n, L, tn, t) := ⟨d0, c0, ids, P0, F, M, E, Z, sm, rs, se, ml, hs, bt, tk9, hc_X, hc_sv, hsa, hse, hc_tx, hc_tb, hbt, hc_tk, hL, hZ, hW, hV, hd0, hdc, hn, htn, ht⟩
    refine b_cv (cs_X6_37 (rest := []) CX hl.1 (m_X1_save l  hXR) rfl rfl rfl hc_X.at hS rfl ⟨rfl, rfl, Nat.le_of_ble_eq_true rfl, Nat.le_of_ble_eq_true rfl⟩ (Nat.le_of_ble_eq_true rfl) dX6_done_19 ⟨Nat.le_of_ble_eq_true rfl, Nat.le_of_ble_eq_true rfl⟩) hS (fun H4 locs hp hS => ?_)
    obtain ⟨τ4, hA9, hF9, hXR⟩ := hp
    have hc_D := hc_D.ca hF9 hA9 (show ¬ (100 = 1 ∨ 100 = 2 ∨ 1000 ≤ 100) by omega)
    have hF0 := hF.tr hA hF9 (fun q9 hq9 x9 => by have x8 : τ q9 = 1 ∨ τ q9 = 2 ∨ 1000 ≤ τ q9 := x9; show τ q9 < 10 ∨ 1000 ≤ τ q9; omega)
    have hA := hA.tr hA9 hF.1
    have hF := hF0
    have hXR : XR G B0 τ4 A H4 (S, (p_sn n), (p_L L S n), tn, t) := hXR
    obtain ⟨d04, c04, ids4, P04, F4, M4, E4, Z4, sm4, rs4, se4, ml4, hs4, bt4, tk94, hc_X, hc_sv, hsa, hse, hc_tx, hc_tb, hbt, hc_tk, hL, hZ, hW, hV, hd0, hdc, hn, htn, ht⟩ := hXR
    have hc_X : b_tt G B0 τ4 H4 ((A 0)) 0 (.inr (0, [.ref ((F4 0)), .ref ((A 1)), .ref ((A 3)), .ref ((A 5)), .long hs4])) := hc_X
    have hc_sv : b_tt G B0 τ4 H4 ((A 1)) 1 (.inr (2, [.int sm4, .ref ((if se4 = true then rs4 else G.2.2 0)), .int (nI ((p_sn n)))])) := hc_sv
    have hsa : (se4 = true → b_tt G B0 τ4 H4 rs4 2 (.inl (G.2.1 2, q_refs 10 (fun j => if j < (p_sn n) then some (P04 j) else none)))) := hsa
    have hc_tx : b_tt G B0 τ4 H4 ((A 3)) 3 (.inr (3, [.ref ((A 4)), .int (nI 0), .int ml4, .int (nI tn)])) := hc_tx
    have hc_tb : b_tt G B0 τ4 H4 ((A 4)) 4 (.inl (G.2.1 1, 60, .inl bt4)) := hc_tb
    have hc_tk : b_tt G B0 τ4 H4 ((A 5)) 5 (.inl (G.2.1 0, 8, .inl tk94)) := hc_tk
    have hL : LR G B0 τ4 d04 F4 M4 E4 H4 S Z4 := hL
    have hV : SV G B0 τ4 d04 c04 ((p_sn n)) ids4 P04 H4 ((p_L L S n)) := hV
    have hn8 := hL.2.2.2.1
    have hn6 := hL.2.2.2.2
    have hnb : nb S = nb S := rfl
    have hns : ns S = ns S := rfl
    have hn : (p_sn n) ≤ 6 := hn
    have htn : tn ≤ 60 := htn
    have ht : ∀ j, t j < 128 := ht
    have hse : se4 = true ∨ (p_sn n) = 0 := hse
    have hZ : pZ Z4 S := hZ
    have hW : b_WF S := hW
    have hbt : ∀ j, j < tn → bt4 j = nI (t j) := hbt
    refine lv_aload_n hx hb dX6_done_22 rfl (lv_at hl 0 rfl) ?_
    refine b_ci (cs_X6_40_17 (rest := []) CX hl.1 (m_X19_does l (da := da) (td := 100) (a := (A 0)) (asv := (A 1)) (atx := (A 3)) (atk := (A 5)) (hs := hs4) (x := x) (w_ := w_) (y := y) hc_D hc_X hL hW (by omega) (by omega) (by assumption) (by omega) (by omega)) rfl hc_D.at hS rfl ⟨rfl, rfl, Nat.le_of_ble_eq_true rfl, Nat.le_of_ble_eq_true rfl⟩ (Nat.le_of_ble_eq_true rfl) dX6_done_23 ⟨Nat.le_of_ble_eq_true rfl, Nat.le_of_ble_eq_true rfl⟩) hS (fun r H5 locs hp hS => ?_)
    obtain ⟨rfl, hF9, hL9⟩ := hp
    have hc_D := hc_D.fr hF9 (show ¬ (1000 * d04 ≤ 100 ∧ 100 < 1000 * d04 + 1000) by omega)
    have hc_X := hc_X.fr hF9 (show ¬ (1000 * d04 ≤ 0 ∧ 0 < 1000 * d04 + 1000) by omega)
    have hc_sv := hc_sv.fr hF9 (show ¬ (1000 * d04 ≤ 1 ∧ 1 < 1000 * d04 + 1000) by omega)
    have hsa := fun h9 => (hsa h9).fr hF9 (show ¬ (1000 * d04 ≤ 2 ∧ 2 < 1000 * d04 + 1000) by omega)
    have hc_tx := hc_tx.fr hF9 (show ¬ (1000 * d04 ≤ 3 ∧ 3 < 1000 * d04 + 1000) by omega)
    have hc_tb := hc_tb.fr hF9 (show ¬ (1000 * d04 ≤ 4 ∧ 4 < 1000 * d04 + 1000) by omega)
    have hc_tk := hc_tk.fr hF9 (show ¬ (1000 * d04 ≤ 5 ∧ 5 < 1000 * d04 + 1000) by omega)
    have hV := hV.fr hF9 (fun k9 h1 h2 h3 i9 hi9 => show ¬ (1000 * d04 ≤ (1000 * k9 + i9) ∧ (1000 * k9 + i9) < 1000 * d04 + 1000) by omega)
    have hz9 := hF.1
    have hF0 := hF.tr hA hF9 (fun q9 hq9 x9 => by have x8 : 1000 * d04 ≤ τ q9 ∧ τ q9 < 1000 * d04 + 1000 := x9; show τ q9 < 10 ∨ 1000 ≤ τ q9; omega)
    have hF := hF0
    have hL : LR G B0 τ4 d04 F4 M4 E4 H5 ((s_swap S x y w_)) ((s_swZ Z4 x y w_)) := hL9
    rw [← hQ]
    exact vx_ret (b_iret CX hr hlk hS (Nat.le_of_ble_eq_true rfl) (Nat.le_of_ble_eq_true rfl) dX6_done_26 (⟨c_4, (by rw [hZ x y (by omega) (by omega)]; grind), _, hA, hF, ⟨d04, c04, ids4, P04, F4, M4, E4, (s_swZ Z4 x y w_), sm4, rs4, se4, ml4, hs4, bt4, tk94, hc_X, hc_sv, hsa, hse, hc_tx, hc_tb, hbt, hc_tk, hL, (pZ.sw hZ (by omega) (by omega) hne w_), (hW1 c_4), hV, hd0, hdc, hn, htn, ht⟩⟩))
