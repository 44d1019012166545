/-! the share, the hash; the whole object made -/
set_option maxRecDepth 100000
theorem XR.mk0 {G : b_G} {B0 : Nat} {τ : b_T} {H : Heap} {A : Nat → Nat} {F : Nat → Nat} {M : Nat → Int32} {E : Nat → Bool} {L : Nat → b_St} {ml : Int32} {bt : Nat → Int32}
    (h0 : b_tt G B0 τ H (A 0) 0 (.inr (0, [.ref (F 0), .ref (A 1), .ref (A 3), .ref (A 5), .long 0]))) (h1 : b_tt G B0 τ H (A 1) 1 (.inr (2, [.int (nI 0), .ref (G.2.2 0), .int (nI 0)])))
    (h3 : b_tt G B0 τ H (A 3) 3 (.inr (3, [.ref (A 4), .int (nI 0), .int ml, .int (nI 0)]))) (h4 : b_tt G B0 τ H (A 4) 4 (.inl (G.2.1 1, 60, .inl bt))) (h5 : b_tt G B0 τ H (A 5) 5 (.inl (G.2.1 0, 8, .inl (fun _ => nI 0))))
    (hL : LR G B0 τ 1 F M E H s_0 (fun _ _ => 0)) (hW : b_WF s_0) : XR G B0 τ A H (s_0, 0, L, 0, fun _ => 0) := by
  refine ⟨1, 2, fun _ => 0, fun _ => 0, F, M, E, fun _ _ => 0, nI 0, 0, false, ml, 0, bt, _, h0, h1, (fun q => nomatch q), Or.inr rfl, h3, h4, fun j hj => absurd hj (Nat.not_lt_zero j), h5, hL, ?_, hW, ⟨fun k hk => absurd hk (Nat.not_lt_zero k), fun j k _ hk => absurd hk (Nat.not_lt_zero k)⟩, by decide, by decide, (show (0 : Nat) ≤ 6 by decide), Nat.zero_le _, fun _ => (show (0 : Nat) < 128 by decide)⟩
  intro i j _ _
  show (0 : Int32) = nI 0 - nI 0
  decide
theorem s_0_WF : b_WF s_0 := by
  refine ⟨⟨rfl, by decide⟩, ⟨rfl, by decide⟩, fun b _ => ⟨rfl, (by show (nI 0).toNatClampNeg < 3; decide)⟩, ⟨20, rfl, by decide, by decide⟩⟩
def a_6 (a q1 q3 q4 q5 : Nat) : Nat → Nat := fun i => if i = 0 then a else if i = 1 then q1 else if i = 3 then q3 else if i = 4 then q4 else q5
theorem cs_X1_379 {p : Program} {l : Launch} {e : Env} {R : Room} {s : State} {m : MethodId} {args : Array Value} {below : List Frame} {meth : Method} {c : Code} {H : Heap} {locs : List Loc} {cells slots : Nat} {cc : ByteArray} {pc nL a : Nat} {ls : Array Slot} {rest : List Value} {G : b_G} {B0 : Nat} (CX : b_Cx p s m args c cc nL RX1 G B0) (hls : ls.size = nL) {rm : Room} {mc ms : Nat} {As st0 : List Value} {Qc : Array Value → State → Outcome → State → Prop} (hM : Met l yX1_goneTold (ws_ yX1_goneTold cX1_goneTold 5 (Option.some Jvm.ClassFile.FieldType.double)) rm (b_Pc G B0 H (.ref a :: As)) Qc mc ms (b_A B0)) (hn : As.length = 0) {fs : List Value} {ci : Nat} {qc : vw_C} (hc : b_cl[ci]? = some qc) (hq : qc.1 = RX1) (hP : b_at G a (.inr (ci, fs)) H) (hS : va_S (b_A B0) s.heap H locs) (hst : st0 = As.reverse ++ .ref a :: rest) (hr : rm.cells = mc ∧ rm.slots = ms ∧ rm.frames + 1 ≤ R.frames ∧ 8 + (5 + 11) + rm.locals ≤ R.locals) (hw : (rest.map fun v => v.category).sum ≤ 8) (hdg : decode cc pc = .ok (.invokevirtual 379, 3)) (hf : cells + mc ≤ R.cells ∧ slots + ms ≤ R.slots) : va_Run p l e R s m args below meth c H locs cells slots mc ms (F0 m pc ls st0) rest (Qc (Value.ref a :: As).toArray) (b_A B0) := va_runV CX.fix hM (cwV 0 CX.ts (lw_V q787 q789 qs10 q79 q790) rfl hr.1 hr.2.1 (by decide +kernel) ⟨hr.2.2.1, hr.2.2.2⟩) ⟨b_blind G B0 H _, by have h9 := b_recv CX.K hc hP; rw [hq] at h9; exact h9, b_pre _ CX.K hS⟩ rfl hn hls hst (lv_room hw) hdg hf
set_option maxHeartbeats 2000000 in
set_option maxRecDepth 100000 in
theorem m_X1_goneShare (l : Launch) {G : b_G} {B0 : Nat} {H : Heap} {τ : b_T} {A : Nat → Nat} {S : b_St} {n : Nat} {L : Nat → b_St} {tn : Nat} {t : Nat → Nat} (hXR : XR G B0 τ A H (S, n, L, tn, t)) (hnan : ¬ p_all S = 0 → vf_n64 (FP.ddiv (FP.i2d (p_gone S)) (FP.i2d (p_all S)))) : Met l yX1_goneShare (ws_ yX1_goneShare cX1_goneShare 1 (Option.some Jvm.ClassFile.FieldType.double)) ({ frames := 6, cells := 0, slots := 0, locals := 135 } : Room) (b_Pc G B0 H [.ref ((A 0))]) (b_Qd B0 (fun r H1 => r = p_share S ∧ H1 = H)) 0 0 (b_A B0) := by
  refine b_of (by decide) (Nat.le_of_ble_eq_true rfl) ?_
  intro p e s m below meth c CX hr hlk hnm hS ls hl
  have CX : b_Cx p s m _ c cX1_goneShare 1 RX1 G B0 := CX
  have hx := CX.hx
  have hb := CX.hb
  have hl : lv_has ls 1 [(0, .ref ((A 0)))] := hl
  generalize hQ : MQ below (b_Qd B0 (fun r H1 => r = p_share S ∧ H1 = H)) ([.ref ((A 0))] : List Value).toArray s 0 0 (b_A B0) = Q
  have hF : b_Fr τ (fun t => t < 200 ∨ 1000 ≤ t) H H := b_Fr.rf
  have hA : b_Ag τ τ H := b_Ag.rf
  have hX : b_Ext H H := b_Ext.rf
  obtain ⟨d0, c0, ids, P0, F, M, E, Z, sm, rs, se, ml, hs, bt, tk9, hc_X, hc_sv, hsa, hse, hc_tx, hc_tb, hbt, hc_tk, hL, hZ, hW, hV, hd0, hdc, hn, htn, ht⟩ := hXR
  have hc_X : b_tt G B0 τ H ((A 0)) 0 (.inr (0, [.ref ((F 0)), .ref ((A 1)), .ref ((A 3)), .ref ((A 5)), .long hs])) := hc_X
  have hc_sv : b_tt G B0 τ H ((A 1)) 1 (.inr (2, [.int sm, .ref ((if se = true then rs else G.2.2 0)), .int (nI n)])) := hc_sv
  have hsa : (se = true → b_tt G B0 τ H rs 2 (.inl (G.2.1 2, q_refs 10 (fun j => if j < n then some (P0 j) else none)))) := hsa
  have hc_tx : b_tt G B0 τ H ((A 3)) 3 (.inr (3, [.ref ((A 4)), .int (nI 0), .int ml, .int (nI tn)])) := hc_tx
  have hc_tb : b_tt G B0 τ H ((A 4)) 4 (.inl (G.2.1 1, 60, .inl bt)) := hc_tb
  have hc_tk : b_tt G B0 τ H ((A 5)) 5 (.inl (G.2.1 0, 8, .inl tk9)) := hc_tk
  have hL : LR G B0 τ d0 F M E H S Z := hL
  have hV : SV G B0 τ d0 c0 n ids P0 H L := hV
  have hn8 := hL.2.2.2.1
  have hn6 := hL.2.2.2.2
  have hnb : nb S = nb S := rfl
  have hns : ns S = ns S := rfl
  have hn : n ≤ 6 := hn
  have htn : tn ≤ 60 := htn
  have ht : ∀ j, t j < 128 := ht
  have hse : se = true ∨ n = 0 := hse
  have hZ : pZ Z S := hZ
  have hW : b_WF S := hW
  have hbt : ∀ j, j < tn → bt j = nI (t j) := hbt
  refine lv_aload_n hx hb dX1_goneShare_0 rfl (lv_at hl 0 rfl) ?_
  refine b_cd0 (cs_X1_379 (rest := []) CX hl.1 (m_X1_goneTold l (a := (A 0)) (asv := (A 1)) (atx := (A 3)) (atk := (A 5)) (hs := hs) hc_X hL hW hnan) rfl rfl rfl hc_X.at hS rfl ⟨rfl, rfl, Nat.le_of_ble_eq_true rfl, Nat.le_of_ble_eq_true rfl⟩ (Nat.le_of_ble_eq_true rfl) dX1_goneShare_1 ⟨Nat.le_of_ble_eq_true rfl, Nat.le_of_ble_eq_true rfl⟩) hS (fun locs hS => ?_)
  rw [← hQ]
  exact b_dret CX hr hlk hS (Nat.le_of_ble_eq_true rfl) (Nat.le_of_ble_eq_true rfl) dX1_goneShare_4 (⟨rfl, rfl⟩)
theorem cs_X1_395 {p : Program} {l : Launch} {e : Env} {R : Room} {s : State} {m : MethodId} {args : Array Value} {below : List Frame} {meth : Method} {c : Code} {H : Heap} {locs : List Loc} {cells slots : Nat} {cc : ByteArray} {pc nL a : Nat} {ls : Array Slot} {rest : List Value} {G : b_G} {B0 : Nat} (CX : b_Cx p s m args c cc nL RX1 G B0) (hls : ls.size = nL) {rm : Room} {mc ms : Nat} {As st0 : List Value} {Qc : Array Value → State → Outcome → State → Prop} (hM : Met l yX1_mixRows (ws_ yX1_mixRows cX1_mixRows 3 (Option.none)) rm (b_Pc G B0 H (.ref a :: As)) Qc mc ms (b_A B0)) (hn : As.length = 0) {fs : List Value} {ci : Nat} {qc : vw_C} (hc : b_cl[ci]? = some qc) (hq : qc.1 = RX1) (hP : b_at G a (.inr (ci, fs)) H) (hS : va_S (b_A B0) s.heap H locs) (hst : st0 = As.reverse ++ .ref a :: rest) (hr : rm.cells = mc ∧ rm.slots = ms ∧ rm.frames + 1 ≤ R.frames ∧ 8 + (3 + 11) + rm.locals ≤ R.locals) (hw : (rest.map fun v => v.category).sum ≤ 8) (hdg : decode cc pc = .ok (.invokevirtual 395, 3)) (hf : cells + mc ≤ R.cells ∧ slots + ms ≤ R.slots) : va_Run p l e R s m args below meth c H locs cells slots mc ms (F0 m pc ls st0) rest (Qc (Value.ref a :: As).toArray) (b_A B0) := va_runV CX.fix hM (cwV 0 CX.ts (lw_V q843 q845 qs17 q79 q846) rfl hr.1 hr.2.1 (by decide +kernel) ⟨hr.2.2.1, hr.2.2.2⟩) ⟨b_blind G B0 H _, by have h9 := b_recv CX.K hc hP; rw [hq] at h9; exact h9, b_pre _ CX.K hS⟩ rfl hn hls hst (lv_room hw) hdg hf
theorem cs_X1_398 {p : Program} {l : Launch} {e : Env} {R : Room} {s : State} {m : MethodId} {args : Array Value} {below : List Frame} {meth : Method} {c : Code} {H : Heap} {locs : List Loc} {cells slots : Nat} {cc : ByteArray} {pc nL : Nat} {ls : Array Slot} {rest : List Value} {G : b_G} {B0 : Nat} (CX : b_Cx p s m args c cc nL RX1 G B0) (hls : ls.size = nL) {rm : Room} {mc ms : Nat} {As st0 : List Value} {Qc : Array Value → State → Outcome → State → Prop} (hM : Met l yJ22_doubleToLongBits (ws_ yJ22_doubleToLongBits cJ22_doubleToLongBits 2 (Option.some Jvm.ClassFile.FieldType.long)) rm (b_Pc G B0 H As) Qc mc ms (b_A B0)) (hn : As.length = 1) (hS : va_S (b_A B0) s.heap H locs) (hst : st0 = As.reverse ++ rest) (hr : rm.cells = mc ∧ rm.slots = ms ∧ rm.frames + 1 ≤ R.frames ∧ 8 + (2 + 11) + rm.locals ≤ R.locals) (hw : (rest.map fun v => v.category).sum ≤ 8) (hdg : decode cc pc = .ok (.invokestatic 398, 3)) (hf : cells + mc ≤ R.cells ∧ slots + ms ≤ R.slots) : va_Run p l e R s m args below meth c H locs cells slots mc ms (F0 m pc ls st0) rest (Qc As.toArray) (b_A B0) := va_runS CX.fix hM (va_cwS 1 CX.ts (lw_S q907 q908 q125 q909) rfl hr.1 hr.2.1 (by decide +kernel) ⟨hr.2.2.1, hr.2.2.2⟩) ⟨b_blind G B0 H _, b_pre _ CX.K hS⟩ rfl hn hls hst (lv_room hw) hdg hf
theorem cs_X1_404 {p : Program} {l : Launch} {e : Env} {R : Room} {s : State} {m : MethodId} {args : Array Value} {below : List Frame} {meth : Method} {c : Code} {H : Heap} {locs : List Loc} {cells slots : Nat} {cc : ByteArray} {pc nL a : Nat} {ls : Array Slot} {rest : List Value} {G : b_G} {B0 : Nat} (CX : b_Cx p s m args c cc nL RX1 G B0) (hls : ls.size = nL) {rm : Room} {mc ms : Nat} {As st0 : List Value} {Qc : Array Value → State → Outcome → State → Prop} (hM : Met l yJ4_charAt (ws_ yJ4_charAt cJ4_charAt 2 (Option.some Jvm.ClassFile.FieldType.char)) rm (b_Pc G B0 H (.ref a :: As)) Qc mc ms (b_A B0)) (hn : As.length = 1) {fs : List Value} {ci : Nat} {qc : vw_C} (hc : b_cl[ci]? = some qc) (hq : qc.1 = RJ4) (hP : b_at G a (.inr (ci, fs)) H) (hS : va_S (b_A B0) s.heap H locs) (hst : st0 = As.reverse ++ .ref a :: rest) (hr : rm.cells = mc ∧ rm.slots = ms ∧ rm.frames + 1 ≤ R.frames ∧ 8 + (2 + 11) + rm.locals ≤ R.locals) (hw : (rest.map fun v => v.category).sum ≤ 8) (hdg : decode cc pc = .ok (.invokevirtual 404, 3)) (hf : cells + mc ≤ R.cells ∧ slots + ms ≤ R.slots) : va_Run p l e R s m args below meth c H locs cells slots mc ms (F0 m pc ls st0) rest (Qc (Value.ref a :: As).toArray) (b_A B0) := va_runV CX.fix hM (cwV 1 CX.ts (lw_V q917 q667 q668 q85 q669) rfl hr.1 hr.2.1 (by decide +kernel) ⟨hr.2.2.1, hr.2.2.2⟩) ⟨b_blind G B0 H _, by have h9 := b_recv CX.K hc hP; rw [hq] at h9; exact h9, b_pre _ CX.K hS⟩ rfl hn hls hst (lv_room hw) hdg hf
set_option maxHeartbeats 2000000 in
set_option maxRecDepth 100000 in
theorem m_X1_digest (l : Launch) {G : b_G} {B0 : Nat} {H : Heap} {τ : b_T} {A : Nat → Nat} {S : b_St} {n : Nat} {L : Nat → b_St} {tn : Nat} {t : Nat → Nat} (hXR : XR G B0 τ A H (S, n, L, tn, t)) (hnan : ¬ p_all S = 0 → vf_n64 (FP.ddiv (FP.i2d (p_gone S)) (FP.i2d (p_all S)))) (hnn : p_nn (p_share S)) (hpr : ∀ b, b < nb S → ¬ p_price S b (nI 1) = 0) (hmt : ∀ b s, b < nb S → s < ns S → p_mostT S b s = nI (p_dl S b s 50 0)) (hmf : ∀ s b c, s < ns S → b < nb S → 1 ≤ c → c ≤ 50 → (p_from S s (kd S b) < nI c ↔ ¬ a_collect S s (kd S b) (nI c) ≤ 0)) (hpk : ∀ s b c, s < ns S → b < nb S → c ≤ 50 → a_collect S s (kd S b) (nI c) ≤ 0 → p_picks S s (kd S b) c) : Met l yX1_digest (ws_ yX1_digest cX1_digest 3 (Option.some Jvm.ClassFile.FieldType.long)) ({ frames := 7, cells := 0, slots := 0, locals := 155 } : Room) (b_Pc G B0 H [.ref ((A 0))]) (b_Ql B0 (fun r H1 => r = p_dig S n tn t ∧ ∃ τ1 : b_T, b_Ag τ τ1 H ∧ b_Fr τ (fun t => t < 200 ∨ 1000 ≤ t) H H1 ∧ XR G B0 τ1 A H1 (S, n, L, tn, t))) 0 0 (b_A B0) := by
  refine b_of (by decide) (Nat.le_of_ble_eq_true rfl) ?_
  intro p e s m below meth c CX hr hlk hnm hS ls hl
  have CX : b_Cx p s m _ c cX1_digest 3 RX1 G B0 := CX
  have hx := CX.hx
  have hb := CX.hb
  have hl : lv_has ls 3 [(0, .ref ((A 0)))] := hl
  generalize hQ : MQ below (b_Ql B0 (fun r H1 => r = p_dig S n tn t ∧ ∃ τ1 : b_T, b_Ag τ τ1 H ∧ b_Fr τ (fun t => t < 200 ∨ 1000 ≤ t) H H1 ∧ XR G B0 τ1 A H1 (S, n, L, tn, t))) ([.ref ((A 0))] : List Value).toArray s 0 0 (b_A B0) = Q
  have hF : b_Fr τ (fun t => t < 200 ∨ 1000 ≤ t) H H := b_Fr.rf
  have hA : b_Ag τ τ H := b_Ag.rf
  have hX : b_Ext H H := b_Ext.rf
  obtain ⟨d0, c0, ids, P0, F, M, E, Z, sm, rs, se, ml, hs, bt, tk9, hc_X, hc_sv, hsa, hse, hc_tx, hc_tb, hbt, hc_tk, hL, hZ, hW, hV, hd0, hdc, hn, htn, ht⟩ := hXR
  have hc_X : b_tt G B0 τ H ((A 0)) 0 (.inr (0, [.ref ((F 0)), .ref ((A 1)), .ref ((A 3)), .ref ((A 5)), .long hs])) := hc_X
  have hc_sv : b_tt G B0 τ H ((A 1)) 1 (.inr (2, [.int sm, .ref ((if se = true then rs else G.2.2 0)), .int (nI n)])) := hc_sv
  have hsa : (se = true → b_tt G B0 τ H rs 2 (.inl (G.2.1 2, q_refs 10 (fun j => if j < n then some (P0 j) else none)))) := hsa
  have hc_tx : b_tt G B0 τ H ((A 3)) 3 (.inr (3, [.ref ((A 4)), .int (nI 0), .int ml, .int (nI tn)])) := hc_tx
  have hc_tb : b_tt G B0 τ H ((A 4)) 4 (.inl (G.2.1 1, 60, .inl bt)) := hc_tb
  have hc_tk : b_tt G B0 τ H ((A 5)) 5 (.inl (G.2.1 0, 8, .inl tk9)) := hc_tk
  have hL : LR G B0 τ d0 F M E H S Z := hL
  have hV : SV G B0 τ d0 c0 n ids P0 H L := hV
  have hn8 := hL.2.2.2.1
  have hn6 := hL.2.2.2.2
  have hnb : nb S = nb S := rfl
  have hns : ns S = ns S := rfl
  have hn : n ≤ 6 := hn
  have htn : tn ≤ 60 := htn
  have ht : ∀ j, t j < 128 := ht
  have hse : se = true ∨ n = 0 := hse
  have hZ : pZ Z S := hZ
  have hW : b_WF S := hW
  have hbt : ∀ j, j < tn → bt j = nI (t j) := hbt
  refine lv_aload_n hx hb dX1_digest_0 rfl (lv_at hl 0 rfl) ?_
  refine lv_ldc2 hx hb CX.ow (CX.ts _ q825) dX1_digest_1 ?_
  refine pf_X1_385_0 CX hc_X.at hS hc_X.B rfl rfl (Nat.le_of_ble_eq_true rfl) dX1_digest_4 (fun H1 locs hat hu hS => ?_)
  have hc_sv := hc_sv.up hu hc_X.tag (by decide)
  have hsa := fun h9 => (hsa h9).up hu hc_X.tag (by omega)
  have hc_tx := hc_tx.up hu hc_X.tag (by decide)
  have hc_tb := hc_tb.up hu hc_X.tag (by decide)
  have hc_tk := hc_tk.up hu hc_X.tag (by decide)
  have hL := hL.up hu hc_X.tag (by omega)
  have hV := hV.up hu hc_X.tag (fun k9 h1 h2 h3 => by omega)
  have hF := hF.up hA hu hc_X.tag (fun _ => show 0 < 200 ∨ 1000 ≤ 0 by omega)
  have hc_X : b_tt G B0 τ H1 ((A 0)) 0 (.inr (0, [.ref ((F 0)), .ref ((A 1)), .ref ((A 3)), .ref ((A 5)), .long 2411])) := hc_X.set hat
  refine lv_iconst (v := nI 0) hx hb dX1_digest_7 rfl ?_
  refine lv_istore_n (lv' := [(1, .int (nI 0)), (0, .ref ((A 0)))]) hx hb dX1_digest_8 rfl hl (Nat.le_of_ble_eq_true rfl) rfl (fun ls hl => ?_)
  have hc_X : b_tt G B0 τ H1 ((A 0)) 0 (.inr (0, [.ref ((F 0)), .ref ((A 1)), .ref ((A 3)), .ref ((A 5)), .long (p_mx 2411 (p_number S n) 0)])) := hc_X
  have lp9_2 : ∀ (n_ : Nat) (i : Nat), i ≤ 11 → 11 - i < n_ → ∀ (H3 : Heap), b_tt G B0 τ H3 ((A 0)) 0 (.inr (0, [.ref ((F 0)), .ref ((A 1)), .ref ((A 3)), .ref ((A 5)), .long (p_mx 2411 (p_number S n) i)])) → b_tt G B0 τ H3 ((A 1)) 1 (.inr (2, [.int sm, .ref ((if se = true then rs else G.2.2 0)), .int (nI n)])) → (se = true → b_tt G B0 τ H3 rs 2 (.inl (G.2.1 2, q_refs 10 (fun j => if j < n then some (P0 j) else none)))) → b_tt G B0 τ H3 ((A 3)) 3 (.inr (3, [.ref ((A 4)), .int (nI 0), .int ml, .int (nI tn)])) → b_tt G B0 τ H3 ((A 4)) 4 (.inl (G.2.1 1, 60, .inl bt)) → b_tt G B0 τ H3 ((A 5)) 5 (.inl (G.2.1 0, 8, .inl tk9)) → LR G B0 τ d0 F M E H3 S Z → SV G B0 τ d0 c0 n ids P0 H3 L → b_Fr τ (fun t => t < 200 ∨ 1000 ≤ t) H H3 → ∀ (locs : List Loc), va_S (b_A B0) s.heap H3 locs → ∀ ls : Array Slot, lv_has ls 3 [(1, .int (nI i)), (0, .ref ((A 0)))] → W p l e ({ frames := 7, cells := 0, slots := 0, locals := 155 } : Room) s m ([.ref ((A 0))] : List Value).toArray below meth c H3 locs 0 0 Q (F0 m 9 ls []) := by
    intro n_
    induction n_ with
    | zero => intro i hzi hlt H3 hc_X hc_sv hsa hc_tx hc_tb hc_tk hL hV hF locs hS ls hl; exact absurd hlt (Nat.not_lt_zero _)
    | succ n_ ih9 =>
      intro i hzi hlt H3 hc_X hc_sv hsa hc_tx hc_tb hc_tk hL hV hF locs hS ls hl
      refine lv_iload_n hx hb dX1_digest_9 rfl (lv_at hl 0 rfl) ?_
      refine lv_bipush (v := nI 11) hx hb dX1_digest_10 rfl ?_
      refine b_icmp_geN (tgt := 31) CX (by omega) (by omega) dX1_digest_12 (by decide) (fun c_12 => ?_) (fun c_12 => ?_)
      · obtain rfl : i = 11 := by omega
        refine lv_iconst (v := nI 0) hx hb dX1_digest_31 rfl ?_
        refine lv_istore_n (lv' := [(1, .int (nI 0)), (0, .ref ((A 0)))]) hx hb dX1_digest_32 rfl hl (Nat.le_of_ble_eq_true rfl) rfl (fun ls hl => ?_)
        have hc_X : b_tt G B0 τ H3 ((A 0)) 0 (.inr (0, [.ref ((F 0)), .ref ((A 1)), .ref ((A 3)), .ref ((A 5)), .long (p_mx (p_d1 S n) (fun j => S 0 0 (7 + j)) 0)])) := hc_X
        have lp33_4 : ∀ (n_ : Nat) (i : Nat), i ≤ 6 → 6 - i < n_ → ∀ (H5 : Heap), b_tt G B0 τ H5 ((A 0)) 0 (.inr (0, [.ref ((F 0)), .ref ((A 1)), .ref ((A 3)), .ref ((A 5)), .long (p_mx (p_d1 S n) (fun j => S 0 0 (7 + j)) i)])) → b_tt G B0 τ H5 ((A 1)) 1 (.inr (2, [.int sm, .ref ((if se = true then rs else G.2.2 0)), .int (nI n)])) → (se = true → b_tt G B0 τ H5 rs 2 (.inl (G.2.1 2, q_refs 10 (fun j => if j < n then some (P0 j) else none)))) → b_tt G B0 τ H5 ((A 3)) 3 (.inr (3, [.ref ((A 4)), .int (nI 0), .int ml, .int (nI tn)])) → b_tt G B0 τ H5 ((A 4)) 4 (.inl (G.2.1 1, 60, .inl bt)) → b_tt G B0 τ H5 ((A 5)) 5 (.inl (G.2.1 0, 8, .inl tk9)) → LR G B0 τ d0 F M E H5 S Z → SV G B0 τ d0 c0 n ids P0 H5 L → b_Fr τ (fun t => t < 200 ∨ 1000 ≤ t) H H5 → ∀ (locs : List Loc), va_S (b_A B0) s.heap H5 locs → ∀ ls : Array Slot, lv_has ls 3 [(1, .int (nI i)), (0, .ref ((A 0)))] → W p l e ({ frames := 7, cells := 0, slots := 0, locals := 155 } : Room) s m ([.ref ((A 0))] : List Value).toArray below meth c H5 locs 0 0 Q (F0 m 33 ls []) := by
          intro n_
          induction n_ with
          | zero => intro i hzi hlt H5 hc_X hc_sv hsa hc_tx hc_tb hc_tk hL hV hF locs hS ls hl; exact absurd hlt (Nat.not_lt_zero _)
          | succ n_ ih33 =>
            intro i hzi hlt H5 hc_X hc_sv hsa hc_tx hc_tb hc_tk hL hV hF locs hS ls hl
            refine lv_iload_n hx hb dX1_digest_33 rfl (lv_at hl 0 rfl) ?_
            refine lv_bipush (v := nI 6) hx hb dX1_digest_34 rfl ?_
            refine b_icmp_geN (tgt := 59) CX (by omega) (by omega) dX1_digest_36 (by decide) (fun c_36 => ?_) (fun c_36 => ?_)
            · obtain rfl : i = 6 := by omega
              have hc_X : b_tt G B0 τ H5 ((A 0)) 0 (.inr (0, [.ref ((F 0)), .ref ((A 1)), .ref ((A 3)), .ref ((A 5)), .long (p_d2 S n)])) := hc_X
              refine lv_aload_n hx hb dX1_digest_59 rfl (lv_at hl 1 rfl) ?_
              refine b_cv (cs_X1_395 (rest := []) CX hl.1 (m_X1_mixRows l (a := (A 0)) (asv := (A 1)) (atx := (A 3)) (atk := (A 5)) (hs := p_d2 S n) hc_X hL hW hpr hmt (by omega)) rfl rfl rfl hc_X.at hS rfl ⟨rfl, rfl, Nat.le_of_ble_eq_true rfl, Nat.le_of_ble_eq_true rfl⟩ (Nat.le_of_ble_eq_true rfl) dX1_digest_60 ⟨Nat.le_of_ble_eq_true rfl, Nat.le_of_ble_eq_true rfl⟩) hS (fun H6 locs hp hS => ?_)
              obtain ⟨hF9, hx0⟩ := hp
              have hc_sv := hc_sv.fr hF9 (show ¬ (1 = 0) by omega)
              have hsa := fun h9 => (hsa h9).fr hF9 (show ¬ (2 = 0) by omega)
              have hc_tx := hc_tx.fr hF9 (show ¬ (3 = 0) by omega)
              have hc_tb := hc_tb.fr hF9 (show ¬ (4 = 0) by omega)
              have hc_tk := hc_tk.fr hF9 (show ¬ (5 = 0) by omega)
              have hL := hL.fr hF9 (fun i9 hi9 => show ¬ ((1000 * d0 + i9) = 0) by omega)
              have hV := hV.fr hF9 (fun k9 h1 h2 h3 i9 hi9 => show ¬ ((1000 * k9 + i9) = 0) by omega)
              have hz9 := hF.1
              have hF0 := hF.tr hA hF9 (fun q9 hq9 x9 => by have x8 : τ q9 = 0 := x9; show τ q9 < 200 ∨ 1000 ≤ τ q9; omega)
              have hF := hF0
              have hc_X : b_tt G B0 τ H6 ((A 0)) 0 (.inr (0, [.ref ((F 0)), .ref (((A 1))), .ref (((A 3))), .ref (((A 5))), .long (p_ms (p_mb (p_d2 S n) S (nb S)) S (ns S))])) := hx0
              have hc_X : b_tt G B0 τ H6 ((A 0)) 0 (.inr (0, [.ref ((F 0)), .ref (((A 1))), .ref (((A 3))), .ref (((A 5))), .long (p_d4 S n)])) := hc_X
              refine lv_iconst (v := nI 0) hx hb dX1_digest_63 rfl ?_
              refine lv_istore_n (lv' := [(1, .int (nI 0)), (0, .ref ((A 0)))]) hx hb dX1_digest_64 rfl hl (Nat.le_of_ble_eq_true rfl) rfl (fun ls hl => ?_)
              have hc_X : b_tt G B0 τ H6 ((A 0)) 0 (.inr (0, [.ref ((F 0)), .ref (((A 1))), .ref (((A 3))), .ref (((A 5))), .long (p_mx (p_d4 S n) (fun q => p_shopFor S q) 0)])) := hc_X
              have lp65_7 : ∀ (n_ : Nat) (k : Nat), k ≤ 3 → 3 - k < n_ → ∀ (H8 : Heap), b_tt G B0 τ H8 ((A 0)) 0 (.inr (0, [.ref ((F 0)), .ref (((A 1))), .ref (((A 3))), .ref (((A 5))), .long (p_mx (p_d4 S n) (fun q => p_shopFor S q) k)])) → b_tt G B0 τ H8 ((A 1)) 1 (.inr (2, [.int sm, .ref ((if se = true then rs else G.2.2 0)), .int (nI n)])) → (se = true → b_tt G B0 τ H8 rs 2 (.inl (G.2.1 2, q_refs 10 (fun j => if j < n then some (P0 j) else none)))) → b_tt G B0 τ H8 ((A 3)) 3 (.inr (3, [.ref ((A 4)), .int (nI 0), .int ml, .int (nI tn)])) → b_tt G B0 τ H8 ((A 4)) 4 (.inl (G.2.1 1, 60, .inl bt)) → b_tt G B0 τ H8 ((A 5)) 5 (.inl (G.2.1 0, 8, .inl tk9)) → LR G B0 τ d0 F M E H8 S Z → SV G B0 τ d0 c0 n ids P0 H8 L → b_Fr τ (fun t => t < 200 ∨ 1000 ≤ t) H H8 → ∀ (locs : List Loc), va_S (b_A B0) s.heap H8 locs → ∀ ls : Array Slot, lv_has ls 3 [(1, .int (nI k)), (0, .ref ((A 0)))] → W p l e ({ frames := 7, cells := 0, slots := 0, locals := 155 } : Room) s m ([.ref ((A 0))] : List Value).toArray below meth c H8 locs 0 0 Q (F0 m 65 ls []) := by
                intro n_
                induction n_ with
                | zero => intro k hzk hlt H8 hc_X hc_sv hsa hc_tx hc_tb hc_tk hL hV hF locs hS ls hl; exact absurd hlt (Nat.not_lt_zero _)
                | succ n_ ih65 =>
                  intro k hzk hlt H8 hc_X hc_sv hsa hc_tx hc_tb hc_tk hL hV hF locs hS ls hl
                  refine lv_iload_n hx hb dX1_digest_65 rfl (lv_at hl 0 rfl) ?_
                  refine lv_iconst (v := nI 3) hx hb dX1_digest_66 rfl ?_
                  refine b_icmp_geN (tgt := 86) CX (by omega) (by omega) dX1_digest_67 (by decide) (fun c_67 => ?_) (fun c_67 => ?_)
                  · obtain rfl : k = 3 := by omega
                    refine lv_iconst (v := nI 0) hx hb dX1_digest_86 rfl ?_
                    refine lv_istore_n (lv' := [(1, .int (nI 0)), (0, .ref ((A 0)))]) hx hb dX1_digest_87 rfl hl (Nat.le_of_ble_eq_true rfl) rfl (fun ls hl => ?_)
                    have hc_X : b_tt G B0 τ H8 ((A 0)) 0 (.inr (0, [.ref ((F 0)), .ref (((A 1))), .ref (((A 3))), .ref (((A 5))), .long (p_mw (p_d5 S n) S 0)])) := hc_X
                    have lp88_9 : ∀ (n_ : Nat) (i : Nat), i ≤ ns S → ns S - i < n_ → ∀ (H10 : Heap) (tkv : Nat → Int32), b_tt G B0 τ H10 ((A 0)) 0 (.inr (0, [.ref ((F 0)), .ref (((A 1))), .ref (((A 3))), .ref (((A 5))), .long (p_mw (p_d5 S n) S i)])) → b_tt G B0 τ H10 ((A 1)) 1 (.inr (2, [.int sm, .ref ((if se = true then rs else G.2.2 0)), .int (nI n)])) → (se = true → b_tt G B0 τ H10 rs 2 (.inl (G.2.1 2, q_refs 10 (fun j => if j < n then some (P0 j) else none)))) → b_tt G B0 τ H10 ((A 3)) 3 (.inr (3, [.ref ((A 4)), .int (nI 0), .int ml, .int (nI tn)])) → b_tt G B0 τ H10 ((A 4)) 4 (.inl (G.2.1 1, 60, .inl bt)) → b_tt G B0 τ H10 ((A 5)) 5 (.inl (G.2.1 0, 8, .inl tkv)) → LR G B0 τ d0 F M E H10 S Z → SV G B0 τ d0 c0 n ids P0 H10 L → b_Fr τ (fun t => t < 200 ∨ 1000 ≤ t) H H10 → ∀ (locs : List Loc), va_S (b_A B0) s.heap H10 locs → ∀ ls : Array Slot, lv_has ls 3 [(1, .int (nI i)), (0, .ref ((A 0)))] → W p l e ({ frames := 7, cells := 0, slots := 0, locals := 155 } : Room) s m ([.ref ((A 0))] : List Value).toArray below meth c H10 locs 0 0 Q (F0 m 88 ls []) := by
                      intro n_
                      induction n_ with
                      | zero => intro i hzi hlt H10 tkv hc_X hc_sv hsa hc_tx hc_tb hc_tk hL hV hF locs hS ls hl; exact absurd hlt (Nat.not_lt_zero _)
                      | succ n_ ih88 =>
                        intro i hzi hlt H10 tkv hc_X hc_sv hsa hc_tx hc_tb hc_tk hL hV hF locs hS ls hl
                        refine lv_iload_n hx hb dX1_digest_88 rfl (lv_at hl 0 rfl) ?_
                        refine lv_aload_n hx hb dX1_digest_89 rfl (lv_at hl 1 rfl) ?_
                        refine gf_X1_19_0 CX hc_X.at rfl dX1_digest_90 ?_
                        refine gf_X1_77_1 CX hL.loop.at rfl dX1_digest_93 ?_
                        refine b_ci0 (cs_X1_45 (rest := [.int (nI i)]) CX hl.1 (m_J2_size l (a := (F 3)) (ta := 1000 * d0 + 3) (mc := M 3) (ra := (if E 3 = true then F 4 else G.2.2 0)) (x := S 0 0 1) hL.al3) rfl rfl rfl hL.al3.at hS rfl ⟨rfl, rfl, Nat.le_of_ble_eq_true rfl, Nat.le_of_ble_eq_true rfl⟩ (Nat.le_of_ble_eq_true rfl) dX1_digest_96 ⟨Nat.le_of_ble_eq_true rfl, Nat.le_of_ble_eq_true rfl⟩) hS (fun locs hS => ?_)
                        refine b_top (x := (S 0 0 1)) (y := nI (ns S)) (hW.nsE) ?_
                        refine b_icmp_geN (tgt := 142) CX (by omega) (by omega) dX1_digest_99 (by decide) (fun c_99 => ?_) (fun c_99 => ?_)
                        · obtain rfl : i = ns S := by omega
                          refine lv_aload_n hx hb dX1_digest_142 rfl (lv_at hl 1 rfl) ?_
                          refine lv_aload_n hx hb dX1_digest_143 rfl (lv_at hl 1 rfl) ?_
                          refine b_cd0 (cs_X1_379 (rest := [.ref ((A 0))]) CX hl.1 (m_X1_goneTold l (a := (A 0)) (asv := ((A 1))) (atx := ((A 3))) (atk := ((A 5))) (hs := p_mw (p_d5 S n) S (ns S)) hc_X hL hW hnan) rfl rfl rfl hc_X.at hS rfl ⟨rfl, rfl, Nat.le_of_ble_eq_true rfl, Nat.le_of_ble_eq_true rfl⟩ (Nat.le_of_ble_eq_true rfl) dX1_digest_144 ⟨Nat.le_of_ble_eq_true rfl, Nat.le_of_ble_eq_true rfl⟩) hS (fun locs hS => ?_)
                          refine b_cl0 (cs_X1_398 (rest := [.ref ((A 0))]) CX hl.1 (m_J22_doubleToLongBits l (x := p_share S)  hnn) rfl hS rfl ⟨rfl, rfl, Nat.le_of_ble_eq_true rfl, Nat.le_of_ble_eq_true rfl⟩ (Nat.le_of_ble_eq_true rfl) dX1_digest_147 ⟨Nat.le_of_ble_eq_true rfl, Nat.le_of_ble_eq_true rfl⟩) hS (fun locs hS => ?_)
                          refine b_cv (cs_X1_389 (rest := []) CX hl.1 (m_X1_mix l (a := (A 0)) (f0 := (F 0)) (asv := ((A 1))) (atx := ((A 3))) (atk := ((A 5))) (hs := p_mw (p_d5 S n) S (ns S)) (v := (p_share S).toInt64) hc_X) rfl rfl rfl hc_X.at hS rfl ⟨rfl, rfl, Nat.le_of_ble_eq_true rfl, Nat.le_of_ble_eq_true rfl⟩ (Nat.le_of_ble_eq_true rfl) dX1_digest_150 ⟨Nat.le_of_ble_eq_true rfl, Nat.le_of_ble_eq_true rfl⟩) hS (fun H12 locs hp hS => ?_)
                          obtain ⟨hF9, hx0⟩ := hp
                          have hc_sv := hc_sv.fr hF9 (show ¬ (1 = 0) by omega)
                          have hsa := fun h9 => (hsa h9).fr hF9 (show ¬ (2 = 0) by omega)
                          have hc_tx := hc_tx.fr hF9 (show ¬ (3 = 0) by omega)
                          have hc_tb := hc_tb.fr hF9 (show ¬ (4 = 0) by omega)
                          have hc_tk := hc_tk.fr hF9 (show ¬ (5 = 0) by omega)
                          have hL := hL.fr hF9 (fun i9 hi9 => show ¬ ((1000 * d0 + i9) = 0) by omega)
                          have hV := hV.fr hF9 (fun k9 h1 h2 h3 i9 hi9 => show ¬ ((1000 * k9 + i9) = 0) by omega)
                          have hz9 := hF.1
                          have hF0 := hF.tr hA hF9 (fun q9 hq9 x9 => by have x8 : τ q9 = 0 := x9; show τ q9 < 200 ∨ 1000 ≤ τ q9; omega)
                          have hF := hF0
                          have hc_X : b_tt G B0 τ H12 ((A 0)) 0 (.inr (0, [.ref (((F 0))), .ref ((((A 1)))), .ref ((((A 3)))), .ref ((((A 5)))), .long (31 * (p_mw (p_d5 S n) S (ns S)) + ((p_share S).toInt64))])) := hx0
                          refine lv_aload_n hx hb dX1_digest_153 rfl (lv_at hl 1 rfl) ?_
                          refine lv_aload_n hx hb dX1_digest_154 rfl (lv_at hl 1 rfl) ?_
                          refine gf_X1_37_0 CX hc_X.at rfl dX1_digest_155 ?_
                          refine b_ci0 (cs_X1_203 (rest := [.ref ((A 0))]) CX hl.1 (m_J4_length l (a := (((A 3)))) (ta := 3) (va := (A 4)) (tv := 4) (f := bt) (ml := ml) (n := tn) hc_tx hc_tb) rfl rfl rfl hc_tx.at hS rfl ⟨rfl, rfl, Nat.le_of_ble_eq_true rfl, Nat.le_of_ble_eq_true rfl⟩ (Nat.le_of_ble_eq_true rfl) dX1_digest_158 ⟨Nat.le_of_ble_eq_true rfl, Nat.le_of_ble_eq_true rfl⟩) hS (fun locs hS => ?_)
                          refine lv_i2l hx hb dX1_digest_161 rfl ?_
                          refine b_cv (cs_X1_389 (rest := []) CX hl.1 (m_X1_mix l (a := (A 0)) (f0 := ((F 0))) (asv := (((A 1)))) (atx := (((A 3)))) (atk := (((A 5)))) (hs := 31 * (p_mw (p_d5 S n) S (ns S)) + ((p_share S).toInt64)) (v := (nI tn).toInt64) hc_X) rfl rfl rfl hc_X.at hS rfl ⟨rfl, rfl, Nat.le_of_ble_eq_true rfl, Nat.le_of_ble_eq_true rfl⟩ (Nat.le_of_ble_eq_true rfl) dX1_digest_162 ⟨Nat.le_of_ble_eq_true rfl, Nat.le_of_ble_eq_true rfl⟩) hS (fun H13 locs hp hS => ?_)
                          obtain ⟨hF9, hx0⟩ := hp
                          have hc_sv := hc_sv.fr hF9 (show ¬ (1 = 0) by omega)
                          have hsa := fun h9 => (hsa h9).fr hF9 (show ¬ (2 = 0) by omega)
                          have hc_tx := hc_tx.fr hF9 (show ¬ (3 = 0) by omega)
                          have hc_tb := hc_tb.fr hF9 (show ¬ (4 = 0) by omega)
                          have hc_tk := hc_tk.fr hF9 (show ¬ (5 = 0) by omega)
                          have hL := hL.fr hF9 (fun i9 hi9 => show ¬ ((1000 * d0 + i9) = 0) by omega)
                          have hV := hV.fr hF9 (fun k9 h1 h2 h3 i9 hi9 => show ¬ ((1000 * k9 + i9) = 0) by omega)
                          have hz9 := hF.1
                          have hF0 := hF.tr hA hF9 (fun q9 hq9 x9 => by have x8 : τ q9 = 0 := x9; show τ q9 < 200 ∨ 1000 ≤ τ q9; omega)
                          have hF := hF0
                          have hc_X : b_tt G B0 τ H13 ((A 0)) 0 (.inr (0, [.ref ((((F 0)))), .ref (((((A 1))))), .ref (((((A 3))))), .ref (((((A 5))))), .long (31 * (31 * (p_mw (p_d5 S n) S (ns S)) + ((p_share S).toInt64)) + ((nI tn).toInt64))])) := hx0
                          refine lv_iconst (v := nI 0) hx hb dX1_digest_165 rfl ?_
                          refine lv_istore_n (lv' := [(1, .int (nI 0)), (0, .ref ((A 0)))]) hx hb dX1_digest_166 rfl hl (Nat.le_of_ble_eq_true rfl) rfl (fun ls hl => ?_)
                          have hc_X : b_tt G B0 τ H13 ((A 0)) 0 (.inr (0, [.ref ((((F 0)))), .ref (((((A 1))))), .ref (((((A 3))))), .ref (((((A 5))))), .long (p_mx (p_d8 S n tn) (fun j => nI (t j)) 0)])) := hc_X
                          have lp167_14 : ∀ (n_ : Nat) (i : Nat), i ≤ tn → tn - i < n_ → ∀ (H15 : Heap), b_tt G B0 τ H15 ((A 0)) 0 (.inr (0, [.ref ((((F 0)))), .ref (((((A 1))))), .ref (((((A 3))))), .ref (((((A 5))))), .long (p_mx (p_d8 S n tn) (fun j => nI (t j)) i)])) → b_tt G B0 τ H15 ((A 1)) 1 (.inr (2, [.int sm, .ref ((if se = true then rs else G.2.2 0)), .int (nI n)])) → (se = true → b_tt G B0 τ H15 rs 2 (.inl (G.2.1 2, q_refs 10 (fun j => if j < n then some (P0 j) else none)))) → b_tt G B0 τ H15 ((A 3)) 3 (.inr (3, [.ref ((A 4)), .int (nI 0), .int ml, .int (nI tn)])) → b_tt G B0 τ H15 ((A 4)) 4 (.inl (G.2.1 1, 60, .inl bt)) → b_tt G B0 τ H15 ((A 5)) 5 (.inl (G.2.1 0, 8, .inl tkv)) → LR G B0 τ d0 F M E H15 S Z → SV G B0 τ d0 c0 n ids P0 H15 L → b_Fr τ (fun t => t < 200 ∨ 1000 ≤ t) H H15 → ∀ (locs : List Loc), va_S (b_A B0) s.heap H15 locs → ∀ ls : Array Slot, lv_has ls 3 [(1, .int (nI i)), (0, .ref ((A 0)))] → W p l e ({ frames := 7, cells := 0, slots := 0, locals := 155 } : Room) s m ([.ref ((A 0))] : List Value).toArray below meth c H15 locs 0 0 Q (F0 m 167 ls []) := by
                            intro n_
                            induction n_ with
                            | zero => intro i hzi hlt H15 hc_X hc_sv hsa hc_tx hc_tb hc_tk hL hV hF locs hS ls hl; exact absurd hlt (Nat.not_lt_zero _)
                            | succ n_ ih167 =>
                              intro i hzi hlt H15 hc_X hc_sv hsa hc_tx hc_tb hc_tk hL hV hF locs hS ls hl
                              refine lv_iload_n hx hb dX1_digest_167 rfl (lv_at hl 0 rfl) ?_
                              refine lv_aload_n hx hb dX1_digest_168 rfl (lv_at hl 1 rfl) ?_
                              refine gf_X1_37_0 CX hc_X.at rfl dX1_digest_169 ?_
                              refine b_ci0 (cs_X1_203 (rest := [.int (nI i)]) CX hl.1 (m_J4_length l (a := ((((A 3))))) (ta := 3) (va := (A 4)) (tv := 4) (f := bt) (ml := ml) (n := tn) hc_tx hc_tb) rfl rfl rfl hc_tx.at hS rfl ⟨rfl, rfl, Nat.le_of_ble_eq_true rfl, Nat.le_of_ble_eq_true rfl⟩ (Nat.le_of_ble_eq_true rfl) dX1_digest_172 ⟨Nat.le_of_ble_eq_true rfl, Nat.le_of_ble_eq_true rfl⟩) hS (fun locs hS => ?_)
                              refine b_icmp_geN (tgt := 197) CX (by omega) (by omega) dX1_digest_175 (by decide) (fun c_175 => ?_) (fun c_175 => ?_)
                              · obtain rfl : tn = i := by omega
                                refine lv_aload_n hx hb dX1_digest_197 rfl (lv_at hl 1 rfl) ?_
                                refine gf_X1_385_0 CX hc_X.at rfl dX1_digest_198 ?_
                                rw [← hQ]
                                exact b_lret CX hr hlk hS (Nat.le_of_ble_eq_true rfl) (Nat.le_of_ble_eq_true rfl) dX1_digest_201 (⟨rfl, _, hA, hF, ⟨d0, c0, ids, P0, F, M, E, Z, sm, rs, se, ml, p_mx (p_d8 S n tn) (fun j => nI (t j)) tn, bt, tkv, hc_X, hc_sv, hsa, hse, hc_tx, hc_tb, hbt, hc_tk, hL, hZ, hW, hV, hd0, hdc, hn, htn, ht⟩⟩)
                              · refine lv_aload_n hx hb dX1_digest_178 rfl (lv_at hl 1 rfl) ?_
                                refine lv_aload_n hx hb dX1_digest_179 rfl (lv_at hl 1 rfl) ?_
                                refine gf_X1_37_0 CX hc_X.at rfl dX1_digest_180 ?_
                                refine lv_iload_n hx hb dX1_digest_183 rfl (lv_at hl 0 rfl) ?_
                                have hf := hbt i (by omega)
                                have hti := ht i
                                refine b_ci0 (cs_X1_404 (rest := [.ref ((A 0))]) CX hl.1 (m_J4_charAt l (a := ((((A 3))))) (ta := 3) (va := (A 4)) (tv := 4) (f := bt) (ml := ml) (n := tn) (i := i) (k := t i) hc_tx hc_tb (by omega) (by omega) hf (by omega)) rfl rfl rfl hc_tx.at hS rfl ⟨rfl, rfl, Nat.le_of_ble_eq_true rfl, Nat.le_of_ble_eq_true rfl⟩ (Nat.le_of_ble_eq_true rfl) dX1_digest_184 ⟨Nat.le_of_ble_eq_true rfl, Nat.le_of_ble_eq_true rfl⟩) hS (fun locs hS => ?_)
                                refine lv_i2l hx hb dX1_digest_187 rfl ?_
                                refine b_cv (cs_X1_389 (rest := []) CX hl.1 (m_X1_mix l (a := (A 0)) (f0 := (((F 0)))) (asv := ((((A 1))))) (atx := ((((A 3))))) (atk := ((((A 5))))) (hs := p_mx (p_d8 S n tn) (fun j => nI (t j)) i) (v := (nI ((t i))).toInt64) hc_X) rfl rfl rfl hc_X.at hS rfl ⟨rfl, rfl, Nat.le_of_ble_eq_true rfl, Nat.le_of_ble_eq_true rfl⟩ (Nat.le_of_ble_eq_true rfl) dX1_digest_188 ⟨Nat.le_of_ble_eq_true rfl, Nat.le_of_ble_eq_true rfl⟩) hS (fun H16 locs hp hS => ?_)
                                obtain ⟨hF9, hx0⟩ := hp
                                have hc_sv := hc_sv.fr hF9 (show ¬ (1 = 0) by omega)
                                have hsa := fun h9 => (hsa h9).fr hF9 (show ¬ (2 = 0) by omega)
                                have hc_tx := hc_tx.fr hF9 (show ¬ (3 = 0) by omega)
                                have hc_tb := hc_tb.fr hF9 (show ¬ (4 = 0) by omega)
                                have hc_tk := hc_tk.fr hF9 (show ¬ (5 = 0) by omega)
                                have hL := hL.fr hF9 (fun i9 hi9 => show ¬ ((1000 * d0 + i9) = 0) by omega)
                                have hV := hV.fr hF9 (fun k9 h1 h2 h3 i9 hi9 => show ¬ ((1000 * k9 + i9) = 0) by omega)
                                have hz9 := hF.1
                                have hF0 := hF.tr hA hF9 (fun q9 hq9 x9 => by have x8 : τ q9 = 0 := x9; show τ q9 < 200 ∨ 1000 ≤ τ q9; omega)
                                have hF := hF0
                                have hc_X : b_tt G B0 τ H16 ((A 0)) 0 (.inr (0, [.ref (((((F 0))))), .ref ((((((A 1)))))), .ref ((((((A 3)))))), .ref ((((((A 5)))))), .long (31 * (p_mx (p_d8 S n tn) (fun j => nI (t j)) i) + ((nI ((t i))).toInt64))])) := hx0
                                refine lv_iinc (v := nI (i + 1)) (lv' := [(1, .int (nI (i + 1))), (0, .ref ((A 0)))]) hx hb dX1_digest_191 hl (k := 0) rfl (nI_1 _) (Nat.le_of_ble_eq_true rfl) rfl (fun ls hl => ?_)
                                refine lv_goto (tgt := 167) hx hb dX1_digest_194 (by decide) ?_
                                exact ih167 (i + 1) (by omega) (by omega) H16 hc_X hc_sv hsa hc_tx hc_tb hc_tk hL hV hF _ hS ls (lv_sub hl [0, 1] rfl)
                          exact lp167_14 _ 0 (Nat.zero_le _) (Nat.lt_succ_self _) H13 hc_X hc_sv hsa hc_tx hc_tb hc_tk hL hV hF _ hS ls (lv_sub hl [0, 1] rfl)
                        · refine lv_iconst (v := nI 0) hx hb dX1_digest_102 rfl ?_
                          refine lv_istore_n (lv' := [(2, .int (nI 0)), (1, .int (nI i)), (0, .ref ((A 0)))]) hx hb dX1_digest_103 rfl hl (Nat.le_of_ble_eq_true rfl) rfl (fun ls hl => ?_)
                          have hc_X : b_tt G B0 τ H10 ((A 0)) 0 (.inr (0, [.ref ((F 0)), .ref (((A 1))), .ref (((A 3))), .ref (((A 5))), .long (p_mx (p_mw (p_d5 S n) S i) (fun b => p_would S i b 1) 0)])) := hc_X
                          have lp104_17 : ∀ (n_ : Nat) (j : Nat), j ≤ nb S → nb S - j < n_ → ∀ (H18 : Heap) (tkw : Nat → Int32), b_tt G B0 τ H18 ((A 0)) 0 (.inr (0, [.ref ((F 0)), .ref (((A 1))), .ref (((A 3))), .ref (((A 5))), .long (p_mx (p_mw (p_d5 S n) S i) (fun b => p_would S i b 1) j)])) → b_tt G B0 τ H18 ((A 1)) 1 (.inr (2, [.int sm, .ref ((if se = true then rs else G.2.2 0)), .int (nI n)])) → (se = true → b_tt G B0 τ H18 rs 2 (.inl (G.2.1 2, q_refs 10 (fun j => if j < n then some (P0 j) else none)))) → b_tt G B0 τ H18 ((A 3)) 3 (.inr (3, [.ref ((A 4)), .int (nI 0), .int ml, .int (nI tn)])) → b_tt G B0 τ H18 ((A 4)) 4 (.inl (G.2.1 1, 60, .inl bt)) → b_tt G B0 τ H18 ((A 5)) 5 (.inl (G.2.1 0, 8, .inl tkw)) → LR G B0 τ d0 F M E H18 S Z → SV G B0 τ d0 c0 n ids P0 H18 L → b_Fr τ (fun t => t < 200 ∨ 1000 ≤ t) H H18 → ∀ (locs : List Loc), va_S (b_A B0) s.heap H18 locs → ∀ ls : Array Slot, lv_has ls 3 [(2, .int (nI j)), (1, .int (nI i)), (0, .ref ((A 0)))] → W p l e ({ frames := 7, cells := 0, slots := 0, locals := 155 } : Room) s m ([.ref ((A 0))] : List Value).toArray below meth c H18 locs 0 0 Q (F0 m 104 ls []) := by
                            intro n_
                            induction n_ with
                            | zero => intro j hzj hlt H18 tkw hc_X hc_sv hsa hc_tx hc_tb hc_tk hL hV hF locs hS ls hl; exact absurd hlt (Nat.not_lt_zero _)
                            | succ n_ ih104 =>
                              intro j hzj hlt H18 tkw hc_X hc_sv hsa hc_tx hc_tb hc_tk hL hV hF locs hS ls hl
                              refine lv_iload_n hx hb dX1_digest_104 rfl (lv_at hl 0 rfl) ?_
                              refine lv_aload_n hx hb dX1_digest_105 rfl (lv_at hl 2 rfl) ?_
                              refine gf_X1_19_0 CX hc_X.at rfl dX1_digest_106 ?_
                              refine gf_X1_70_1 CX hL.loop.at rfl dX1_digest_109 ?_
                              refine b_ci0 (cs_X1_45 (rest := [.int (nI j)]) CX hl.1 (m_J2_size l (a := (F 1)) (ta := 1000 * d0 + 1) (mc := M 1) (ra := (if E 1 = true then F 2 else G.2.2 0)) (x := S 0 0 0) hL.al1) rfl rfl rfl hL.al1.at hS rfl ⟨rfl, rfl, Nat.le_of_ble_eq_true rfl, Nat.le_of_ble_eq_true rfl⟩ (Nat.le_of_ble_eq_true rfl) dX1_digest_112 ⟨Nat.le_of_ble_eq_true rfl, Nat.le_of_ble_eq_true rfl⟩) hS (fun locs hS => ?_)
                              refine b_top (x := (S 0 0 0)) (y := nI (nb S)) (hW.nbE) ?_
                              refine b_icmp_geN (tgt := 136) CX (by omega) (by omega) dX1_digest_115 (by decide) (fun c_115 => ?_) (fun c_115 => ?_)
                              · obtain rfl : j = nb S := by omega
                                refine lv_iinc (v := nI (i + 1)) (lv' := [(1, .int (nI (i + 1))), (2, .int (nI (nb S))), (0, .ref ((A 0)))]) hx hb dX1_digest_136 hl (k := 1) rfl (nI_1 _) (Nat.le_of_ble_eq_true rfl) rfl (fun ls hl => ?_)
                                refine lv_goto (tgt := 88) hx hb dX1_digest_139 (by decide) ?_
                                exact ih88 (i + 1) (by omega) (by omega) H18 _ hc_X hc_sv hsa hc_tx hc_tb hc_tk hL hV hF _ hS ls (lv_sub hl [0, 2] rfl)
                              · refine lv_aload_n hx hb dX1_digest_118 rfl (lv_at hl 2 rfl) ?_
                                refine lv_aload_n hx hb dX1_digest_119 rfl (lv_at hl 2 rfl) ?_
                                refine lv_iload_n hx hb dX1_digest_120 rfl (lv_at hl 1 rfl) ?_
                                refine lv_iload_n hx hb dX1_digest_121 rfl (lv_at hl 0 rfl) ?_
                                refine lv_iconst (v := nI 1) hx hb dX1_digest_122 rfl ?_
                                refine b_ci (cs_X1_360 (rest := [.ref ((A 0))]) CX hl.1 (m_X1_collectedTold l (a := (A 0)) (asv := ((A 1))) (atx := ((A 3))) (atk := ((A 5))) (f := tkw) (hs := p_mx (p_mw (p_d5 S n) S i) (fun b => p_would S i b 1) j) (s_ := i) (b := j) (c_ := 1) hc_X hc_tk hL hW (by omega) (by omega) (by omega) (hmf _ _ _ (by omega) (by omega) (by omega) (by omega)) (hpk _ _ _ (by omega) (by omega) (by omega)) (by omega)) rfl rfl rfl hc_X.at hS rfl ⟨rfl, rfl, Nat.le_of_ble_eq_true rfl, Nat.le_of_ble_eq_true rfl⟩ (Nat.le_of_ble_eq_true rfl) dX1_digest_123 ⟨Nat.le_of_ble_eq_true rfl, Nat.le_of_ble_eq_true rfl⟩) hS (fun r H19 locs hp hS => ?_)
                                obtain ⟨rfl, hF9, hx0⟩ := hp
                                have hc_X := hc_X.fr hF9 (show ¬ (0 = 5) by omega)
                                have hc_sv := hc_sv.fr hF9 (show ¬ (1 = 5) by omega)
                                have hsa := fun h9 => (hsa h9).fr hF9 (show ¬ (2 = 5) by omega)
                                have hc_tx := hc_tx.fr hF9 (show ¬ (3 = 5) by omega)
                                have hc_tb := hc_tb.fr hF9 (show ¬ (4 = 5) by omega)
                                have hL := hL.fr hF9 (fun i9 hi9 => show ¬ ((1000 * d0 + i9) = 5) by omega)
                                have hV := hV.fr hF9 (fun k9 h1 h2 h3 i9 hi9 => show ¬ ((1000 * k9 + i9) = 5) by omega)
                                have hz9 := hF.1
                                have hF0 := hF.tr hA hF9 (fun q9 hq9 x9 => by have x8 : τ q9 = 5 := x9; show τ q9 < 200 ∨ 1000 ≤ τ q9; omega)
                                have hF := hF0
                                have hc_tk : b_tt G B0 τ H19 ((A 5)) 5 (.inl (G.2.1 0, 8, .inl ((if p_from S i (kd S j) < nI 1 then tkw else fun q => nI (p_tk S i (kd S j) (12 * 1) q))))) := hx0
                                refine lv_i2l hx hb dX1_digest_126 rfl ?_
                                refine b_cv (cs_X1_389 (rest := []) CX hl.1 (m_X1_mix l (a := (A 0)) (f0 := (F 0)) (asv := ((A 1))) (atx := ((A 3))) (atk := ((A 5))) (hs := p_mx (p_mw (p_d5 S n) S i) (fun b => p_would S i b 1) j) (v := (p_would S i j 1).toInt64) hc_X) rfl rfl rfl hc_X.at hS rfl ⟨rfl, rfl, Nat.le_of_ble_eq_true rfl, Nat.le_of_ble_eq_true rfl⟩ (Nat.le_of_ble_eq_true rfl) dX1_digest_127 ⟨Nat.le_of_ble_eq_true rfl, Nat.le_of_ble_eq_true rfl⟩) hS (fun H20 locs hp hS => ?_)
                                obtain ⟨hF9, hx0⟩ := hp
                                have hc_sv := hc_sv.fr hF9 (show ¬ (1 = 0) by omega)
                                have hsa := fun h9 => (hsa h9).fr hF9 (show ¬ (2 = 0) by omega)
                                have hc_tx := hc_tx.fr hF9 (show ¬ (3 = 0) by omega)
                                have hc_tb := hc_tb.fr hF9 (show ¬ (4 = 0) by omega)
                                have hc_tk := hc_tk.fr hF9 (show ¬ (5 = 0) by omega)
                                have hL := hL.fr hF9 (fun i9 hi9 => show ¬ ((1000 * d0 + i9) = 0) by omega)
                                have hV := hV.fr hF9 (fun k9 h1 h2 h3 i9 hi9 => show ¬ ((1000 * k9 + i9) = 0) by omega)
                                have hz9 := hF.1
                                have hF0 := hF.tr hA hF9 (fun q9 hq9 x9 => by have x8 : τ q9 = 0 := x9; show τ q9 < 200 ∨ 1000 ≤ τ q9; omega)
                                have hF := hF0
                                have hc_X : b_tt G B0 τ H20 ((A 0)) 0 (.inr (0, [.ref (((F 0))), .ref ((((A 1)))), .ref ((((A 3)))), .ref ((((A 5)))), .long (31 * (p_mx (p_mw (p_d5 S n) S i) (fun b => p_would S i b 1) j) + ((p_would S i j 1).toInt64))])) := hx0
                                refine lv_iinc (v := nI (j + 1)) (lv' := [(2, .int (nI (j + 1))), (1, .int (nI i)), (0, .ref ((A 0)))]) hx hb dX1_digest_130 hl (k := 0) rfl (nI_1 _) (Nat.le_of_ble_eq_true rfl) rfl (fun ls hl => ?_)
                                refine lv_goto (tgt := 104) hx hb dX1_digest_133 (by decide) ?_
                                exact ih104 (j + 1) (by omega) (by omega) H20 _ hc_X hc_sv hsa hc_tx hc_tb hc_tk hL hV hF _ hS ls (lv_sub hl [0, 1, 2] rfl)
                          exact lp104_17 _ 0 (Nat.zero_le _) (Nat.lt_succ_self _) H10 _ hc_X hc_sv hsa hc_tx hc_tb hc_tk hL hV hF _ hS ls (lv_sub hl [0, 1, 2] rfl)
                    exact lp88_9 _ 0 (Nat.zero_le _) (Nat.lt_succ_self _) H8 _ hc_X hc_sv hsa hc_tx hc_tb hc_tk hL hV hF _ hS ls (lv_sub hl [0, 1] rfl)
                  · refine lv_aload_n hx hb dX1_digest_70 rfl (lv_at hl 1 rfl) ?_
                    refine lv_aload_n hx hb dX1_digest_71 rfl (lv_at hl 1 rfl) ?_
                    refine lv_iload_n hx hb dX1_digest_72 rfl (lv_at hl 0 rfl) ?_
                    refine b_ci0 (cs_X1_373 (rest := [.ref ((A 0))]) CX hl.1 (m_X1_bestTold l (a := (A 0)) (asv := ((A 1))) (atx := ((A 3))) (atk := ((A 5))) (hs := p_mx (p_d4 S n) (fun q => p_shopFor S q) k) (k := k) hc_X hL hW (by omega)) rfl rfl rfl hc_X.at hS rfl ⟨rfl, rfl, Nat.le_of_ble_eq_true rfl, Nat.le_of_ble_eq_true rfl⟩ (Nat.le_of_ble_eq_true rfl) dX1_digest_73 ⟨Nat.le_of_ble_eq_true rfl, Nat.le_of_ble_eq_true rfl⟩) hS (fun locs hS => ?_)
                    refine lv_i2l hx hb dX1_digest_76 rfl ?_
                    refine b_cv (cs_X1_389 (rest := []) CX hl.1 (m_X1_mix l (a := (A 0)) (f0 := (F 0)) (asv := ((A 1))) (atx := ((A 3))) (atk := ((A 5))) (hs := p_mx (p_d4 S n) (fun q => p_shopFor S q) k) (v := (p_shopFor S k).toInt64) hc_X) rfl rfl rfl hc_X.at hS rfl ⟨rfl, rfl, Nat.le_of_ble_eq_true rfl, Nat.le_of_ble_eq_true rfl⟩ (Nat.le_of_ble_eq_true rfl) dX1_digest_77 ⟨Nat.le_of_ble_eq_true rfl, Nat.le_of_ble_eq_true rfl⟩) hS (fun H22 locs hp hS => ?_)
                    obtain ⟨hF9, hx0⟩ := hp
                    have hc_sv := hc_sv.fr hF9 (show ¬ (1 = 0) by omega)
                    have hsa := fun h9 => (hsa h9).fr hF9 (show ¬ (2 = 0) by omega)
                    have hc_tx := hc_tx.fr hF9 (show ¬ (3 = 0) by omega)
                    have hc_tb := hc_tb.fr hF9 (show ¬ (4 = 0) by omega)
                    have hc_tk := hc_tk.fr hF9 (show ¬ (5 = 0) by omega)
                    have hL := hL.fr hF9 (fun i9 hi9 => show ¬ ((1000 * d0 + i9) = 0) by omega)
                    have hV := hV.fr hF9 (fun k9 h1 h2 h3 i9 hi9 => show ¬ ((1000 * k9 + i9) = 0) by omega)
                    have hz9 := hF.1
                    have hF0 := hF.tr hA hF9 (fun q9 hq9 x9 => by have x8 : τ q9 = 0 := x9; show τ q9 < 200 ∨ 1000 ≤ τ q9; omega)
                    have hF := hF0
                    have hc_X : b_tt G B0 τ H22 ((A 0)) 0 (.inr (0, [.ref (((F 0))), .ref ((((A 1)))), .ref ((((A 3)))), .ref ((((A 5)))), .long (31 * (p_mx (p_d4 S n) (fun q => p_shopFor S q) k) + ((p_shopFor S k).toInt64))])) := hx0
                    refine lv_iinc (v := nI (k + 1)) (lv' := [(1, .int (nI (k + 1))), (0, .ref ((A 0)))]) hx hb dX1_digest_80 hl (k := 0) rfl (nI_1 _) (Nat.le_of_ble_eq_true rfl) rfl (fun ls hl => ?_)
                    refine lv_goto (tgt := 65) hx hb dX1_digest_83 (by decide) ?_
                    exact ih65 (k + 1) (by omega) (by omega) H22 hc_X hc_sv hsa hc_tx hc_tb hc_tk hL hV hF _ hS ls (lv_sub hl [0, 1] rfl)
              exact lp65_7 _ 0 (Nat.zero_le _) (Nat.lt_succ_self _) H6 hc_X hc_sv hsa hc_tx hc_tb hc_tk hL hV hF _ hS ls (lv_sub hl [0, 1] rfl)
            · refine lv_aload_n hx hb dX1_digest_39 rfl (lv_at hl 1 rfl) ?_
              refine lv_aload_n hx hb dX1_digest_40 rfl (lv_at hl 1 rfl) ?_
              refine gf_X1_19_0 CX hc_X.at rfl dX1_digest_41 ?_
              refine gf_X1_131_1 CX hL.loop.at rfl dX1_digest_44 ?_
              refine lv_iload_n hx hb dX1_digest_47 rfl (lv_at hl 0 rfl) ?_
              refine b_ild CX hL.sett.at (x := S 0 0 (7 + i)) (vp_in_nI (by omega) (by omega)) (b_at_nI (f := (fun j => S 0 0 (7 + j))) (n := i) (by omega) rfl) dX1_digest_48 ?_
              refine lv_i2l hx hb dX1_digest_49 rfl ?_
              refine b_cv (cs_X1_389 (rest := []) CX hl.1 (m_X1_mix l (a := (A 0)) (f0 := (F 0)) (asv := (A 1)) (atx := (A 3)) (atk := (A 5)) (hs := p_mx (p_d1 S n) (fun j => S 0 0 (7 + j)) i) (v := (S 0 0 (7 + i)).toInt64) hc_X) rfl rfl rfl hc_X.at hS rfl ⟨rfl, rfl, Nat.le_of_ble_eq_true rfl, Nat.le_of_ble_eq_true rfl⟩ (Nat.le_of_ble_eq_true rfl) dX1_digest_50 ⟨Nat.le_of_ble_eq_true rfl, Nat.le_of_ble_eq_true rfl⟩) hS (fun H23 locs hp hS => ?_)
              obtain ⟨hF9, hx0⟩ := hp
              have hc_sv := hc_sv.fr hF9 (show ¬ (1 = 0) by omega)
              have hsa := fun h9 => (hsa h9).fr hF9 (show ¬ (2 = 0) by omega)
              have hc_tx := hc_tx.fr hF9 (show ¬ (3 = 0) by omega)
              have hc_tb := hc_tb.fr hF9 (show ¬ (4 = 0) by omega)
              have hc_tk := hc_tk.fr hF9 (show ¬ (5 = 0) by omega)
              have hL := hL.fr hF9 (fun i9 hi9 => show ¬ ((1000 * d0 + i9) = 0) by omega)
              have hV := hV.fr hF9 (fun k9 h1 h2 h3 i9 hi9 => show ¬ ((1000 * k9 + i9) = 0) by omega)
              have hz9 := hF.1
              have hF0 := hF.tr hA hF9 (fun q9 hq9 x9 => by have x8 : τ q9 = 0 := x9; show τ q9 < 200 ∨ 1000 ≤ τ q9; omega)
              have hF := hF0
              have hc_X : b_tt G B0 τ H23 ((A 0)) 0 (.inr (0, [.ref (((F 0))), .ref (((A 1))), .ref (((A 3))), .ref (((A 5))), .long (31 * (p_mx (p_d1 S n) (fun j => S 0 0 (7 + j)) i) + ((S 0 0 (7 + i)).toInt64))])) := hx0
              refine lv_iinc (v := nI (i + 1)) (lv' := [(1, .int (nI (i + 1))), (0, .ref ((A 0)))]) hx hb dX1_digest_53 hl (k := 0) rfl (nI_1 _) (Nat.le_of_ble_eq_true rfl) rfl (fun ls hl => ?_)
              refine lv_goto (tgt := 33) hx hb dX1_digest_56 (by decide) ?_
              exact ih33 (i + 1) (by omega) (by omega) H23 hc_X hc_sv hsa hc_tx hc_tb hc_tk hL hV hF _ hS ls (lv_sub hl [0, 1] rfl)
        exact lp33_4 _ 0 (Nat.zero_le _) (Nat.lt_succ_self _) H3 hc_X hc_sv hsa hc_tx hc_tb hc_tk hL hV hF _ hS ls (lv_sub hl [0, 1] rfl)
      · refine lv_aload_n hx hb dX1_digest_15 rfl (lv_at hl 1 rfl) ?_
        refine lv_aload_n hx hb dX1_digest_16 rfl (lv_at hl 1 rfl) ?_
        refine lv_iload_n hx hb dX1_digest_17 rfl (lv_at hl 0 rfl) ?_
        refine b_ci0 (cs_X1_331 (rest := [.ref ((A 0))]) CX hl.1 (m_X1_countTold l (a := (A 0)) (asv := (A 1)) (sm := sm) (rs := (if se = true then rs else G.2.2 0)) (n := n) (atx := (A 3)) (atk := (A 5)) (hs := p_mx 2411 (p_number S n) i) (k := i) hc_X hc_sv hL hW (by omega)) rfl rfl rfl hc_X.at hS rfl ⟨rfl, rfl, Nat.le_of_ble_eq_true rfl, Nat.le_of_ble_eq_true rfl⟩ (Nat.le_of_ble_eq_true rfl) dX1_digest_18 ⟨Nat.le_of_ble_eq_true rfl, Nat.le_of_ble_eq_true rfl⟩) hS (fun locs hS => ?_)
        refine lv_i2l hx hb dX1_digest_21 rfl ?_
        refine b_cv (cs_X1_389 (rest := []) CX hl.1 (m_X1_mix l (a := (A 0)) (f0 := (F 0)) (asv := (A 1)) (atx := (A 3)) (atk := (A 5)) (hs := p_mx 2411 (p_number S n) i) (v := (p_number S n i).toInt64) hc_X) rfl rfl rfl hc_X.at hS rfl ⟨rfl, rfl, Nat.le_of_ble_eq_true rfl, Nat.le_of_ble_eq_true rfl⟩ (Nat.le_of_ble_eq_true rfl) dX1_digest_22 ⟨Nat.le_of_ble_eq_true rfl, Nat.le_of_ble_eq_true rfl⟩) hS (fun H25 locs hp hS => ?_)
        obtain ⟨hF9, hx0⟩ := hp
        have hc_sv := hc_sv.fr hF9 (show ¬ (1 = 0) by omega)
        have hsa := fun h9 => (hsa h9).fr hF9 (show ¬ (2 = 0) by omega)
        have hc_tx := hc_tx.fr hF9 (show ¬ (3 = 0) by omega)
        have hc_tb := hc_tb.fr hF9 (show ¬ (4 = 0) by omega)
        have hc_tk := hc_tk.fr hF9 (show ¬ (5 = 0) by omega)
        have hL := hL.fr hF9 (fun i9 hi9 => show ¬ ((1000 * d0 + i9) = 0) by omega)
        have hV := hV.fr hF9 (fun k9 h1 h2 h3 i9 hi9 => show ¬ ((1000 * k9 + i9) = 0) by omega)
        have hz9 := hF.1
        have hF0 := hF.tr hA hF9 (fun q9 hq9 x9 => by have x8 : τ q9 = 0 := x9; show τ q9 < 200 ∨ 1000 ≤ τ q9; omega)
        have hF := hF0
        have hc_X : b_tt G B0 τ H25 ((A 0)) 0 (.inr (0, [.ref (((F 0))), .ref (((A 1))), .ref (((A 3))), .ref (((A 5))), .long (31 * (p_mx 2411 (p_number S n) i) + ((p_number S n i).toInt64))])) := hx0
        refine lv_iinc (v := nI (i + 1)) (lv' := [(1, .int (nI (i + 1))), (0, .ref ((A 0)))]) hx hb dX1_digest_25 hl (k := 0) rfl (nI_1 _) (Nat.le_of_ble_eq_true rfl) rfl (fun ls hl => ?_)
        refine lv_goto (tgt := 9) hx hb dX1_digest_28 (by decide) ?_
        exact ih9 (i + 1) (by omega) (by omega) H25 hc_X hc_sv hsa hc_tx hc_tb hc_tk hL hV hF _ hS ls (lv_sub hl [0, 1] rfl)
  exact lp9_2 _ 0 (Nat.zero_le _) (Nat.lt_succ_self _) H1 hc_X hc_sv hsa hc_tx hc_tb hc_tk hL hV hF _ hS ls (lv_sub hl [0, 1] rfl)
theorem cs_X1_18 {p : Program} {l : Launch} {e : Env} {R : Room} {s : State} {m : MethodId} {args : Array Value} {below : List Frame} {meth : Method} {c : Code} {H : Heap} {locs : List Loc} {cells slots : Nat} {cc : ByteArray} {pc nL a : Nat} {ls : Array Slot} {rest : List Value} {G : b_G} {B0 : Nat} (CX : b_Cx p s m args c cc nL RX1 G B0) (hls : ls.size = nL) {rm : Room} {mc ms : Nat} {As st0 : List Value} {Qc : Array Value → State → Outcome → State → Prop} (hM : Met l yX2_init (ws_ yX2_init cX2_init 1 (Option.none)) rm (b_Pc G B0 H (.ref a :: As)) Qc mc ms (b_A B0)) (hn : As.length = 0) (hS : va_S (b_A B0) s.heap H locs) (hst : st0 = As.reverse ++ .ref a :: rest) (hr : rm.cells = mc ∧ rm.slots = ms ∧ rm.frames + 1 ≤ R.frames ∧ 8 + (1 + 11) + rm.locals ≤ R.locals) (hw : (rest.map fun v => v.category).sum ≤ 8) (hdg : decode cc pc = .ok (.invokespecial 18, 3)) (hf : cells + mc ≤ R.cells ∧ slots + ms ≤ R.slots) : va_Run p l e R s m args below meth c H locs cells slots mc ms (F0 m pc ls st0) rest (Qc (Value.ref a :: As).toArray) (b_A B0) := va_runIN CX.fix hM (⟨va_cnB 0 CX.ts (lw_meth q138) rfl hr.1 hr.2.1 (CX.K.2.1 _ q136 rfl) (CX.ts _ q80) (by decide +kernel) ⟨hr.2.2.1, hr.2.2.2⟩, rfl, CX.ts _ q137⟩) ⟨b_blind G B0 H _, b_pre _ CX.K hS⟩ rfl hn hls hst (lv_room hw) hdg hf
theorem cs_X1_27 {p : Program} {l : Launch} {e : Env} {R : Room} {s : State} {m : MethodId} {args : Array Value} {below : List Frame} {meth : Method} {c : Code} {H : Heap} {locs : List Loc} {cells slots : Nat} {cc : ByteArray} {pc nL a : Nat} {ls : Array Slot} {rest : List Value} {G : b_G} {B0 : Nat} (CX : b_Cx p s m args c cc nL RX1 G B0) (hls : ls.size = nL) {rm : Room} {mc ms : Nat} {As st0 : List Value} {Qc : Array Value → State → Outcome → State → Prop} (hM : Met l yJ2_init (ws_ yJ2_init cJ2_init 1 (Option.none)) rm (b_Pc G B0 H (.ref a :: As)) Qc mc ms (b_A B0)) (hn : As.length = 0) (hS : va_S (b_A B0) s.heap H locs) (hst : st0 = As.reverse ++ .ref a :: rest) (hr : rm.cells = mc ∧ rm.slots = ms ∧ rm.frames + 1 ≤ R.frames ∧ 8 + (1 + 11) + rm.locals ≤ R.locals) (hw : (rest.map fun v => v.category).sum ≤ 8) (hdg : decode cc pc = .ok (.invokespecial 27, 3)) (hf : cells + mc ≤ R.cells ∧ slots + ms ≤ R.slots) : va_Run p l e R s m args below meth c H locs cells slots mc ms (F0 m pc ls st0) rest (Qc (Value.ref a :: As).toArray) (b_A B0) := va_runI CX.fix hM (cwI 0 CX.ts (lw_meth q144) rfl hr.1 hr.2.1 (CX.ts _ q83) (CX.ts _ q214) (CX.ts _ q143) rfl (by decide +kernel) ⟨hr.2.2.1, hr.2.2.2⟩) ⟨b_blind G B0 H _, b_pre _ CX.K hS⟩ rfl hn hls hst (lv_room hw) hdg hf
theorem pf_X1_28_0 {p : Program} {l : Launch} {e : Env} {R : Room} {s : State} {m : MethodId} {args : Array Value} {below : List Frame} {meth : Method} {c : Code} {H : Heap} {locs : List Loc} {cells slots : Nat} {Q : State → Prop} {cc : ByteArray} {pc nL a : Nat} {ls : Array Slot} {rest : List Value} {G : b_G} {B0 : Nat} (CX : b_Cx p s m args c cc nL RX1 G B0) (hin2 : meth.name = "<init>") {fs : List Value} (hP : b_at G a (.inr (0, fs)) H) (hS : va_S (b_A B0) s.heap H locs) (ha : B0 ≤ a) {v : Value} (hn : narrow (tyX1 1) v = v) (hfit : fits (tyX1 1) v = true) (hl : 1 < fs.length) (hdg : decode cc pc = .ok (.putfield 28, 3)) (kk : ∀ (H1 : Heap) (locs1 : List Loc), b_at G a (.inr (0, fs.set 1 v)) H1 → b_Up a H H1 → va_S (b_A B0) s.heap H1 locs1 → W p l e R s m args below meth c H1 locs1 cells slots Q (F0 m (pc + 3) ls rest)) : W p l e R s m args below meth c H locs cells slots Q (F0 m pc ls (v :: .ref a :: rest)) := b_putF CX in_X1 tyX1 tyX1_ok rfl 1 (by decide) (by decide +kernel) q258 (Or.inl rfl) rfl hin2 rfl hP hS ha hn hfit hl hdg kk
theorem cs_X1_34 {p : Program} {l : Launch} {e : Env} {R : Room} {s : State} {m : MethodId} {args : Array Value} {below : List Frame} {meth : Method} {c : Code} {H : Heap} {locs : List Loc} {cells slots : Nat} {cc : ByteArray} {pc nL a : Nat} {ls : Array Slot} {rest : List Value} {G : b_G} {B0 : Nat} (CX : b_Cx p s m args c cc nL RX1 G B0) (hls : ls.size = nL) {rm : Room} {mc ms : Nat} {As st0 : List Value} {Qc : Array Value → State → Outcome → State → Prop} (hM : Met l yJ4_init (ws_ yJ4_init cJ4_init 2 (Option.none)) rm (b_Pc G B0 H (.ref a :: As)) Qc mc ms (b_A B0)) (hn : As.length = 1) (hS : va_S (b_A B0) s.heap H locs) (hst : st0 = As.reverse ++ .ref a :: rest) (hr : rm.cells = mc ∧ rm.slots = ms ∧ rm.frames + 1 ≤ R.frames ∧ 8 + (2 + 11) + rm.locals ≤ R.locals) (hw : (rest.map fun v => v.category).sum ≤ 8) (hdg : decode cc pc = .ok (.invokespecial 34, 3)) (hf : cells + mc ≤ R.cells ∧ slots + ms ≤ R.slots) : va_Run p l e R s m args below meth c H locs cells slots mc ms (F0 m pc ls st0) rest (Qc (Value.ref a :: As).toArray) (b_A B0) := va_runI CX.fix hM (cwI 1 CX.ts (lw_meth q219) rfl hr.1 hr.2.1 (CX.ts _ q85) (CX.ts _ q217) (CX.ts _ q218) rfl (by decide +kernel) ⟨hr.2.2.1, hr.2.2.2⟩) ⟨b_blind G B0 H _, b_pre _ CX.K hS⟩ rfl hn hls hst (lv_room hw) hdg hf
theorem pf_X1_37_0 {p : Program} {l : Launch} {e : Env} {R : Room} {s : State} {m : MethodId} {args : Array Value} {below : List Frame} {meth : Method} {c : Code} {H : Heap} {locs : List Loc} {cells slots : Nat} {Q : State → Prop} {cc : ByteArray} {pc nL a : Nat} {ls : Array Slot} {rest : List Value} {G : b_G} {B0 : Nat} (CX : b_Cx p s m args c cc nL RX1 G B0) (hin2 : meth.name = "<init>") {fs : List Value} (hP : b_at G a (.inr (0, fs)) H) (hS : va_S (b_A B0) s.heap H locs) (ha : B0 ≤ a) {v : Value} (hn : narrow (tyX1 2) v = v) (hfit : fits (tyX1 2) v = true) (hl : 2 < fs.length) (hdg : decode cc pc = .ok (.putfield 37, 3)) (kk : ∀ (H1 : Heap) (locs1 : List Loc), b_at G a (.inr (0, fs.set 2 v)) H1 → b_Up a H H1 → va_S (b_A B0) s.heap H1 locs1 → W p l e R s m args below meth c H1 locs1 cells slots Q (F0 m (pc + 3) ls rest)) : W p l e R s m args below meth c H locs cells slots Q (F0 m pc ls (v :: .ref a :: rest)) := b_putF CX in_X1 tyX1 tyX1_ok rfl 2 (by decide) (by decide +kernel) q260 (Or.inl rfl) rfl hin2 rfl hP hS ha hn hfit hl hdg kk
theorem pf_X1_41_0 {p : Program} {l : Launch} {e : Env} {R : Room} {s : State} {m : MethodId} {args : Array Value} {below : List Frame} {meth : Method} {c : Code} {H : Heap} {locs : List Loc} {cells slots : Nat} {Q : State → Prop} {cc : ByteArray} {pc nL a : Nat} {ls : Array Slot} {rest : List Value} {G : b_G} {B0 : Nat} (CX : b_Cx p s m args c cc nL RX1 G B0) (hin2 : meth.name = "<init>") {fs : List Value} (hP : b_at G a (.inr (0, fs)) H) (hS : va_S (b_A B0) s.heap H locs) (ha : B0 ≤ a) {v : Value} (hn : narrow (tyX1 3) v = v) (hfit : fits (tyX1 3) v = true) (hl : 3 < fs.length) (hdg : decode cc pc = .ok (.putfield 41, 3)) (kk : ∀ (H1 : Heap) (locs1 : List Loc), b_at G a (.inr (0, fs.set 3 v)) H1 → b_Up a H H1 → va_S (b_A B0) s.heap H1 locs1 → W p l e R s m args below meth c H1 locs1 cells slots Q (F0 m (pc + 3) ls rest)) : W p l e R s m args below meth c H locs cells slots Q (F0 m pc ls (v :: .ref a :: rest)) := b_putF CX in_X1 tyX1 tyX1_ok rfl 3 (by decide) (by decide +kernel) q262 (Or.inl rfl) rfl hin2 rfl hP hS ha hn hfit hl hdg kk
set_option maxHeartbeats 2000000 in
set_option maxRecDepth 100000 in
theorem m_X1_init (l : Launch) {G : b_G} {B0 : Nat} {H : Heap} {τ : b_T} {a : Nat} {L : Nat → b_St} (hc_X : b_tt G B0 τ H a 0 (.inr (0, [.null, .null, .null, .null, .long 0]))) : Met l yX1_init (ws_ yX1_init cX1_init 1 (Option.none)) ({ frames := 5, cells := 18, slots := 188, locals := 100 } : Room) (b_Pc G B0 H [.ref a]) (b_Qv B0 (fun H1 => ∃ (τ1 : b_T) (A : Nat → Nat), A 0 = a ∧ b_Ag τ τ1 H ∧ b_Fr τ (fun t => t < 200 ∨ 1000 ≤ t) H H1 ∧ XR G B0 τ1 A H1 (s_0, 0, L, 0, fun _ => 0))) 18 188 (b_A B0) := by
  refine b_of (by decide) (Nat.le_of_ble_eq_true rfl) ?_
  intro p e s m below meth c CX hr hlk hnm hS ls hl
  have CX : b_Cx p s m _ c cX1_init 1 RX1 G B0 := CX
  have hx := CX.hx
  have hb := CX.hb
  have hl : lv_has ls 1 [(0, .ref a)] := hl
  generalize hQ : MQ below (b_Qv B0 (fun H1 => ∃ (τ1 : b_T) (A : Nat → Nat), A 0 = a ∧ b_Ag τ τ1 H ∧ b_Fr τ (fun t => t < 200 ∨ 1000 ≤ t) H H1 ∧ XR G B0 τ1 A H1 (s_0, 0, L, 0, fun _ => 0))) ([.ref a] : List Value).toArray s 18 188 (b_A B0) = Q
  have hF : b_Fr τ (fun t => t < 200 ∨ 1000 ≤ t) H H := b_Fr.rf
  have hA : b_Ag τ τ H := b_Ag.rf
  refine lv_aload_n hx hb dX1_init_0 rfl (lv_at hl 0 rfl) ?_
  refine W.objInit hx hb CX.ow (CX.ts _ q131) (CX.ts _ q132) (CX.ts _ q133) rfl (by rw [CX.ml]; exact hl.1) rfl dX1_init_1 (Nat.le_of_ble_eq_true rfl) (Nat.le_of_ble_eq_true rfl) ?_
  refine W.eq (g2 := F0 m 4 ls []) rfl ?_
  refine lv_aload_n hx hb dX1_init_4 rfl (lv_at hl 0 rfl) ?_
  refine b_new CX in_X2 tyX2 tyX2_ok (ci := 1) rfl q134 q135 q80 (fs := [.null, .null, .null, .null, .int (nI 0), .int (nI 0), .int (nI 0), .int (nI 0), .int (nI 0)]) (nofn_X2) hS (Nat.le_of_ble_eq_true rfl) (Nat.le_of_ble_eq_true rfl) dX1_init_5 (fun q1 H1 hq hB hat hsz hE hS => ?_)
  have hc_X := hc_X.new (tb := 1000 * 1 + 0) hE hq
  have fr_nl : H.size ≤ q1 := by rw [hq]; exact hF.1
  have hA := hA.tr (b_Ag.new (t := 1000 * 1 + 0) hq) hF.1
  have hF := hF.ext hE
  have hc_nl : b_tt G B0 ((upT τ q1 (1000 * 1 + 0))) H1 q1 (1000 * 1 + 0) (.inr (1, [.null, .null, .null, .null, .int (nI 0), .int (nI 0), .int (nI 0), .int (nI 0), .int (nI 0)])) := b_tt.mk hat hB
  refine lv_dup hx hb dX1_init_8 rfl ?_
  refine b_cv (cs_X1_18 (rest := [.ref q1, .ref a]) CX hl.1 (m_X2_init l (id := 1) hc_nl) rfl hS rfl ⟨rfl, rfl, Nat.le_of_ble_eq_true rfl, Nat.le_of_ble_eq_true rfl⟩ (Nat.le_of_ble_eq_true rfl) dX1_init_9 ⟨Nat.le_of_ble_eq_true rfl, Nat.le_of_ble_eq_true rfl⟩) hS (fun H2 locs hp hS => ?_)
  obtain ⟨τ2, q12, q32, q52, q62, hA9, hF9, hr9, hL⟩ := hp
  have hc_X := hc_X.ca hF9 hA9 (show ¬ (1000 * 1 ≤ 0 ∧ 0 < 1000 * 1 + 1000) by omega)
  have hF0 := hF.tr hA hF9 (fun q9 hq9 x9 => by have x8 : 1000 * 1 ≤ τ q9 ∧ τ q9 < 1000 * 1 + 1000 := x9; show τ q9 < 200 ∨ 1000 ≤ τ q9; omega)
  have hA := hA.tr hA9 hF.1
  have hF := hF0
  refine pf_X1_19_0 CX hc_X.at hS hc_X.B rfl rfl (Nat.le_of_ble_eq_true rfl) dX1_init_12 (fun H3 locs hat hu hS => ?_)
  have hL := hL.up hu hc_X.tag (by omega)
  have hF := hF.up hA hu hc_X.tag (fun _ => show 0 < 200 ∨ 1000 ≤ 0 by omega)
  have hc_X : b_tt G B0 τ2 H3 a 0 (.inr (0, [.ref (((f_0 q1 q12 q32 q52 q62) 0)), .null, .null, .null, .long 0])) := hc_X.set hat
  refine lv_aload_n hx hb dX1_init_15 rfl (lv_at hl 0 rfl) ?_
  refine b_new CX in_J2 tyJ2 tyJ2_ok (ci := 2) rfl q213 q141 q83 (fs := [.int (nI 0), .null, .int (nI 0)]) (nofn_J2) hS (Nat.le_of_ble_eq_true rfl) (Nat.le_of_ble_eq_true rfl) dX1_init_16 (fun q4 H4 hq hB hat hsz hE hS => ?_)
  have hc_X := hc_X.new (tb := 1) hE hq
  have hL := hL.new (tb := 1) hE hq
  have fr_sv : H.size ≤ q4 := by rw [hq]; exact hF.1
  have hA := hA.tr (b_Ag.new (t := 1) hq) hF.1
  have hF := hF.ext hE
  have hc_sv : b_tt G B0 ((upT τ2 q4 1)) H4 q4 1 (.inr (2, [.int (nI 0), .null, .int (nI 0)])) := b_tt.mk hat hB
  refine lv_dup hx hb dX1_init_19 rfl ?_
  refine b_cv (cs_X1_27 (rest := [.ref q4, .ref a]) CX hl.1 (m_J2_init l (a := q4) (ta := 1) hc_sv) rfl hS rfl ⟨rfl, rfl, Nat.le_of_ble_eq_true rfl, Nat.le_of_ble_eq_true rfl⟩ (Nat.le_of_ble_eq_true rfl) dX1_init_20 ⟨Nat.le_of_ble_eq_true rfl, Nat.le_of_ble_eq_true rfl⟩) hS (fun H5 locs hp hS => ?_)
  obtain ⟨hF9, hx0⟩ := hp
  have hc_X := hc_X.fr hF9 (show ¬ (0 = 1) by omega)
  have hL := hL.fru hF9 (fun i9 hi9 => by unfold l_use at hi9; show ¬ ((1000 * 1 + i9) = 1); omega)
  have hz9 := hF.1
  have hF0 := hF.tr hA hF9 (fun q9 hq9 x9 => by have x8 : τ q9 = 1 := x9; show τ q9 < 200 ∨ 1000 ≤ τ q9; omega)
  have hF := hF0
  have hc_sv : b_tt G B0 ((upT τ2 q4 1)) H5 q4 1 (.inr (2, [.int (nI 0), .ref ((G.2.2 0)), .int (nI 0)])) := hx0
  refine pf_X1_28_0 CX hnm hc_X.at hS hc_X.B rfl rfl (Nat.le_of_ble_eq_true rfl) dX1_init_23 (fun H6 locs hat hu hS => ?_)
  have hL := hL.up hu hc_X.tag (by omega)
  have hc_sv := hc_sv.up hu hc_X.tag (by decide)
  have hF := hF.up hA hu hc_X.tag (fun _ => show 0 < 200 ∨ 1000 ≤ 0 by omega)
  have hc_X : b_tt G B0 ((upT τ2 q4 1)) H6 a 0 (.inr (0, [.ref (((f_0 q1 q12 q32 q52 q62) 0)), .ref q4, .null, .null, .long 0])) := hc_X.set hat
  refine lv_aload_n hx hb dX1_init_26 rfl (lv_at hl 0 rfl) ?_
  refine b_new CX in_J4 tyJ4 tyJ4_ok (ci := 3) rfl q215 q216 q85 (fs := [.null, .int (nI 0), .int (nI 0), .int (nI 0)]) (nofn_J4) hS (Nat.le_of_ble_eq_true rfl) (Nat.le_of_ble_eq_true rfl) dX1_init_27 (fun q7 H7 hq hB hat hsz hE hS => ?_)
  have hc_X := hc_X.new (tb := 3) hE hq
  have hL := hL.new (tb := 3) hE hq
  have hc_sv := hc_sv.new (tb := 3) hE hq
  have fr_tx : H.size ≤ q7 := by rw [hq]; exact hF.1
  have hA := hA.tr (b_Ag.new (t := 3) hq) hF.1
  have hF := hF.ext hE
  have hc_tx : b_tt G B0 ((upT (upT τ2 q4 1) q7 3)) H7 q7 3 (.inr (3, [.null, .int (nI 0), .int (nI 0), .int (nI 0)])) := b_tt.mk hat hB
  refine lv_dup hx hb dX1_init_30 rfl ?_
  refine lv_bipush (v := nI 60) hx hb dX1_init_31 rfl ?_
  refine b_cv (cs_X1_34 (rest := [.ref q7, .ref a]) CX hl.1 (m_J4_init l (a := q7) (ta := 3) (tv := 4) hc_tx (by omega)) rfl hS rfl ⟨rfl, rfl, Nat.le_of_ble_eq_true rfl, Nat.le_of_ble_eq_true rfl⟩ (Nat.le_of_ble_eq_true rfl) dX1_init_33 ⟨Nat.le_of_ble_eq_true rfl, Nat.le_of_ble_eq_true rfl⟩) hS (fun H8 locs hp hS => ?_)
  obtain ⟨τ8, q8, hA9, hF9, hr0, hx0, hx1⟩ := hp
  have hc_X := hc_X.ca hF9 hA9 (show ¬ (0 = 3) by omega)
  have hL := hL.ca hF9 hA9 (fun i9 hi9 => show ¬ ((1000 * 1 + i9) = 3) by omega)
  have hc_sv := hc_sv.ca hF9 hA9 (show ¬ (1 = 3) by omega)
  have hz9 := hF.1
  have hF0 := hF.tr hA hF9 (fun q9 hq9 x9 => by have x8 : τ q9 = 3 := x9; show τ q9 < 200 ∨ 1000 ≤ τ q9; omega)
  have hA := hA.tr hA9 hF.1
  have hF := hF0
  have hc_tx : b_tt G B0 τ8 H8 q7 3 (.inr (3, [.ref q8, .int (nI 0), .int (nI 0), .int (nI 0)])) := hx0
  have hc_val8 : b_tt G B0 τ8 H8 q8 4 (.inl (G.2.1 1, 60, .inl ((fun _ => nI 0)))) := hx1
  have fr_val8 : H.size ≤ q8 := Nat.le_trans hz9 hr0
  refine pf_X1_37_0 CX hnm hc_X.at hS hc_X.B rfl rfl (Nat.le_of_ble_eq_true rfl) dX1_init_36 (fun H9 locs hat hu hS => ?_)
  have hL := hL.up hu hc_X.tag (by omega)
  have hc_sv := hc_sv.up hu hc_X.tag (by decide)
  have hc_tx := hc_tx.up hu hc_X.tag (by decide)
  have hc_val8 := hc_val8.up hu hc_X.tag (by decide)
  have hF := hF.up hA hu hc_X.tag (fun _ => show 0 < 200 ∨ 1000 ≤ 0 by omega)
  have hc_X : b_tt G B0 τ8 H9 a 0 (.inr (0, [.ref (((f_0 q1 q12 q32 q52 q62) 0)), .ref q4, .ref q7, .null, .long 0])) := hc_X.set hat
  refine lv_aload_n hx hb dX1_init_39 rfl (lv_at hl 0 rfl) ?_
  refine lv_bipush (v := nI 8) hx hb dX1_init_40 rfl ?_
  refine b_newa CX (atype := .int) rfl q212 (K := 0) rfl (fun h => h) (N' := 8) (a0 := (8, .inl (fun _ => nI 0))) rfl (nI_pos (by decide)) (nI_cl (by decide)) (by decide) hS (Nat.le_of_ble_eq_true rfl) (Nat.le_of_ble_eq_true rfl) dX1_init_42 (fun q10 H10 hq hB hat hsz hE hS => ?_)
  have hc_X := hc_X.new (tb := 5) hE hq
  have hL := hL.new (tb := 5) hE hq
  have hc_sv := hc_sv.new (tb := 5) hE hq
  have hc_tx := hc_tx.new (tb := 5) hE hq
  have hc_val8 := hc_val8.new (tb := 5) hE hq
  have fr_tk : H.size ≤ q10 := by rw [hq]; exact hF.1
  have hA := hA.tr (b_Ag.new (t := 5) hq) hF.1
  have hF := hF.ext hE
  have hc_tk : b_tt G B0 ((upT τ8 q10 5)) H10 q10 5 (.inl (G.2.1 0, 8, .inl ((fun _ => nI 0)))) := b_tt.mk hat hB
  refine pf_X1_41_0 CX hnm hc_X.at hS hc_X.B rfl rfl (Nat.le_of_ble_eq_true rfl) dX1_init_44 (fun H11 locs hat hu hS => ?_)
  have hL := hL.up hu hc_X.tag (by omega)
  have hc_sv := hc_sv.up hu hc_X.tag (by decide)
  have hc_tx := hc_tx.up hu hc_X.tag (by decide)
  have hc_val8 := hc_val8.up hu hc_X.tag (by decide)
  have hc_tk := hc_tk.up hu hc_X.tag (by decide)
  have hF := hF.up hA hu hc_X.tag (fun _ => show 0 < 200 ∨ 1000 ≤ 0 by omega)
  have hc_X : b_tt G B0 ((upT τ8 q10 5)) H11 a 0 (.inr (0, [.ref (((f_0 q1 q12 q32 q52 q62) 0)), .ref q4, .ref q7, .ref q10, .long 0])) := hc_X.set hat
  rw [← hQ]
  exact b_vret CX hr hlk hS (Nat.le_of_ble_eq_true rfl) (Nat.le_of_ble_eq_true rfl) dX1_init_47 (⟨_, (a_6 a q4 q7 q8 q10), rfl, hA, hF, XR.mk0 (A := (a_6 a q4 q7 q8 q10)) hc_X hc_sv hc_tx hc_val8 hc_tk hL s_0_WF⟩)
