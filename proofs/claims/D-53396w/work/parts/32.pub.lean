/-! what can be called, 1 -/
set_option maxRecDepth 100000
theorem s_addB_o (S : b_St) (x y : Int32) : ∀ k i j, ¬ (k = 0 ∧ i = 0 ∧ j = 0) → ¬ (k = 1 ∧ i = nb S) → s_addB S x y k i j = S k i j := fun k i j h1 h2 =>
  (u3_n _ _ (fun q => h1 ⟨q.1, q.2.2, q.2.1⟩)).trans ((u3_n _ _ (fun q => h2 ⟨q.1, q.2.2⟩)).trans (u3_n _ _ (fun q => h2 ⟨q.1, q.2.2⟩)))
theorem s_addB_n (S : b_St) (x y : Int32) (h : nb S < 8) : nb (s_addB S x y) = nb S + 1 := by
  have e : s_addB S x y 0 0 0 = nI (nb S + 1) := by simp [s_addB, u3]
  show (s_addB S x y 0 0 0).toNatClampNeg = _
  rw [e, nI_cl (by omega)]
def s_addS0 (S : b_St) : b_St := u3 S 0 0 1 (nI (ns S + 1))
theorem s_addS0_o (S : b_St) : ∀ k i j, ¬ (k = 0 ∧ i = 0 ∧ j = 1) → ¬ (2 ≤ k ∧ k ≤ 5 ∧ ¬ k = 3 ∧ i = ns S) → s_addS0 S k i j = S k i j := fun k i j h1 _ => u3_n _ _ (fun q => h1 ⟨q.1, q.2.2, q.2.1⟩)
theorem s_addS0_n (S : b_St) (h : ns S < 6) : ns (s_addS0 S) = ns S + 1 := by
  have e : s_addS0 S 0 0 1 = nI (ns S + 1) := by simp [s_addS0, u3]
  show (s_addS0 S 0 0 1).toNatClampNeg = _
  rw [e, nI_cl (by omega)]
theorem hbt_app {bt : Nat → Int32} {t : Nat → Nat} {n c : Nat} (h : ∀ j, j < n → bt j = nI (t j)) : ∀ j, j < n + 1 → upd bt n (nI c) j = nI (updT t n c j) := by
  intro j hj
  unfold upd updT
  by_cases e : j = n
  · rw [if_pos e, if_pos e]
  · rw [if_neg e, if_neg e]
    exact h j (by omega)
theorem ht_app {t : Nat → Nat} {n c : Nat} (h : ∀ j, t j < 128) (hc : c < 128) : ∀ j, updT t n c j < 128 := by
  intro j
  unfold updT
  split
  · exact hc
  · exact h j
theorem cx_X1_119 {p : Program} {l : Launch} {e : Env} {R : Room} {s : State} {m : MethodId} {args : Array Value} {below : List Frame} {meth : Method} {c : Code} {H : Heap} {locs : List Loc} {cells slots : Nat} {cc : ByteArray} {pc nL : Nat} {ls : Array Slot} {rest : List Value} {G : b_G} {B0 : Nat} (CX : b_Cx p s m args c cc nL RX1 G B0) (hls : ls.size = nL) {rm : Room} {mc ms : Nat} {As st0 : List Value} {Qc : Array Value → State → Outcome → State → Prop} {XC : String → Addr → State → State → Prop} (hM : vx_Met l yX1_needIndex (ws_ yX1_needIndex cX1_needIndex 1 (Option.none)) rm (b_Pc G B0 H As) Qc XC mc ms (b_A B0)) (hn : As.length = 1) (hS : va_S (b_A B0) s.heap H locs) (hst : st0 = As.reverse ++ rest) (hr : rm.cells = mc ∧ rm.slots = ms ∧ rm.frames + 1 ≤ R.frames ∧ 8 + (1 + 11) + rm.locals ≤ R.locals) (hw : (rest.map fun v => v.category).sum ≤ 8) (hdg : decode cc pc = .ok (.invokestatic 119, 3)) (hf : cells + mc ≤ R.cells ∧ slots + ms ≤ R.slots) : vx_Run p l e R s m args below meth c H locs cells slots mc ms (F0 m pc ls st0) rest (Qc As.toArray) XC (b_A B0) := vx_runS CX.fix hM (va_cwS 1 CX.ts (lw_S q1120 q1121 q79 q1122) rfl hr.1 hr.2.1 (by decide +kernel) ⟨hr.2.2.1, hr.2.2.2⟩) ⟨b_blind G B0 H _, b_pre _ CX.K hS⟩ rfl hn hls hst (lv_room hw) hdg hf
theorem gf_X1_131_1 {p : Program} {l : Launch} {e : Env} {R : Room} {s : State} {m : MethodId} {args : Array Value} {below : List Frame} {meth : Method} {c : Code} {H : Heap} {locs : List Loc} {cells slots : Nat} {Q : State → Prop} {cc : ByteArray} {pc nL a : Nat} {ls : Array Slot} {rest : List Value} {G : b_G} {B0 : Nat} (CX : b_Cx p s m args c cc nL RX1 G B0) {fs : List Value} (hP : b_at G a (.inr (1, fs)) H) {v : Value} (hv : fs[2]? = some v) (hdg : decode cc pc = .ok (.getfield 131, 3)) (kk : W p l e R s m args below meth c H locs cells slots Q (F0 m (pc + 3) ls (v :: rest))) : W p l e R s m args below meth c H locs cells slots Q (F0 m pc ls (.ref a :: rest)) := b_getN CX in_X2 rfl 2 (by decide) q181 (Or.inl rfl) hP hv hdg kk
set_option maxHeartbeats 2000000 in
set_option maxRecDepth 100000 in
theorem m_X1_setting (l : Launch) {G : b_G} {B0 : Nat} {H : Heap} {τ : b_T} {A : Nat → Nat} {S : b_St} {n : Nat} {L : Nat → b_St} {tn : Nat} {t : Nat → Nat} {k : Int32} (hlt : l.stackTraces = false) (hXR : XR G B0 τ A H (S, n, L, tn, t)) : vx_Met l yX1_setting (ws_ yX1_setting cX1_setting 2 (Option.some Jvm.ClassFile.FieldType.int)) ({ frames := 7, cells := 1, slots := 6, locals := 109 } : Room) (b_Pc G B0 H [.ref ((A 0)), .int k]) (b_Qi B0 (fun r H1 => o_ok1 G B0 τ A H (o_setting (S, n, L, tn, t) k) r H1)) (b_X B0 (fun E9 q9 H9 => o_px H (S, n, L, tn, t) (o_setting (S, n, L, tn, t) k) cl_A E9 H9)) 1 6 (b_A B0) := by
  refine b_ofX (by decide) (Nat.le_of_ble_eq_true rfl) ?_
  intro p e s m below meth c CX hr hlk htb hS ls hl
  have CX : b_Cx p s m _ c cX1_setting 2 RX1 G B0 := CX
  have hx := CX.hx
  have hb := CX.hb
  have hl : lv_has ls 2 [(0, .ref ((A 0))), (1, .int k)] := hl
  generalize hQ : vx_MQ below (b_Qi B0 (fun r H1 => o_ok1 G B0 τ A H (o_setting (S, n, L, tn, t) k) r H1)) (b_X B0 (fun E9 q9 H9 => o_px H (S, n, L, tn, t) (o_setting (S, n, L, tn, t) k) cl_A E9 H9)) ([.ref ((A 0)), .int k] : List Value).toArray s 1 6 (b_A B0) = Q
  have hF : b_Fr τ (fun t => t < 200 ∨ 1000 ≤ t) H H := b_Fr.rf
  have hA : b_Ag τ τ H := b_Ag.rf
  have hX : b_Ext H H := b_Ext.rf
  obtain ⟨d0, c0, ids, P0, F, M, E, Z, sm, rs, se, ml, hs, bt, tk9, hc_X, hc_sv, hsa, hse, hc_tx, hc_tb, hbt, hc_tk, hL, hZ, hW, hV, hd0, hdc, hn, htn, ht⟩ := hXR
  have hc_X : b_tt G B0 τ H ((A 0)) 0 (.inr (0, [.ref ((F 0)), .ref ((A 1)), .ref ((A 3)), .ref ((A 5)), .long hs])) := hc_X
  have hc_sv : b_tt G B0 τ H ((A 1)) 1 (.inr (2, [.int sm, .ref ((if se = true then rs else G.2.2 0)), .int (nI n)])) := hc_sv
  have hsa : (se = true → b_tt G B0 τ H rs 2 (.inl (G.2.1 2, q_refs 10 (fun j => if j < n then some (P0 j) else none)))) := hsa
  have hc_tx : b_tt G B0 τ H ((A 3)) 3 (.inr (3, [.ref ((A 4)), .int (nI 0), .int ml, .int (nI tn)])) := hc_tx
  have hc_tb : b_tt G B0 τ H ((A 4)) 4 (.inl (G.2.1 1, 60, .inl bt)) := hc_tb
  have hc_tk : b_tt G B0 τ H ((A 5)) 5 (.inl (G.2.1 0, 8, .inl tk9)) := hc_tk
  have hL : LR G B0 τ d0 F M E H S Z := hL
  have hV : SV G B0 τ d0 c0 n ids P0 H L := hV
  have hn8 := hL.2.2.2.1
  have hn6 := hL.2.2.2.2
  have hnb : nb S = nb S := rfl
  have hns : ns S = ns S := rfl
  have hn : n ≤ 6 := hn
  have htn : tn ≤ 60 := htn
  have ht : ∀ j, t j < 128 := ht
  have hse : se = true ∨ n = 0 := hse
  have hZ : pZ Z S := hZ
  have hW : b_WF S := hW
  have hbt : ∀ j, j < tn → bt j = nI (t j) := hbt
  refine lv_iload_n hx hb dX1_setting_0 rfl (lv_at hl 1 rfl) ?_
  refine lv_iconst (v := nI 0) hx hb dX1_setting_1 rfl ?_
  refine lv_iconst (v := nI 5) hx hb dX1_setting_2 rfl ?_
  refine b_ci0 (cs_X1_73 (rest := []) CX hl.1 (m_X1_in l (x := k) (lo := nI 0) (hi := nI 5) ) rfl hS rfl ⟨rfl, rfl, Nat.le_of_ble_eq_true rfl, Nat.le_of_ble_eq_true rfl⟩ (Nat.le_of_ble_eq_true rfl) dX1_setting_3 ⟨Nat.le_of_ble_eq_true rfl, Nat.le_of_ble_eq_true rfl⟩) hS (fun locs hS => ?_)
  refine b_xv0 (cx_X1_119 (rest := []) CX hl.1 (m_X1_needIndex l (x := bI ((nI 0) ≤ k ∧ k ≤ (nI 5))) hlt) rfl hS rfl ⟨rfl, rfl, Nat.le_of_ble_eq_true rfl, Nat.le_of_ble_eq_true rfl⟩ (Nat.le_of_ble_eq_true rfl) dX1_setting_6 ⟨Nat.le_of_ble_eq_true rfl, Nat.le_of_ble_eq_true rfl⟩) hS (fun E9 q9 Hx2 locs hx9 hS he9 => ?_) (fun hk_6 locs hS => ?_)
  · have hk_6 := bI_0.mp hx9.1
    rw [← hQ]
    have ho : o_setting (S, n, L, tn, t) k = f_no 1 (S, n, L, tn, t) := by
      unfold o_setting
      try dsimp only
      repeat (first | rw [if_pos (by first | assumption | exact ⟨by assumption, by assumption⟩ | (constructor <;> omega) | omega | exact fun q => absurd q (by assumption) | exact fun q => absurd q.1 (by assumption) | exact fun q => absurd q.2 (by assumption) | exact Int32.not_lt.mpr (by assumption) | exact Int32.not_le.mp (by assumption) | exact fun q => q.2 (by assumption) | exact fun q => absurd q.1 (by omega))] | rw [if_neg (by first | assumption | exact ⟨by assumption, by assumption⟩ | (constructor <;> omega) | omega | exact fun q => absurd q (by assumption) | exact fun q => absurd q.1 (by assumption) | exact fun q => absurd q.2 (by assumption) | exact Int32.not_lt.mpr (by assumption) | exact Int32.not_le.mp (by assumption) | exact fun q => q.2 (by assumption) | exact fun q => absurd q.1 (by omega))])
    exact b_xout htb hlk he9 hS (Nat.le_of_ble_eq_true rfl) (Nat.le_of_ble_eq_true rfl) ⟨hX.tr hx9.2.2, 1, by omega, by rw [ho]; rfl, by rw [ho]; rfl, hx9.2.1⟩
  have hk_6 := bI_n0.mp hk_6
  obtain ⟨jk, hjka, hjkb, rfl⟩ := p_rg (by decide) hk_6 (by decide)
  have ejk : ix (nI jk) = jk := ix_n (by omega)
  refine lv_aload_n hx hb dX1_setting_9 rfl (lv_at hl 0 rfl) ?_
  refine gf_X1_19_0 CX hc_X.at rfl dX1_setting_10 ?_
  refine gf_X1_131_1 CX hL.loop.at rfl dX1_setting_13 ?_
  refine lv_iload_n hx hb dX1_setting_16 rfl (lv_at hl 1 rfl) ?_
  refine b_ild CX hL.sett.at (x := S 0 0 (7 + jk)) (vp_in_nI (by omega) (by omega)) (b_at_nI (f := (fun j => S 0 0 (7 + j))) (n := jk) (by omega) rfl) dX1_setting_17 ?_
  have ho : o_setting (S, n, L, tn, t) (nI jk) = (nI 0, S 0 0 (7 + jk), (S, n, L, tn, t)) := by
    unfold o_setting
    simp only [ejk]
    repeat (first | rw [if_pos (by first | assumption | exact ⟨by assumption, by assumption⟩ | (constructor <;> omega) | omega | exact fun q => absurd q (by assumption) | exact fun q => absurd q.1 (by assumption) | exact fun q => absurd q.2 (by assumption) | exact Int32.not_lt.mpr (by assumption) | exact Int32.not_le.mp (by assumption) | exact fun q => q.2 (by assumption) | exact fun q => absurd q.1 (by omega))] | rw [if_neg (by first | assumption | exact ⟨by assumption, by assumption⟩ | (constructor <;> omega) | omega | exact fun q => absurd q (by assumption) | exact fun q => absurd q.1 (by assumption) | exact fun q => absurd q.2 (by assumption) | exact Int32.not_lt.mpr (by assumption) | exact Int32.not_le.mp (by assumption) | exact fun q => q.2 (by assumption) | exact fun q => absurd q.1 (by omega))])
    first | rfl | (unfold f_ok f_no z_save;  rfl)
  rw [← hQ]
  exact vx_ret (b_iret CX hr hlk hS (Nat.le_of_ble_eq_true rfl) (Nat.le_of_ble_eq_true rfl) dX1_setting_18 ((by unfold o_ok1; rw [ho]; exact ⟨rfl, rfl, _, hA, hF, ⟨d0, c0, ids, P0, F, M, E, Z, sm, rs, se, ml, hs, bt, tk9, hc_X, hc_sv, hsa, hse, hc_tx, hc_tb, hbt, hc_tk, hL, hZ, hW, hV, hd0, hdc, hn, htn, ht⟩⟩)))
theorem cx_X1_84 {p : Program} {l : Launch} {e : Env} {R : Room} {s : State} {m : MethodId} {args : Array Value} {below : List Frame} {meth : Method} {c : Code} {H : Heap} {locs : List Loc} {cells slots : Nat} {cc : ByteArray} {pc nL : Nat} {ls : Array Slot} {rest : List Value} {G : b_G} {B0 : Nat} (CX : b_Cx p s m args c cc nL RX1 G B0) (hls : ls.size = nL) {rm : Room} {mc ms : Nat} {As st0 : List Value} {Qc : Array Value → State → Outcome → State → Prop} {XC : String → Addr → State → State → Prop} (hM : vx_Met l yX1_need (ws_ yX1_need cX1_need 1 (Option.none)) rm (b_Pc G B0 H As) Qc XC mc ms (b_A B0)) (hn : As.length = 1) (hS : va_S (b_A B0) s.heap H locs) (hst : st0 = As.reverse ++ rest) (hr : rm.cells = mc ∧ rm.slots = ms ∧ rm.frames + 1 ≤ R.frames ∧ 8 + (1 + 11) + rm.locals ≤ R.locals) (hw : (rest.map fun v => v.category).sum ≤ 8) (hdg : decode cc pc = .ok (.invokestatic 84, 3)) (hf : cells + mc ≤ R.cells ∧ slots + ms ≤ R.slots) : vx_Run p l e R s m args below meth c H locs cells slots mc ms (F0 m pc ls st0) rest (Qc As.toArray) XC (b_A B0) := vx_runS CX.fix hM (va_cwS 1 CX.ts (lw_S q930 q931 q79 q932) rfl hr.1 hr.2.1 (by decide +kernel) ⟨hr.2.2.1, hr.2.2.2⟩) ⟨b_blind G B0 H _, b_pre _ CX.K hS⟩ rfl hn hls hst (lv_room hw) hdg hf
theorem cs_X1_331 {p : Program} {l : Launch} {e : Env} {R : Room} {s : State} {m : MethodId} {args : Array Value} {below : List Frame} {meth : Method} {c : Code} {H : Heap} {locs : List Loc} {cells slots : Nat} {cc : ByteArray} {pc nL a : Nat} {ls : Array Slot} {rest : List Value} {G : b_G} {B0 : Nat} (CX : b_Cx p s m args c cc nL RX1 G B0) (hls : ls.size = nL) {rm : Room} {mc ms : Nat} {As st0 : List Value} {Qc : Array Value → State → Outcome → State → Prop} (hM : Met l yX1_countTold (ws_ yX1_countTold cX1_countTold 2 (Option.some Jvm.ClassFile.FieldType.int)) rm (b_Pc G B0 H (.ref a :: As)) Qc mc ms (b_A B0)) (hn : As.length = 1) {fs : List Value} {ci : Nat} {qc : vw_C} (hc : b_cl[ci]? = some qc) (hq : qc.1 = RX1) (hP : b_at G a (.inr (ci, fs)) H) (hS : va_S (b_A B0) s.heap H locs) (hst : st0 = As.reverse ++ .ref a :: rest) (hr : rm.cells = mc ∧ rm.slots = ms ∧ rm.frames + 1 ≤ R.frames ∧ 8 + (2 + 11) + rm.locals ≤ R.locals) (hw : (rest.map fun v => v.category).sum ≤ 8) (hdg : decode cc pc = .ok (.invokevirtual 331, 3)) (hf : cells + mc ≤ R.cells ∧ slots + ms ≤ R.slots) : va_Run p l e R s m args below meth c H locs cells slots mc ms (F0 m pc ls st0) rest (Qc (Value.ref a :: As).toArray) (b_A B0) := va_runV CX.fix hM (cwV 1 CX.ts (lw_V q826 q828 qs13 q79 q829) rfl hr.1 hr.2.1 (by decide +kernel) ⟨hr.2.2.1, hr.2.2.2⟩) ⟨b_blind G B0 H _, by have h9 := b_recv CX.K hc hP; rw [hq] at h9; exact h9, b_pre _ CX.K hS⟩ rfl hn hls hst (lv_room hw) hdg hf
set_option maxHeartbeats 2000000 in
set_option maxRecDepth 100000 in
theorem m_X1_count (l : Launch) {G : b_G} {B0 : Nat} {H : Heap} {τ : b_T} {A : Nat → Nat} {S : b_St} {n : Nat} {L : Nat → b_St} {tn : Nat} {t : Nat → Nat} {k : Int32} (hlt : l.stackTraces = false) (hXR : XR G B0 τ A H (S, n, L, tn, t)) : vx_Met l yX1_count (ws_ yX1_count cX1_count 2 (Option.some Jvm.ClassFile.FieldType.int)) ({ frames := 7, cells := 1, slots := 6, locals := 155 } : Room) (b_Pc G B0 H [.ref ((A 0)), .int k]) (b_Qi B0 (fun r H1 => o_ok1 G B0 τ A H (o_count (S, n, L, tn, t) k) r H1)) (b_X B0 (fun E9 q9 H9 => o_px H (S, n, L, tn, t) (o_count (S, n, L, tn, t) k) cl_B E9 H9)) 1 6 (b_A B0) := by
  refine b_ofX (by decide) (Nat.le_of_ble_eq_true rfl) ?_
  intro p e s m below meth c CX hr hlk htb hS ls hl
  have CX : b_Cx p s m _ c cX1_count 2 RX1 G B0 := CX
  have hx := CX.hx
  have hb := CX.hb
  have hl : lv_has ls 2 [(0, .ref ((A 0))), (1, .int k)] := hl
  generalize hQ : vx_MQ below (b_Qi B0 (fun r H1 => o_ok1 G B0 τ A H (o_count (S, n, L, tn, t) k) r H1)) (b_X B0 (fun E9 q9 H9 => o_px H (S, n, L, tn, t) (o_count (S, n, L, tn, t) k) cl_B E9 H9)) ([.ref ((A 0)), .int k] : List Value).toArray s 1 6 (b_A B0) = Q
  have hF : b_Fr τ (fun t => t < 200 ∨ 1000 ≤ t) H H := b_Fr.rf
  have hA : b_Ag τ τ H := b_Ag.rf
  have hX : b_Ext H H := b_Ext.rf
  obtain ⟨d0, c0, ids, P0, F, M, E, Z, sm, rs, se, ml, hs, bt, tk9, hc_X, hc_sv, hsa, hse, hc_tx, hc_tb, hbt, hc_tk, hL, hZ, hW, hV, hd0, hdc, hn, htn, ht⟩ := hXR
  have hc_X : b_tt G B0 τ H ((A 0)) 0 (.inr (0, [.ref ((F 0)), .ref ((A 1)), .ref ((A 3)), .ref ((A 5)), .long hs])) := hc_X
  have hc_sv : b_tt G B0 τ H ((A 1)) 1 (.inr (2, [.int sm, .ref ((if se = true then rs else G.2.2 0)), .int (nI n)])) := hc_sv
  have hsa : (se = true → b_tt G B0 τ H rs 2 (.inl (G.2.1 2, q_refs 10 (fun j => if j < n then some (P0 j) else none)))) := hsa
  have hc_tx : b_tt G B0 τ H ((A 3)) 3 (.inr (3, [.ref ((A 4)), .int (nI 0), .int ml, .int (nI tn)])) := hc_tx
  have hc_tb : b_tt G B0 τ H ((A 4)) 4 (.inl (G.2.1 1, 60, .inl bt)) := hc_tb
  have hc_tk : b_tt G B0 τ H ((A 5)) 5 (.inl (G.2.1 0, 8, .inl tk9)) := hc_tk
  have hL : LR G B0 τ d0 F M E H S Z := hL
  have hV : SV G B0 τ d0 c0 n ids P0 H L := hV
  have hn8 := hL.2.2.2.1
  have hn6 := hL.2.2.2.2
  have hnb : nb S = nb S := rfl
  have hns : ns S = ns S := rfl
  have hn : n ≤ 6 := hn
  have htn : tn ≤ 60 := htn
  have ht : ∀ j, t j < 128 := ht
  have hse : se = true ∨ n = 0 := hse
  have hZ : pZ Z S := hZ
  have hW : b_WF S := hW
  have hbt : ∀ j, j < tn → bt j = nI (t j) := hbt
  refine lv_iload_n hx hb dX1_count_0 rfl (lv_at hl 1 rfl) ?_
  refine lv_iconst (v := nI 0) hx hb dX1_count_1 rfl ?_
  refine lv_bipush (v := nI 10) hx hb dX1_count_2 rfl ?_
  refine b_ci0 (cs_X1_73 (rest := []) CX hl.1 (m_X1_in l (x := k) (lo := nI 0) (hi := nI 10) ) rfl hS rfl ⟨rfl, rfl, Nat.le_of_ble_eq_true rfl, Nat.le_of_ble_eq_true rfl⟩ (Nat.le_of_ble_eq_true rfl) dX1_count_4 ⟨Nat.le_of_ble_eq_true rfl, Nat.le_of_ble_eq_true rfl⟩) hS (fun locs hS => ?_)
  refine b_xv0 (cx_X1_84 (rest := []) CX hl.1 (m_X1_need l (x := bI ((nI 0) ≤ k ∧ k ≤ (nI 10))) hlt) rfl hS rfl ⟨rfl, rfl, Nat.le_of_ble_eq_true rfl, Nat.le_of_ble_eq_true rfl⟩ (Nat.le_of_ble_eq_true rfl) dX1_count_7 ⟨Nat.le_of_ble_eq_true rfl, Nat.le_of_ble_eq_true rfl⟩) hS (fun E9 q9 Hx2 locs hx9 hS he9 => ?_) (fun hk_7 locs hS => ?_)
  · have hk_7 := bI_0.mp hx9.1
    rw [← hQ]
    have ho : o_count (S, n, L, tn, t) k = f_no 1 (S, n, L, tn, t) := by
      unfold o_count
      try dsimp only
      repeat (first | rw [if_pos (by first | assumption | exact ⟨by assumption, by assumption⟩ | (constructor <;> omega) | omega | exact fun q => absurd q (by assumption) | exact fun q => absurd q.1 (by assumption) | exact fun q => absurd q.2 (by assumption) | exact Int32.not_lt.mpr (by assumption) | exact Int32.not_le.mp (by assumption) | exact fun q => q.2 (by assumption) | exact fun q => absurd q.1 (by omega))] | rw [if_neg (by first | assumption | exact ⟨by assumption, by assumption⟩ | (constructor <;> omega) | omega | exact fun q => absurd q (by assumption) | exact fun q => absurd q.1 (by assumption) | exact fun q => absurd q.2 (by assumption) | exact Int32.not_lt.mpr (by assumption) | exact Int32.not_le.mp (by assumption) | exact fun q => q.2 (by assumption) | exact fun q => absurd q.1 (by omega))])
    exact b_xout htb hlk he9 hS (Nat.le_of_ble_eq_true rfl) (Nat.le_of_ble_eq_true rfl) ⟨hX.tr hx9.2.2, 1, by omega, by rw [ho]; rfl, by rw [ho]; rfl, hx9.2.1⟩
  have hk_7 := bI_n0.mp hk_7
  obtain ⟨jk, hjka, hjkb, rfl⟩ := p_rg (by decide) hk_7 (by decide)
  have ejk : ix (nI jk) = jk := ix_n (by omega)
  refine lv_aload_n hx hb dX1_count_10 rfl (lv_at hl 0 rfl) ?_
  refine lv_iload_n hx hb dX1_count_11 rfl (lv_at hl 1 rfl) ?_
  refine b_ci0 (cs_X1_331 (rest := []) CX hl.1 (m_X1_countTold l (a := (A 0)) (asv := (A 1)) (sm := sm) (rs := (if se = true then rs else G.2.2 0)) (n := n) (atx := (A 3)) (atk := (A 5)) (hs := hs) (k := jk) hc_X hc_sv hL hW (by omega)) rfl rfl rfl hc_X.at hS rfl ⟨rfl, rfl, Nat.le_of_ble_eq_true rfl, Nat.le_of_ble_eq_true rfl⟩ (Nat.le_of_ble_eq_true rfl) dX1_count_12 ⟨Nat.le_of_ble_eq_true rfl, Nat.le_of_ble_eq_true rfl⟩) hS (fun locs hS => ?_)
  have ho : o_count (S, n, L, tn, t) (nI jk) = (nI 0, p_number S n jk, (S, n, L, tn, t)) := by
    unfold o_count
    simp only [ejk]
    repeat (first | rw [if_pos (by first | assumption | exact ⟨by assumption, by assumption⟩ | (constructor <;> omega) | omega | exact fun q => absurd q (by assumption) | exact fun q => absurd q.1 (by assumption) | exact fun q => absurd q.2 (by assumption) | exact Int32.not_lt.mpr (by assumption) | exact Int32.not_le.mp (by assumption) | exact fun q => q.2 (by assumption) | exact fun q => absurd q.1 (by omega))] | rw [if_neg (by first | assumption | exact ⟨by assumption, by assumption⟩ | (constructor <;> omega) | omega | exact fun q => absurd q (by assumption) | exact fun q => absurd q.1 (by assumption) | exact fun q => absurd q.2 (by assumption) | exact Int32.not_lt.mpr (by assumption) | exact Int32.not_le.mp (by assumption) | exact fun q => q.2 (by assumption) | exact fun q => absurd q.1 (by omega))])
    first | rfl | (unfold f_ok f_no z_save;  rfl)
  rw [← hQ]
  exact vx_ret (b_iret CX hr hlk hS (Nat.le_of_ble_eq_true rfl) (Nat.le_of_ble_eq_true rfl) dX1_count_15 ((by unfold o_ok1; rw [ho]; exact ⟨rfl, rfl, _, hA, hF, ⟨d0, c0, ids, P0, F, M, E, Z, sm, rs, se, ml, hs, bt, tk9, hc_X, hc_sv, hsa, hse, hc_tx, hc_tb, hbt, hc_tk, hL, hZ, hW, hV, hd0, hdc, hn, htn, ht⟩⟩)))
theorem cs_X1_151 {p : Program} {l : Launch} {e : Env} {R : Room} {s : State} {m : MethodId} {args : Array Value} {below : List Frame} {meth : Method} {c : Code} {H : Heap} {locs : List Loc} {cells slots : Nat} {cc : ByteArray} {pc nL a : Nat} {ls : Array Slot} {rest : List Value} {G : b_G} {B0 : Nat} (CX : b_Cx p s m args c cc nL RX1 G B0) (hls : ls.size = nL) {rm : Room} {mc ms : Nat} {As st0 : List Value} {Qc : Array Value → State → Outcome → State → Prop} (hM : Met l yX1_isBrand (ws_ yX1_isBrand cX1_isBrand 2 (Option.some Jvm.ClassFile.FieldType.boolean)) rm (b_Pc G B0 H (.ref a :: As)) Qc mc ms (b_A B0)) (hn : As.length = 1) {fs : List Value} {ci : Nat} {qc : vw_C} (hc : b_cl[ci]? = some qc) (hq : qc.1 = RX1) (hP : b_at G a (.inr (ci, fs)) H) (hS : va_S (b_A B0) s.heap H locs) (hst : st0 = As.reverse ++ .ref a :: rest) (hr : rm.cells = mc ∧ rm.slots = ms ∧ rm.frames + 1 ≤ R.frames ∧ 8 + (2 + 11) + rm.locals ≤ R.locals) (hw : (rest.map fun v => v.category).sum ≤ 8) (hdg : decode cc pc = .ok (.invokevirtual 151, 3)) (hf : cells + mc ≤ R.cells ∧ slots + ms ≤ R.slots) : va_Run p l e R s m args below meth c H locs cells slots mc ms (F0 m pc ls st0) rest (Qc (Value.ref a :: As).toArray) (b_A B0) := va_runV CX.fix hM (cwV 1 CX.ts (lw_V q1149 q1151 qs28 q79 q1152) rfl hr.1 hr.2.1 (by decide +kernel) ⟨hr.2.2.1, hr.2.2.2⟩) ⟨b_blind G B0 H _, by have h9 := b_recv CX.K hc hP; rw [hq] at h9; exact h9, b_pre _ CX.K hS⟩ rfl hn hls hst (lv_room hw) hdg hf
set_option maxHeartbeats 2000000 in
set_option maxRecDepth 100000 in
theorem m_X1_brand (l : Launch) {G : b_G} {B0 : Nat} {H : Heap} {τ : b_T} {A : Nat → Nat} {S : b_St} {n : Nat} {L : Nat → b_St} {tn : Nat} {t : Nat → Nat} {x : Int32} {k : Int32} (hlt : l.stackTraces = false) (hXR : XR G B0 τ A H (S, n, L, tn, t)) : vx_Met l yX1_brand (ws_ yX1_brand cX1_brand 3 (Option.some Jvm.ClassFile.FieldType.int)) ({ frames := 7, cells := 2, slots := 12, locals := 111 } : Room) (b_Pc G B0 H [.ref ((A 0)), .int x, .int k]) (b_Qi B0 (fun r H1 => o_ok1 G B0 τ A H (o_brand (S, n, L, tn, t) x k) r H1)) (b_X B0 (fun E9 q9 H9 => o_px H (S, n, L, tn, t) (o_brand (S, n, L, tn, t) x k) cl_A E9 H9)) 2 12 (b_A B0) := by
  refine b_ofX (by decide) (Nat.le_of_ble_eq_true rfl) ?_
  intro p e s m below meth c CX hr hlk htb hS ls hl
  have CX : b_Cx p s m _ c cX1_brand 3 RX1 G B0 := CX
  have hx := CX.hx
  have hb := CX.hb
  have hl : lv_has ls 3 [(0, .ref ((A 0))), (1, .int x), (2, .int k)] := hl
  generalize hQ : vx_MQ below (b_Qi B0 (fun r H1 => o_ok1 G B0 τ A H (o_brand (S, n, L, tn, t) x k) r H1)) (b_X B0 (fun E9 q9 H9 => o_px H (S, n, L, tn, t) (o_brand (S, n, L, tn, t) x k) cl_A E9 H9)) ([.ref ((A 0)), .int x, .int k] : List Value).toArray s 2 12 (b_A B0) = Q
  have hF : b_Fr τ (fun t => t < 200 ∨ 1000 ≤ t) H H := b_Fr.rf
  have hA : b_Ag τ τ H := b_Ag.rf
  have hX : b_Ext H H := b_Ext.rf
  obtain ⟨d0, c0, ids, P0, F, M, E, Z, sm, rs, se, ml, hs, bt, tk9, hc_X, hc_sv, hsa, hse, hc_tx, hc_tb, hbt, hc_tk, hL, hZ, hW, hV, hd0, hdc, hn, htn, ht⟩ := hXR
  have hc_X : b_tt G B0 τ H ((A 0)) 0 (.inr (0, [.ref ((F 0)), .ref ((A 1)), .ref ((A 3)), .ref ((A 5)), .long hs])) := hc_X
  have hc_sv : b_tt G B0 τ H ((A 1)) 1 (.inr (2, [.int sm, .ref ((if se = true then rs else G.2.2 0)), .int (nI n)])) := hc_sv
  have hsa : (se = true → b_tt G B0 τ H rs 2 (.inl (G.2.1 2, q_refs 10 (fun j => if j < n then some (P0 j) else none)))) := hsa
  have hc_tx : b_tt G B0 τ H ((A 3)) 3 (.inr (3, [.ref ((A 4)), .int (nI 0), .int ml, .int (nI tn)])) := hc_tx
  have hc_tb : b_tt G B0 τ H ((A 4)) 4 (.inl (G.2.1 1, 60, .inl bt)) := hc_tb
  have hc_tk : b_tt G B0 τ H ((A 5)) 5 (.inl (G.2.1 0, 8, .inl tk9)) := hc_tk
  have hL : LR G B0 τ d0 F M E H S Z := hL
  have hV : SV G B0 τ d0 c0 n ids P0 H L := hV
  have hn8 := hL.2.2.2.1
  have hn6 := hL.2.2.2.2
  have hnb : nb S = nb S := rfl
  have hns : ns S = ns S := rfl
  have hn : n ≤ 6 := hn
  have htn : tn ≤ 60 := htn
  have ht : ∀ j, t j < 128 := ht
  have hse : se = true ∨ n = 0 := hse
  have hZ : pZ Z S := hZ
  have hW : b_WF S := hW
  have hbt : ∀ j, j < tn → bt j = nI (t j) := hbt
  refine lv_aload_n hx hb dX1_brand_0 rfl (lv_at hl 0 rfl) ?_
  refine lv_iload_n hx hb dX1_brand_1 rfl (lv_at hl 1 rfl) ?_
  refine b_ci0 (cs_X1_151 (rest := []) CX hl.1 (m_X1_isBrand l (a := (A 0)) (asv := (A 1)) (atx := (A 3)) (atk := (A 5)) (hs := hs) (x := x) hc_X hL hW) rfl rfl rfl hc_X.at hS rfl ⟨rfl, rfl, Nat.le_of_ble_eq_true rfl, Nat.le_of_ble_eq_true rfl⟩ (Nat.le_of_ble_eq_true rfl) dX1_brand_2 ⟨Nat.le_of_ble_eq_true rfl, Nat.le_of_ble_eq_true rfl⟩) hS (fun locs hS => ?_)
  refine b_xv0 (cx_X1_119 (rest := []) CX hl.1 (m_X1_needIndex l (x := bI (nI 0 ≤ x ∧ x ≤ nI (nb S) - nI 1)) hlt) rfl hS rfl ⟨rfl, rfl, Nat.le_of_ble_eq_true rfl, Nat.le_of_ble_eq_true rfl⟩ (Nat.le_of_ble_eq_true rfl) dX1_brand_5 ⟨Nat.le_of_ble_eq_true rfl, Nat.le_of_ble_eq_true rfl⟩) hS (fun E9 q9 Hx2 locs hx9 hS he9 => ?_) (fun hk_5 locs hS => ?_)
  · have hk_5 := bI_0.mp hx9.1
    rw [← hQ]
    have ho : o_brand (S, n, L, tn, t) x k = f_no 1 (S, n, L, tn, t) := by
      unfold o_brand
      try dsimp only
      repeat (first | rw [if_pos (by first | assumption | exact ⟨by assumption, by assumption⟩ | (constructor <;> omega) | omega | exact fun q => absurd q (by assumption) | exact fun q => absurd q.1 (by assumption) | exact fun q => absurd q.2 (by assumption) | exact Int32.not_lt.mpr (by assumption) | exact Int32.not_le.mp (by assumption) | exact fun q => q.2 (by assumption) | exact fun q => absurd q.1 (by omega))] | rw [if_neg (by first | assumption | exact ⟨by assumption, by assumption⟩ | (constructor <;> omega) | omega | exact fun q => absurd q (by assumption) | exact fun q => absurd q.1 (by assumption) | exact fun q => absurd q.2 (by assumption) | exact Int32.not_lt.mpr (by assumption) | exact Int32.not_le.mp (by assumption) | exact fun q => q.2 (by assumption) | exact fun q => absurd q.1 (by omega))])
    exact b_xout htb hlk he9 hS (Nat.le_of_ble_eq_true rfl) (Nat.le_of_ble_eq_true rfl) ⟨hX.tr hx9.2.2, 1, by omega, by rw [ho]; rfl, by rw [ho]; rfl, hx9.2.1⟩
  have hk_5 := bI_n0.mp hk_5
  obtain ⟨jx, hjx, rfl⟩ := isB_lt hW hk_5
  have ejx : ix (nI jx) = jx := ix_n (by omega)
  refine lv_iload_n hx hb dX1_brand_8 rfl (lv_at hl 2 rfl) ?_
  refine lv_iconst (v := nI 0) hx hb dX1_brand_9 rfl ?_
  refine lv_bipush (v := nI 11) hx hb dX1_brand_10 rfl ?_
  refine b_ci0 (cs_X1_73 (rest := []) CX hl.1 (m_X1_in l (x := k) (lo := nI 0) (hi := nI 11) ) rfl hS rfl ⟨rfl, rfl, Nat.le_of_ble_eq_true rfl, Nat.le_of_ble_eq_true rfl⟩ (Nat.le_of_ble_eq_true rfl) dX1_brand_12 ⟨Nat.le_of_ble_eq_true rfl, Nat.le_of_ble_eq_true rfl⟩) hS (fun locs hS => ?_)
  refine b_xv0 (cx_X1_84 (rest := []) CX hl.1 (m_X1_need l (x := bI ((nI 0) ≤ k ∧ k ≤ (nI 11))) hlt) rfl hS rfl ⟨rfl, rfl, Nat.le_of_ble_eq_true rfl, Nat.le_of_ble_eq_true rfl⟩ (Nat.le_of_ble_eq_true rfl) dX1_brand_15 ⟨Nat.le_of_ble_eq_true rfl, Nat.le_of_ble_eq_true rfl⟩) hS (fun E9 q9 Hx4 locs hx9 hS he9 => ?_) (fun hk_15 locs hS => ?_)
  · have hk_15 := bI_0.mp hx9.1
    rw [← hQ]
    have ho : o_brand (S, n, L, tn, t) (nI jx) k = f_no 2 (S, n, L, tn, t) := by
      unfold o_brand
      simp only [ejx]
      repeat (first | rw [if_pos (by first | assumption | exact ⟨by assumption, by assumption⟩ | (constructor <;> omega) | omega | exact fun q => absurd q (by assumption) | exact fun q => absurd q.1 (by assumption) | exact fun q => absurd q.2 (by assumption) | exact Int32.not_lt.mpr (by assumption) | exact Int32.not_le.mp (by assumption) | exact fun q => q.2 (by assumption) | exact fun q => absurd q.1 (by omega))] | rw [if_neg (by first | assumption | exact ⟨by assumption, by assumption⟩ | (constructor <;> omega) | omega | exact fun q => absurd q (by assumption) | exact fun q => absurd q.1 (by assumption) | exact fun q => absurd q.2 (by assumption) | exact Int32.not_lt.mpr (by assumption) | exact Int32.not_le.mp (by assumption) | exact fun q => q.2 (by assumption) | exact fun q => absurd q.1 (by omega))])
    exact b_xout htb hlk he9 hS (Nat.le_of_ble_eq_true rfl) (Nat.le_of_ble_eq_true rfl) ⟨hX.tr hx9.2.2, 2, by omega, by rw [ho]; rfl, by rw [ho]; rfl, hx9.2.1⟩
  have hk_15 := bI_n0.mp hk_15
  obtain ⟨jk, hjka, hjkb, rfl⟩ := p_rg (by decide) hk_15 (by decide)
  have ejk : ix (nI jk) = jk := ix_n (by omega)
  refine lv_aload_n hx hb dX1_brand_18 rfl (lv_at hl 0 rfl) ?_
  refine lv_iload_n hx hb dX1_brand_19 rfl (lv_at hl 1 rfl) ?_
  refine lv_iload_n hx hb dX1_brand_20 rfl (lv_at hl 2 rfl) ?_
  refine b_ci0 (cs_X1_298 (rest := []) CX hl.1 (m_X1_brandTold l (a := (A 0)) (asv := (A 1)) (atx := (A 3)) (atk := (A 5)) (hs := hs) (b := jx) (k := jk) hc_X hL hW (by omega) (by omega)) rfl rfl rfl hc_X.at hS rfl ⟨rfl, rfl, Nat.le_of_ble_eq_true rfl, Nat.le_of_ble_eq_true rfl⟩ (Nat.le_of_ble_eq_true rfl) dX1_brand_21 ⟨Nat.le_of_ble_eq_true rfl, Nat.le_of_ble_eq_true rfl⟩) hS (fun locs hS => ?_)
  have ho : o_brand (S, n, L, tn, t) (nI jx) (nI jk) = (nI 0, p_about S jx jk, (S, n, L, tn, t)) := by
    unfold o_brand
    simp only [ejx, ejk]
    repeat (first | rw [if_pos (by first | assumption | exact ⟨by assumption, by assumption⟩ | (constructor <;> omega) | omega | exact fun q => absurd q (by assumption) | exact fun q => absurd q.1 (by assumption) | exact fun q => absurd q.2 (by assumption) | exact Int32.not_lt.mpr (by assumption) | exact Int32.not_le.mp (by assumption) | exact fun q => q.2 (by assumption) | exact fun q => absurd q.1 (by omega))] | rw [if_neg (by first | assumption | exact ⟨by assumption, by assumption⟩ | (constructor <;> omega) | omega | exact fun q => absurd q (by assumption) | exact fun q => absurd q.1 (by assumption) | exact fun q => absurd q.2 (by assumption) | exact Int32.not_lt.mpr (by assumption) | exact Int32.not_le.mp (by assumption) | exact fun q => q.2 (by assumption) | exact fun q => absurd q.1 (by omega))])
    first | rfl | (unfold f_ok f_no z_save;  rfl)
  rw [← hQ]
  exact vx_ret (b_iret CX hr hlk hS (Nat.le_of_ble_eq_true rfl) (Nat.le_of_ble_eq_true rfl) dX1_brand_24 ((by unfold o_ok1; rw [ho]; exact ⟨rfl, rfl, _, hA, hF, ⟨d0, c0, ids, P0, F, M, E, Z, sm, rs, se, ml, hs, bt, tk9, hc_X, hc_sv, hsa, hse, hc_tx, hc_tb, hbt, hc_tk, hL, hZ, hW, hV, hd0, hdc, hn, htn, ht⟩⟩)))
theorem cs_X1_162 {p : Program} {l : Launch} {e : Env} {R : Room} {s : State} {m : MethodId} {args : Array Value} {below : List Frame} {meth : Method} {c : Code} {H : Heap} {locs : List Loc} {cells slots : Nat} {cc : ByteArray} {pc nL a : Nat} {ls : Array Slot} {rest : List Value} {G : b_G} {B0 : Nat} (CX : b_Cx p s m args c cc nL RX1 G B0) (hls : ls.size = nL) {rm : Room} {mc ms : Nat} {As st0 : List Value} {Qc : Array Value → State → Outcome → State → Prop} (hM : Met l yX1_isShop (ws_ yX1_isShop cX1_isShop 2 (Option.some Jvm.ClassFile.FieldType.boolean)) rm (b_Pc G B0 H (.ref a :: As)) Qc mc ms (b_A B0)) (hn : As.length = 1) {fs : List Value} {ci : Nat} {qc : vw_C} (hc : b_cl[ci]? = some qc) (hq : qc.1 = RX1) (hP : b_at G a (.inr (ci, fs)) H) (hS : va_S (b_A B0) s.heap H locs) (hst : st0 = As.reverse ++ .ref a :: rest) (hr : rm.cells = mc ∧ rm.slots = ms ∧ rm.frames + 1 ≤ R.frames ∧ 8 + (2 + 11) + rm.locals ≤ R.locals) (hw : (rest.map fun v => v.category).sum ≤ 8) (hdg : decode cc pc = .ok (.invokevirtual 162, 3)) (hf : cells + mc ≤ R.cells ∧ slots + ms ≤ R.slots) : va_Run p l e R s m args below meth c H locs cells slots mc ms (F0 m pc ls st0) rest (Qc (Value.ref a :: As).toArray) (b_A B0) := va_runV CX.fix hM (cwV 1 CX.ts (lw_V q1439 q1441 qs29 q79 q1442) rfl hr.1 hr.2.1 (by decide +kernel) ⟨hr.2.2.1, hr.2.2.2⟩) ⟨b_blind G B0 H _, by have h9 := b_recv CX.K hc hP; rw [hq] at h9; exact h9, b_pre _ CX.K hS⟩ rfl hn hls hst (lv_room hw) hdg hf
set_option maxHeartbeats 2000000 in
set_option maxRecDepth 100000 in
theorem m_X1_shop (l : Launch) {G : b_G} {B0 : Nat} {H : Heap} {τ : b_T} {A : Nat → Nat} {S : b_St} {n : Nat} {L : Nat → b_St} {tn : Nat} {t : Nat → Nat} {x : Int32} {k : Int32} (hlt : l.stackTraces = false) (hXR : XR G B0 τ A H (S, n, L, tn, t)) : vx_Met l yX1_shop (ws_ yX1_shop cX1_shop 3 (Option.some Jvm.ClassFile.FieldType.int)) ({ frames := 7, cells := 2, slots := 12, locals := 109 } : Room) (b_Pc G B0 H [.ref ((A 0)), .int x, .int k]) (b_Qi B0 (fun r H1 => o_ok1 G B0 τ A H (o_shop (S, n, L, tn, t) x k) r H1)) (b_X B0 (fun E9 q9 H9 => o_px H (S, n, L, tn, t) (o_shop (S, n, L, tn, t) x k) cl_A E9 H9)) 2 12 (b_A B0) := by
  refine b_ofX (by decide) (Nat.le_of_ble_eq_true rfl) ?_
  intro p e s m below meth c CX hr hlk htb hS ls hl
  have CX : b_Cx p s m _ c cX1_shop 3 RX1 G B0 := CX
  have hx := CX.hx
  have hb := CX.hb
  have hl : lv_has ls 3 [(0, .ref ((A 0))), (1, .int x), (2, .int k)] := hl
  generalize hQ : vx_MQ below (b_Qi B0 (fun r H1 => o_ok1 G B0 τ A H (o_shop (S, n, L, tn, t) x k) r H1)) (b_X B0 (fun E9 q9 H9 => o_px H (S, n, L, tn, t) (o_shop (S, n, L, tn, t) x k) cl_A E9 H9)) ([.ref ((A 0)), .int x, .int k] : List Value).toArray s 2 12 (b_A B0) = Q
  have hF : b_Fr τ (fun t => t < 200 ∨ 1000 ≤ t) H H := b_Fr.rf
  have hA : b_Ag τ τ H := b_Ag.rf
  have hX : b_Ext H H := b_Ext.rf
  obtain ⟨d0, c0, ids, P0, F, M, E, Z, sm, rs, se, ml, hs, bt, tk9, hc_X, hc_sv, hsa, hse, hc_tx, hc_tb, hbt, hc_tk, hL, hZ, hW, hV, hd0, hdc, hn, htn, ht⟩ := hXR
  have hc_X : b_tt G B0 τ H ((A 0)) 0 (.inr (0, [.ref ((F 0)), .ref ((A 1)), .ref ((A 3)), .ref ((A 5)), .long hs])) := hc_X
  have hc_sv : b_tt G B0 τ H ((A 1)) 1 (.inr (2, [.int sm, .ref ((if se = true then rs else G.2.2 0)), .int (nI n)])) := hc_sv
  have hsa : (se = true → b_tt G B0 τ H rs 2 (.inl (G.2.1 2, q_refs 10 (fun j => if j < n then some (P0 j) else none)))) := hsa
  have hc_tx : b_tt G B0 τ H ((A 3)) 3 (.inr (3, [.ref ((A 4)), .int (nI 0), .int ml, .int (nI tn)])) := hc_tx
  have hc_tb : b_tt G B0 τ H ((A 4)) 4 (.inl (G.2.1 1, 60, .inl bt)) := hc_tb
  have hc_tk : b_tt G B0 τ H ((A 5)) 5 (.inl (G.2.1 0, 8, .inl tk9)) := hc_tk
  have hL : LR G B0 τ d0 F M E H S Z := hL
  have hV : SV G B0 τ d0 c0 n ids P0 H L := hV
  have hn8 := hL.2.2.2.1
  have hn6 := hL.2.2.2.2
  have hnb : nb S = nb S := rfl
  have hns : ns S = ns S := rfl
  have hn : n ≤ 6 := hn
  have htn : tn ≤ 60 := htn
  have ht : ∀ j, t j < 128 := ht
  have hse : se = true ∨ n = 0 := hse
  have hZ : pZ Z S := hZ
  have hW : b_WF S := hW
  have hbt : ∀ j, j < tn → bt j = nI (t j) := hbt
  refine lv_aload_n hx hb dX1_shop_0 rfl (lv_at hl 0 rfl) ?_
  refine lv_iload_n hx hb dX1_shop_1 rfl (lv_at hl 1 rfl) ?_
  refine b_ci0 (cs_X1_162 (rest := []) CX hl.1 (m_X1_isShop l (a := (A 0)) (asv := (A 1)) (atx := (A 3)) (atk := (A 5)) (hs := hs) (x := x) hc_X hL hW) rfl rfl rfl hc_X.at hS rfl ⟨rfl, rfl, Nat.le_of_ble_eq_true rfl, Nat.le_of_ble_eq_true rfl⟩ (Nat.le_of_ble_eq_true rfl) dX1_shop_2 ⟨Nat.le_of_ble_eq_true rfl, Nat.le_of_ble_eq_true rfl⟩) hS (fun locs hS => ?_)
  refine b_xv0 (cx_X1_119 (rest := []) CX hl.1 (m_X1_needIndex l (x := bI (nI 0 ≤ x ∧ x ≤ nI (ns S) - nI 1)) hlt) rfl hS rfl ⟨rfl, rfl, Nat.le_of_ble_eq_true rfl, Nat.le_of_ble_eq_true rfl⟩ (Nat.le_of_ble_eq_true rfl) dX1_shop_5 ⟨Nat.le_of_ble_eq_true rfl, Nat.le_of_ble_eq_true rfl⟩) hS (fun E9 q9 Hx2 locs hx9 hS he9 => ?_) (fun hk_5 locs hS => ?_)
  · have hk_5 := bI_0.mp hx9.1
    rw [← hQ]
    have ho : o_shop (S, n, L, tn, t) x k = f_no 1 (S, n, L, tn, t) := by
      unfold o_shop
      try dsimp only
      repeat (first | rw [if_pos (by first | assumption | exact ⟨by assumption, by assumption⟩ | (constructor <;> omega) | omega | exact fun q => absurd q (by assumption) | exact fun q => absurd q.1 (by assumption) | exact fun q => absurd q.2 (by assumption) | exact Int32.not_lt.mpr (by assumption) | exact Int32.not_le.mp (by assumption) | exact fun q => q.2 (by assumption) | exact fun q => absurd q.1 (by omega))] | rw [if_neg (by first | assumption | exact ⟨by assumption, by assumption⟩ | (constructor <;> omega) | omega | exact fun q => absurd q (by assumption) | exact fun q => absurd q.1 (by assumption) | exact fun q => absurd q.2 (by assumption) | exact Int32.not_lt.mpr (by assumption) | exact Int32.not_le.mp (by assumption) | exact fun q => q.2 (by assumption) | exact fun q => absurd q.1 (by omega))])
    exact b_xout htb hlk he9 hS (Nat.le_of_ble_eq_true rfl) (Nat.le_of_ble_eq_true rfl) ⟨hX.tr hx9.2.2, 1, by omega, by rw [ho]; rfl, by rw [ho]; rfl, hx9.2.1⟩
  have hk_5 := bI_n0.mp hk_5
  obtain ⟨jx, hjx, rfl⟩ := isS_lt hW hk_5
  have ejx : ix (nI jx) = jx := ix_n (by omega)
  refine lv_iload_n hx hb dX1_shop_8 rfl (lv_at hl 2 rfl) ?_
  refine b_ci0 (cs_X1_315 (rest := []) CX hl.1 (m_X1_isOfShop l (x := k) ) rfl hS rfl ⟨rfl, rfl, Nat.le_of_ble_eq_true rfl, Nat.le_of_ble_eq_true rfl⟩ (Nat.le_of_ble_eq_true rfl) dX1_shop_9 ⟨Nat.le_of_ble_eq_true rfl, Nat.le_of_ble_eq_true rfl⟩) hS (fun locs hS => ?_)
  refine b_xv0 (cx_X1_84 (rest := []) CX hl.1 (m_X1_need l (x := bI ((nI 0 ≤ k ∧ k ≤ nI 6) ∨ (nI 10 ≤ k ∧ k ≤ nI 17) ∨ (nI 20 ≤ k ∧ k ≤ nI 27))) hlt) rfl hS rfl ⟨rfl, rfl, Nat.le_of_ble_eq_true rfl, Nat.le_of_ble_eq_true rfl⟩ (Nat.le_of_ble_eq_true rfl) dX1_shop_12 ⟨Nat.le_of_ble_eq_true rfl, Nat.le_of_ble_eq_true rfl⟩) hS (fun E9 q9 Hx4 locs hx9 hS he9 => ?_) (fun hk_12 locs hS => ?_)
  · have hk_12 := bI_0.mp hx9.1
    rw [← hQ]
    have ho : o_shop (S, n, L, tn, t) (nI jx) k = f_no 2 (S, n, L, tn, t) := by
      unfold o_shop
      simp only [ejx]
      repeat (first | rw [if_pos (by first | assumption | exact ⟨by assumption, by assumption⟩ | (constructor <;> omega) | omega | exact fun q => absurd q (by assumption) | exact fun q => absurd q.1 (by assumption) | exact fun q => absurd q.2 (by assumption) | exact Int32.not_lt.mpr (by assumption) | exact Int32.not_le.mp (by assumption) | exact fun q => q.2 (by assumption) | exact fun q => absurd q.1 (by omega))] | rw [if_neg (by first | assumption | exact ⟨by assumption, by assumption⟩ | (constructor <;> omega) | omega | exact fun q => absurd q (by assumption) | exact fun q => absurd q.1 (by assumption) | exact fun q => absurd q.2 (by assumption) | exact Int32.not_lt.mpr (by assumption) | exact Int32.not_le.mp (by assumption) | exact fun q => q.2 (by assumption) | exact fun q => absurd q.1 (by omega))])
    exact b_xout htb hlk he9 hS (Nat.le_of_ble_eq_true rfl) (Nat.le_of_ble_eq_true rfl) ⟨hX.tr hx9.2.2, 2, by omega, by rw [ho]; rfl, by rw [ho]; rfl, hx9.2.1⟩
  have hk_12 := bI_n0.mp hk_12
  obtain ⟨jk, hjk, rfl⟩ : ∃ jk, (jk ≤ 6 ∨ (10 ≤ jk ∧ jk < 18) ∨ (20 ≤ jk ∧ jk < 28)) ∧ k = nI jk := by
    rcases hk_12 with h9 | h9 | h9
    all_goals obtain ⟨jk, h8, h7, rfl⟩ := p_rg (by decide) h9 (by decide); exact ⟨jk, by omega, rfl⟩
  have ejk : ix (nI jk) = jk := ix_n (by omega)
  refine lv_aload_n hx hb dX1_shop_15 rfl (lv_at hl 0 rfl) ?_
  refine lv_iload_n hx hb dX1_shop_16 rfl (lv_at hl 1 rfl) ?_
  refine lv_iload_n hx hb dX1_shop_17 rfl (lv_at hl 2 rfl) ?_
  refine b_ci0 (cs_X1_318 (rest := []) CX hl.1 (m_X1_shopTold l (a := (A 0)) (asv := (A 1)) (atx := (A 3)) (atk := (A 5)) (hs := hs) (s_ := jx) (k := jk) hc_X hL hW (by omega) (by omega)) rfl rfl rfl hc_X.at hS rfl ⟨rfl, rfl, Nat.le_of_ble_eq_true rfl, Nat.le_of_ble_eq_true rfl⟩ (Nat.le_of_ble_eq_true rfl) dX1_shop_18 ⟨Nat.le_of_ble_eq_true rfl, Nat.le_of_ble_eq_true rfl⟩) hS (fun locs hS => ?_)
  have ho : o_shop (S, n, L, tn, t) (nI jx) (nI jk) = (nI 0, p_shop S jx jk, (S, n, L, tn, t)) := by
    unfold o_shop
    simp only [ejx, ejk]
    repeat (first | rw [if_pos (by first | assumption | exact ⟨by assumption, by assumption⟩ | (constructor <;> omega) | omega | exact fun q => absurd q (by assumption) | exact fun q => absurd q.1 (by assumption) | exact fun q => absurd q.2 (by assumption) | exact Int32.not_lt.mpr (by assumption) | exact Int32.not_le.mp (by assumption) | exact fun q => q.2 (by assumption) | exact fun q => absurd q.1 (by omega))] | rw [if_neg (by first | assumption | exact ⟨by assumption, by assumption⟩ | (constructor <;> omega) | omega | exact fun q => absurd q (by assumption) | exact fun q => absurd q.1 (by assumption) | exact fun q => absurd q.2 (by assumption) | exact Int32.not_lt.mpr (by assumption) | exact Int32.not_le.mp (by assumption) | exact fun q => q.2 (by assumption) | exact fun q => absurd q.1 (by omega))])
    first | rfl | (unfold f_ok f_no z_save;  rfl)
  rw [← hQ]
  exact vx_ret (b_iret CX hr hlk hS (Nat.le_of_ble_eq_true rfl) (Nat.le_of_ble_eq_true rfl) dX1_shop_21 ((by unfold o_ok1; rw [ho]; exact ⟨rfl, rfl, _, hA, hF, ⟨d0, c0, ids, P0, F, M, E, Z, sm, rs, se, ml, hs, bt, tk9, hc_X, hc_sv, hsa, hse, hc_tx, hc_tb, hbt, hc_tk, hL, hZ, hW, hV, hd0, hdc, hn, htn, ht⟩⟩)))
set_option maxHeartbeats 2000000 in
set_option maxRecDepth 100000 in
theorem m_X1_filled (l : Launch) {G : b_G} {B0 : Nat} {H : Heap} {τ : b_T} {A : Nat → Nat} {S : b_St} {n : Nat} {L : Nat → b_St} {tn : Nat} {t : Nat → Nat} {x : Int32} {b : Int32} (hlt : l.stackTraces = false) (hXR : XR G B0 τ A H (S, n, L, tn, t)) : vx_Met l yX1_filled (ws_ yX1_filled cX1_filled 3 (Option.some Jvm.ClassFile.FieldType.int)) ({ frames := 7, cells := 2, slots := 12, locals := 109 } : Room) (b_Pc G B0 H [.ref ((A 0)), .int x, .int b]) (b_Qi B0 (fun r H1 => o_ok1 G B0 τ A H (o_filled (S, n, L, tn, t) x b) r H1)) (b_X B0 (fun E9 q9 H9 => o_px H (S, n, L, tn, t) (o_filled (S, n, L, tn, t) x b) cl_A E9 H9)) 2 12 (b_A B0) := by
  refine b_ofX (by decide) (Nat.le_of_ble_eq_true rfl) ?_
  intro p e s m below meth c CX hr hlk htb hS ls hl
  have CX : b_Cx p s m _ c cX1_filled 3 RX1 G B0 := CX
  have hx := CX.hx
  have hb := CX.hb
  have hl : lv_has ls 3 [(0, .ref ((A 0))), (1, .int x), (2, .int b)] := hl
  generalize hQ : vx_MQ below (b_Qi B0 (fun r H1 => o_ok1 G B0 τ A H (o_filled (S, n, L, tn, t) x b) r H1)) (b_X B0 (fun E9 q9 H9 => o_px H (S, n, L, tn, t) (o_filled (S, n, L, tn, t) x b) cl_A E9 H9)) ([.ref ((A 0)), .int x, .int b] : List Value).toArray s 2 12 (b_A B0) = Q
  have hF : b_Fr τ (fun t => t < 200 ∨ 1000 ≤ t) H H := b_Fr.rf
  have hA : b_Ag τ τ H := b_Ag.rf
  have hX : b_Ext H H := b_Ext.rf
  obtain ⟨d0, c0, ids, P0, F, M, E, Z, sm, rs, se, ml, hs, bt, tk9, hc_X, hc_sv, hsa, hse, hc_tx, hc_tb, hbt, hc_tk, hL, hZ, hW, hV, hd0, hdc, hn, htn, ht⟩ := hXR
  have hc_X : b_tt G B0 τ H ((A 0)) 0 (.inr (0, [.ref ((F 0)), .ref ((A 1)), .ref ((A 3)), .ref ((A 5)), .long hs])) := hc_X
  have hc_sv : b_tt G B0 τ H ((A 1)) 1 (.inr (2, [.int sm, .ref ((if se = true then rs else G.2.2 0)), .int (nI n)])) := hc_sv
  have hsa : (se = true → b_tt G B0 τ H rs 2 (.inl (G.2.1 2, q_refs 10 (fun j => if j < n then some (P0 j) else none)))) := hsa
  have hc_tx : b_tt G B0 τ H ((A 3)) 3 (.inr (3, [.ref ((A 4)), .int (nI 0), .int ml, .int (nI tn)])) := hc_tx
  have hc_tb : b_tt G B0 τ H ((A 4)) 4 (.inl (G.2.1 1, 60, .inl bt)) := hc_tb
  have hc_tk : b_tt G B0 τ H ((A 5)) 5 (.inl (G.2.1 0, 8, .inl tk9)) := hc_tk
  have hL : LR G B0 τ d0 F M E H S Z := hL
  have hV : SV G B0 τ d0 c0 n ids P0 H L := hV
  have hn8 := hL.2.2.2.1
  have hn6 := hL.2.2.2.2
  have hnb : nb S = nb S := rfl
  have hns : ns S = ns S := rfl
  have hn : n ≤ 6 := hn
  have htn : tn ≤ 60 := htn
  have ht : ∀ j, t j < 128 := ht
  have hse : se = true ∨ n = 0 := hse
  have hZ : pZ Z S := hZ
  have hW : b_WF S := hW
  have hbt : ∀ j, j < tn → bt j = nI (t j) := hbt
  refine lv_aload_n hx hb dX1_filled_0 rfl (lv_at hl 0 rfl) ?_
  refine lv_iload_n hx hb dX1_filled_1 rfl (lv_at hl 1 rfl) ?_
  refine b_ci0 (cs_X1_151 (rest := []) CX hl.1 (m_X1_isBrand l (a := (A 0)) (asv := (A 1)) (atx := (A 3)) (atk := (A 5)) (hs := hs) (x := x) hc_X hL hW) rfl rfl rfl hc_X.at hS rfl ⟨rfl, rfl, Nat.le_of_ble_eq_true rfl, Nat.le_of_ble_eq_true rfl⟩ (Nat.le_of_ble_eq_true rfl) dX1_filled_2 ⟨Nat.le_of_ble_eq_true rfl, Nat.le_of_ble_eq_true rfl⟩) hS (fun locs hS => ?_)
  refine b_xv0 (cx_X1_119 (rest := []) CX hl.1 (m_X1_needIndex l (x := bI (nI 0 ≤ x ∧ x ≤ nI (nb S) - nI 1)) hlt) rfl hS rfl ⟨rfl, rfl, Nat.le_of_ble_eq_true rfl, Nat.le_of_ble_eq_true rfl⟩ (Nat.le_of_ble_eq_true rfl) dX1_filled_5 ⟨Nat.le_of_ble_eq_true rfl, Nat.le_of_ble_eq_true rfl⟩) hS (fun E9 q9 Hx2 locs hx9 hS he9 => ?_) (fun hk_5 locs hS => ?_)
  · have hk_5 := bI_0.mp hx9.1
    rw [← hQ]
    have ho : o_filled (S, n, L, tn, t) x b = f_no 1 (S, n, L, tn, t) := by
      unfold o_filled
      try dsimp only
      repeat (first | rw [if_pos (by first | assumption | exact ⟨by assumption, by assumption⟩ | (constructor <;> omega) | omega | exact fun q => absurd q (by assumption) | exact fun q => absurd q.1 (by assumption) | exact fun q => absurd q.2 (by assumption) | exact Int32.not_lt.mpr (by assumption) | exact Int32.not_le.mp (by assumption) | exact fun q => q.2 (by assumption) | exact fun q => absurd q.1 (by omega))] | rw [if_neg (by first | assumption | exact ⟨by assumption, by assumption⟩ | (constructor <;> omega) | omega | exact fun q => absurd q (by assumption) | exact fun q => absurd q.1 (by assumption) | exact fun q => absurd q.2 (by assumption) | exact Int32.not_lt.mpr (by assumption) | exact Int32.not_le.mp (by assumption) | exact fun q => q.2 (by assumption) | exact fun q => absurd q.1 (by omega))])
    exact b_xout htb hlk he9 hS (Nat.le_of_ble_eq_true rfl) (Nat.le_of_ble_eq_true rfl) ⟨hX.tr hx9.2.2, 1, by omega, by rw [ho]; rfl, by rw [ho]; rfl, hx9.2.1⟩
  have hk_5 := bI_n0.mp hk_5
  obtain ⟨jx, hjx, rfl⟩ := isB_lt hW hk_5
  have ejx : ix (nI jx) = jx := ix_n (by omega)
  refine lv_iload_n hx hb dX1_filled_8 rfl (lv_at hl 2 rfl) ?_
  refine lv_iconst (v := nI 1) hx hb dX1_filled_9 rfl ?_
  refine lv_sipush (v := nI 5000) hx hb dX1_filled_10 rfl ?_
  refine b_ci0 (cs_X1_73 (rest := []) CX hl.1 (m_X1_in l (x := b) (lo := nI 1) (hi := nI 5000) ) rfl hS rfl ⟨rfl, rfl, Nat.le_of_ble_eq_true rfl, Nat.le_of_ble_eq_true rfl⟩ (Nat.le_of_ble_eq_true rfl) dX1_filled_13 ⟨Nat.le_of_ble_eq_true rfl, Nat.le_of_ble_eq_true rfl⟩) hS (fun locs hS => ?_)
  refine b_xv0 (cx_X1_84 (rest := []) CX hl.1 (m_X1_need l (x := bI ((nI 1) ≤ b ∧ b ≤ (nI 5000))) hlt) rfl hS rfl ⟨rfl, rfl, Nat.le_of_ble_eq_true rfl, Nat.le_of_ble_eq_true rfl⟩ (Nat.le_of_ble_eq_true rfl) dX1_filled_16 ⟨Nat.le_of_ble_eq_true rfl, Nat.le_of_ble_eq_true rfl⟩) hS (fun E9 q9 Hx4 locs hx9 hS he9 => ?_) (fun hk_16 locs hS => ?_)
  · have hk_16 := bI_0.mp hx9.1
    rw [← hQ]
    have ho : o_filled (S, n, L, tn, t) (nI jx) b = f_no 2 (S, n, L, tn, t) := by
      unfold o_filled
      simp only [ejx]
      repeat (first | rw [if_pos (by first | assumption | exact ⟨by assumption, by assumption⟩ | (constructor <;> omega) | omega | exact fun q => absurd q (by assumption) | exact fun q => absurd q.1 (by assumption) | exact fun q => absurd q.2 (by assumption) | exact Int32.not_lt.mpr (by assumption) | exact Int32.not_le.mp (by assumption) | exact fun q => q.2 (by assumption) | exact fun q => absurd q.1 (by omega))] | rw [if_neg (by first | assumption | exact ⟨by assumption, by assumption⟩ | (constructor <;> omega) | omega | exact fun q => absurd q (by assumption) | exact fun q => absurd q.1 (by assumption) | exact fun q => absurd q.2 (by assumption) | exact Int32.not_lt.mpr (by assumption) | exact Int32.not_le.mp (by assumption) | exact fun q => q.2 (by assumption) | exact fun q => absurd q.1 (by omega))])
    exact b_xout htb hlk he9 hS (Nat.le_of_ble_eq_true rfl) (Nat.le_of_ble_eq_true rfl) ⟨hX.tr hx9.2.2, 2, by omega, by rw [ho]; rfl, by rw [ho]; rfl, hx9.2.1⟩
  have hk_16 := bI_n0.mp hk_16
  refine lv_aload_n hx hb dX1_filled_19 rfl (lv_at hl 0 rfl) ?_
  refine lv_iload_n hx hb dX1_filled_20 rfl (lv_at hl 1 rfl) ?_
  refine lv_iload_n hx hb dX1_filled_21 rfl (lv_at hl 2 rfl) ?_
  refine b_ci0 (cs_X1_367 (rest := []) CX hl.1 (m_X1_filledTold l (a := (A 0)) (asv := (A 1)) (atx := (A 3)) (atk := (A 5)) (hs := hs) (b := jx) (w_ := b) hc_X hL hW (by omega)) rfl rfl rfl hc_X.at hS rfl ⟨rfl, rfl, Nat.le_of_ble_eq_true rfl, Nat.le_of_ble_eq_true rfl⟩ (Nat.le_of_ble_eq_true rfl) dX1_filled_22 ⟨Nat.le_of_ble_eq_true rfl, Nat.le_of_ble_eq_true rfl⟩) hS (fun locs hS => ?_)
  have ho : o_filled (S, n, L, tn, t) (nI jx) b = (nI 0, p_full S jx b, (S, n, L, tn, t)) := by
    unfold o_filled
    simp only [ejx]
    repeat (first | rw [if_pos (by first | assumption | exact ⟨by assumption, by assumption⟩ | (constructor <;> omega) | omega | exact fun q => absurd q (by assumption) | exact fun q => absurd q.1 (by assumption) | exact fun q => absurd q.2 (by assumption) | exact Int32.not_lt.mpr (by assumption) | exact Int32.not_le.mp (by assumption) | exact fun q => q.2 (by assumption) | exact fun q => absurd q.1 (by omega))] | rw [if_neg (by first | assumption | exact ⟨by assumption, by assumption⟩ | (constructor <;> omega) | omega | exact fun q => absurd q (by assumption) | exact fun q => absurd q.1 (by assumption) | exact fun q => absurd q.2 (by assumption) | exact Int32.not_lt.mpr (by assumption) | exact Int32.not_le.mp (by assumption) | exact fun q => q.2 (by assumption) | exact fun q => absurd q.1 (by omega))])
    first | rfl | (unfold f_ok f_no z_save;  rfl)
  rw [← hQ]
  exact vx_ret (b_iret CX hr hlk hS (Nat.le_of_ble_eq_true rfl) (Nat.le_of_ble_eq_true rfl) dX1_filled_25 ((by unfold o_ok1; rw [ho]; exact ⟨rfl, rfl, _, hA, hF, ⟨d0, c0, ids, P0, F, M, E, Z, sm, rs, se, ml, hs, bt, tk9, hc_X, hc_sv, hsa, hse, hc_tx, hc_tb, hbt, hc_tk, hL, hZ, hW, hV, hd0, hdc, hn, htn, ht⟩⟩)))
theorem cs_X1_80 {p : Program} {l : Launch} {e : Env} {R : Room} {s : State} {m : MethodId} {args : Array Value} {below : List Frame} {meth : Method} {c : Code} {H : Heap} {locs : List Loc} {cells slots : Nat} {cc : ByteArray} {pc nL : Nat} {ls : Array Slot} {rest : List Value} {G : b_G} {B0 : Nat} (CX : b_Cx p s m args c cc nL RX1 G B0) (hls : ls.size = nL) {rm : Room} {mc ms : Nat} {As st0 : List Value} {Qc : Array Value → State → Outcome → State → Prop} (hM : Met l yX1_isKind (ws_ yX1_isKind cX1_isKind 1 (Option.some Jvm.ClassFile.FieldType.boolean)) rm (b_Pc G B0 H As) Qc mc ms (b_A B0)) (hn : As.length = 1) (hS : va_S (b_A B0) s.heap H locs) (hst : st0 = As.reverse ++ rest) (hr : rm.cells = mc ∧ rm.slots = ms ∧ rm.frames + 1 ≤ R.frames ∧ 8 + (1 + 11) + rm.locals ≤ R.locals) (hw : (rest.map fun v => v.category).sum ≤ 8) (hdg : decode cc pc = .ok (.invokestatic 80, 3)) (hf : cells + mc ≤ R.cells ∧ slots + ms ≤ R.slots) : va_Run p l e R s m args below meth c H locs cells slots mc ms (F0 m pc ls st0) rest (Qc As.toArray) (b_A B0) := va_runS CX.fix hM (va_cwS 1 CX.ts (lw_S q927 q928 q79 q929) rfl hr.1 hr.2.1 (by decide +kernel) ⟨hr.2.2.1, hr.2.2.2⟩) ⟨b_blind G B0 H _, b_pre _ CX.K hS⟩ rfl hn hls hst (lv_room hw) hdg hf
theorem cs_X1_373 {p : Program} {l : Launch} {e : Env} {R : Room} {s : State} {m : MethodId} {args : Array Value} {below : List Frame} {meth : Method} {c : Code} {H : Heap} {locs : List Loc} {cells slots : Nat} {cc : ByteArray} {pc nL a : Nat} {ls : Array Slot} {rest : List Value} {G : b_G} {B0 : Nat} (CX : b_Cx p s m args c cc nL RX1 G B0) (hls : ls.size = nL) {rm : Room} {mc ms : Nat} {As st0 : List Value} {Qc : Array Value → State → Outcome → State → Prop} (hM : Met l yX1_bestTold (ws_ yX1_bestTold cX1_bestTold 6 (Option.some Jvm.ClassFile.FieldType.int)) rm (b_Pc G B0 H (.ref a :: As)) Qc mc ms (b_A B0)) (hn : As.length = 1) {fs : List Value} {ci : Nat} {qc : vw_C} (hc : b_cl[ci]? = some qc) (hq : qc.1 = RX1) (hP : b_at G a (.inr (ci, fs)) H) (hS : va_S (b_A B0) s.heap H locs) (hst : st0 = As.reverse ++ .ref a :: rest) (hr : rm.cells = mc ∧ rm.slots = ms ∧ rm.frames + 1 ≤ R.frames ∧ 8 + (6 + 11) + rm.locals ≤ R.locals) (hw : (rest.map fun v => v.category).sum ≤ 8) (hdg : decode cc pc = .ok (.invokevirtual 373, 3)) (hf : cells + mc ≤ R.cells ∧ slots + ms ≤ R.slots) : va_Run p l e R s m args below meth c H locs cells slots mc ms (F0 m pc ls st0) rest (Qc (Value.ref a :: As).toArray) (b_A B0) := va_runV CX.fix hM (cwV 1 CX.ts (lw_V q883 q885 qs23 q79 q886) rfl hr.1 hr.2.1 (by decide +kernel) ⟨hr.2.2.1, hr.2.2.2⟩) ⟨b_blind G B0 H _, by have h9 := b_recv CX.K hc hP; rw [hq] at h9; exact h9, b_pre _ CX.K hS⟩ rfl hn hls hst (lv_room hw) hdg hf
set_option maxHeartbeats 2000000 in
set_option maxRecDepth 100000 in
theorem m_X1_bestShop (l : Launch) {G : b_G} {B0 : Nat} {H : Heap} {τ : b_T} {A : Nat → Nat} {S : b_St} {n : Nat} {L : Nat → b_St} {tn : Nat} {t : Nat → Nat} {k : Int32} (hlt : l.stackTraces = false) (hXR : XR G B0 τ A H (S, n, L, tn, t)) : vx_Met l yX1_bestShop (ws_ yX1_bestShop cX1_bestShop 2 (Option.some Jvm.ClassFile.FieldType.int)) ({ frames := 7, cells := 1, slots := 6, locals := 136 } : Room) (b_Pc G B0 H [.ref ((A 0)), .int k]) (b_Qi B0 (fun r H1 => o_ok1 G B0 τ A H (o_best (S, n, L, tn, t) k) r H1)) (b_X B0 (fun E9 q9 H9 => o_px H (S, n, L, tn, t) (o_best (S, n, L, tn, t) k) cl_B E9 H9)) 1 6 (b_A B0) := by
  refine b_ofX (by decide) (Nat.le_of_ble_eq_true rfl) ?_
  intro p e s m below meth c CX hr hlk htb hS ls hl
  have CX : b_Cx p s m _ c cX1_bestShop 2 RX1 G B0 := CX
  have hx := CX.hx
  have hb := CX.hb
  have hl : lv_has ls 2 [(0, .ref ((A 0))), (1, .int k)] := hl
  generalize hQ : vx_MQ below (b_Qi B0 (fun r H1 => o_ok1 G B0 τ A H (o_best (S, n, L, tn, t) k) r H1)) (b_X B0 (fun E9 q9 H9 => o_px H (S, n, L, tn, t) (o_best (S, n, L, tn, t) k) cl_B E9 H9)) ([.ref ((A 0)), .int k] : List Value).toArray s 1 6 (b_A B0) = Q
  have hF : b_Fr τ (fun t => t < 200 ∨ 1000 ≤ t) H H := b_Fr.rf
  have hA : b_Ag τ τ H := b_Ag.rf
  have hX : b_Ext H H := b_Ext.rf
  obtain ⟨d0, c0, ids, P0, F, M, E, Z, sm, rs, se, ml, hs, bt, tk9, hc_X, hc_sv, hsa, hse, hc_tx, hc_tb, hbt, hc_tk, hL, hZ, hW, hV, hd0, hdc, hn, htn, ht⟩ := hXR
  have hc_X : b_tt G B0 τ H ((A 0)) 0 (.inr (0, [.ref ((F 0)), .ref ((A 1)), .ref ((A 3)), .ref ((A 5)), .long hs])) := hc_X
  have hc_sv : b_tt G B0 τ H ((A 1)) 1 (.inr (2, [.int sm, .ref ((if se = true then rs else G.2.2 0)), .int (nI n)])) := hc_sv
  have hsa : (se = true → b_tt G B0 τ H rs 2 (.inl (G.2.1 2, q_refs 10 (fun j => if j < n then some (P0 j) else none)))) := hsa
  have hc_tx : b_tt G B0 τ H ((A 3)) 3 (.inr (3, [.ref ((A 4)), .int (nI 0), .int ml, .int (nI tn)])) := hc_tx
  have hc_tb : b_tt G B0 τ H ((A 4)) 4 (.inl (G.2.1 1, 60, .inl bt)) := hc_tb
  have hc_tk : b_tt G B0 τ H ((A 5)) 5 (.inl (G.2.1 0, 8, .inl tk9)) := hc_tk
  have hL : LR G B0 τ d0 F M E H S Z := hL
  have hV : SV G B0 τ d0 c0 n ids P0 H L := hV
  have hn8 := hL.2.2.2.1
  have hn6 := hL.2.2.2.2
  have hnb : nb S = nb S := rfl
  have hns : ns S = ns S := rfl
  have hn : n ≤ 6 := hn
  have htn : tn ≤ 60 := htn
  have ht : ∀ j, t j < 128 := ht
  have hse : se = true ∨ n = 0 := hse
  have hZ : pZ Z S := hZ
  have hW : b_WF S := hW
  have hbt : ∀ j, j < tn → bt j = nI (t j) := hbt
  refine lv_iload_n hx hb dX1_bestShop_0 rfl (lv_at hl 1 rfl) ?_
  refine b_ci0 (cs_X1_80 (rest := []) CX hl.1 (m_X1_isKind l (x := k) ) rfl hS rfl ⟨rfl, rfl, Nat.le_of_ble_eq_true rfl, Nat.le_of_ble_eq_true rfl⟩ (Nat.le_of_ble_eq_true rfl) dX1_bestShop_1 ⟨Nat.le_of_ble_eq_true rfl, Nat.le_of_ble_eq_true rfl⟩) hS (fun locs hS => ?_)
  refine b_xv0 (cx_X1_84 (rest := []) CX hl.1 (m_X1_need l (x := bI (nI 0 ≤ k ∧ k ≤ nI 2)) hlt) rfl hS rfl ⟨rfl, rfl, Nat.le_of_ble_eq_true rfl, Nat.le_of_ble_eq_true rfl⟩ (Nat.le_of_ble_eq_true rfl) dX1_bestShop_4 ⟨Nat.le_of_ble_eq_true rfl, Nat.le_of_ble_eq_true rfl⟩) hS (fun E9 q9 Hx2 locs hx9 hS he9 => ?_) (fun hk_4 locs hS => ?_)
  · have hk_4 := bI_0.mp hx9.1
    rw [← hQ]
    have ho : o_best (S, n, L, tn, t) k = f_no 1 (S, n, L, tn, t) := by
      unfold o_best
      try dsimp only
      repeat (first | rw [if_pos (by first | assumption | exact ⟨by assumption, by assumption⟩ | (constructor <;> omega) | omega | exact fun q => absurd q (by assumption) | exact fun q => absurd q.1 (by assumption) | exact fun q => absurd q.2 (by assumption) | exact Int32.not_lt.mpr (by assumption) | exact Int32.not_le.mp (by assumption) | exact fun q => q.2 (by assumption) | exact fun q => absurd q.1 (by omega))] | rw [if_neg (by first | assumption | exact ⟨by assumption, by assumption⟩ | (constructor <;> omega) | omega | exact fun q => absurd q (by assumption) | exact fun q => absurd q.1 (by assumption) | exact fun q => absurd q.2 (by assumption) | exact Int32.not_lt.mpr (by assumption) | exact Int32.not_le.mp (by assumption) | exact fun q => q.2 (by assumption) | exact fun q => absurd q.1 (by omega))])
    exact b_xout htb hlk he9 hS (Nat.le_of_ble_eq_true rfl) (Nat.le_of_ble_eq_true rfl) ⟨hX.tr hx9.2.2, 1, by omega, by rw [ho]; rfl, by rw [ho]; rfl, hx9.2.1⟩
  have hk_4 := bI_n0.mp hk_4
  obtain ⟨jk, hjka, hjkb, rfl⟩ := p_rg (by decide) hk_4 (by decide)
  have ejk : ix (nI jk) = jk := ix_n (by omega)
  refine lv_aload_n hx hb dX1_bestShop_7 rfl (lv_at hl 0 rfl) ?_
  refine lv_iload_n hx hb dX1_bestShop_8 rfl (lv_at hl 1 rfl) ?_
  refine b_ci0 (cs_X1_373 (rest := []) CX hl.1 (m_X1_bestTold l (a := (A 0)) (asv := (A 1)) (atx := (A 3)) (atk := (A 5)) (hs := hs) (k := jk) hc_X hL hW (by omega)) rfl rfl rfl hc_X.at hS rfl ⟨rfl, rfl, Nat.le_of_ble_eq_true rfl, Nat.le_of_ble_eq_true rfl⟩ (Nat.le_of_ble_eq_true rfl) dX1_bestShop_9 ⟨Nat.le_of_ble_eq_true rfl, Nat.le_of_ble_eq_true rfl⟩) hS (fun locs hS => ?_)
  have ho : o_best (S, n, L, tn, t) (nI jk) = (nI 0, p_shopFor S jk, (S, n, L, tn, t)) := by
    unfold o_best
    simp only [ejk]
    repeat (first | rw [if_pos (by first | assumption | exact ⟨by assumption, by assumption⟩ | (constructor <;> omega) | omega | exact fun q => absurd q (by assumption) | exact fun q => absurd q.1 (by assumption) | exact fun q => absurd q.2 (by assumption) | exact Int32.not_lt.mpr (by assumption) | exact Int32.not_le.mp (by assumption) | exact fun q => q.2 (by assumption) | exact fun q => absurd q.1 (by omega))] | rw [if_neg (by first | assumption | exact ⟨by assumption, by assumption⟩ | (constructor <;> omega) | omega | exact fun q => absurd q (by assumption) | exact fun q => absurd q.1 (by assumption) | exact fun q => absurd q.2 (by assumption) | exact Int32.not_lt.mpr (by assumption) | exact Int32.not_le.mp (by assumption) | exact fun q => q.2 (by assumption) | exact fun q => absurd q.1 (by omega))])
    first | rfl | (unfold f_ok f_no z_save;  rfl)
  rw [← hQ]
  exact vx_ret (b_iret CX hr hlk hS (Nat.le_of_ble_eq_true rfl) (Nat.le_of_ble_eq_true rfl) dX1_bestShop_12 ((by unfold o_ok1; rw [ho]; exact ⟨rfl, rfl, _, hA, hF, ⟨d0, c0, ids, P0, F, M, E, Z, sm, rs, se, ml, hs, bt, tk9, hc_X, hc_sv, hsa, hse, hc_tx, hc_tb, hbt, hc_tk, hL, hZ, hW, hV, hd0, hdc, hn, htn, ht⟩⟩)))
set_option maxHeartbeats 2000000 in
set_option maxRecDepth 100000 in
theorem m_X1_mostCrates (l : Launch) {G : b_G} {B0 : Nat} {H : Heap} {τ : b_T} {A : Nat → Nat} {S : b_St} {n : Nat} {L : Nat → b_St} {tn : Nat} {t : Nat → Nat} {x : Int32} {y : Int32} (hlt : l.stackTraces = false) (hXR : XR G B0 τ A H (S, n, L, tn, t)) (hpr : ∀ b, b < nb S → ¬ p_price S b (nI 1) = 0) (hmt : ∀ b s, b < nb S → s < ns S → p_mostT S b s = nI (p_dl S b s 50 0)) : vx_Met l yX1_mostCrates (ws_ yX1_mostCrates cX1_mostCrates 3 (Option.some Jvm.ClassFile.FieldType.int)) ({ frames := 7, cells := 1, slots := 6, locals := 109 } : Room) (b_Pc G B0 H [.ref ((A 0)), .int x, .int y]) (b_Qi B0 (fun r H1 => o_ok1 G B0 τ A H (o_most (S, n, L, tn, t) x y) r H1)) (b_X B0 (fun E9 q9 H9 => o_px H (S, n, L, tn, t) (o_most (S, n, L, tn, t) x y) cl_A E9 H9)) 1 6 (b_A B0) := by
  refine b_ofX (by decide) (Nat.le_of_ble_eq_true rfl) ?_
  intro p e s m below meth c CX hr hlk htb hS ls hl
  have CX : b_Cx p s m _ c cX1_mostCrates 3 RX1 G B0 := CX
  have hx := CX.hx
  have hb := CX.hb
  have hl : lv_has ls 3 [(0, .ref ((A 0))), (1, .int x), (2, .int y)] := hl
  generalize hQ : vx_MQ below (b_Qi B0 (fun r H1 => o_ok1 G B0 τ A H (o_most (S, n, L, tn, t) x y) r H1)) (b_X B0 (fun E9 q9 H9 => o_px H (S, n, L, tn, t) (o_most (S, n, L, tn, t) x y) cl_A E9 H9)) ([.ref ((A 0)), .int x, .int y] : List Value).toArray s 1 6 (b_A B0) = Q
  have hF : b_Fr τ (fun t => t < 200 ∨ 1000 ≤ t) H H := b_Fr.rf
  have hA : b_Ag τ τ H := b_Ag.rf
  have hX : b_Ext H H := b_Ext.rf
  obtain ⟨d0, c0, ids, P0, F, M, E, Z, sm, rs, se, ml, hs, bt, tk9, hc_X, hc_sv, hsa, hse, hc_tx, hc_tb, hbt, hc_tk, hL, hZ, hW, hV, hd0, hdc, hn, htn, ht⟩ := hXR
  have hc_X : b_tt G B0 τ H ((A 0)) 0 (.inr (0, [.ref ((F 0)), .ref ((A 1)), .ref ((A 3)), .ref ((A 5)), .long hs])) := hc_X
  have hc_sv : b_tt G B0 τ H ((A 1)) 1 (.inr (2, [.int sm, .ref ((if se = true then rs else G.2.2 0)), .int (nI n)])) := hc_sv
  have hsa : (se = true → b_tt G B0 τ H rs 2 (.inl (G.2.1 2, q_refs 10 (fun j => if j < n then some (P0 j) else none)))) := hsa
  have hc_tx : b_tt G B0 τ H ((A 3)) 3 (.inr (3, [.ref ((A 4)), .int (nI 0), .int ml, .int (nI tn)])) := hc_tx
  have hc_tb : b_tt G B0 τ H ((A 4)) 4 (.inl (G.2.1 1, 60, .inl bt)) := hc_tb
  have hc_tk : b_tt G B0 τ H ((A 5)) 5 (.inl (G.2.1 0, 8, .inl tk9)) := hc_tk
  have hL : LR G B0 τ d0 F M E H S Z := hL
  have hV : SV G B0 τ d0 c0 n ids P0 H L := hV
  have hn8 := hL.2.2.2.1
  have hn6 := hL.2.2.2.2
  have hnb : nb S = nb S := rfl
  have hns : ns S = ns S := rfl
  have hn : n ≤ 6 := hn
  have htn : tn ≤ 60 := htn
  have ht : ∀ j, t j < 128 := ht
  have hse : se = true ∨ n = 0 := hse
  have hZ : pZ Z S := hZ
  have hW : b_WF S := hW
  have hbt : ∀ j, j < tn → bt j = nI (t j) := hbt
  refine lv_aload_n hx hb dX1_mostCrates_0 rfl (lv_at hl 0 rfl) ?_
  refine lv_iload_n hx hb dX1_mostCrates_1 rfl (lv_at hl 1 rfl) ?_
  refine b_ci0 (cs_X1_151 (rest := []) CX hl.1 (m_X1_isBrand l (a := (A 0)) (asv := (A 1)) (atx := (A 3)) (atk := (A 5)) (hs := hs) (x := x) hc_X hL hW) rfl rfl rfl hc_X.at hS rfl ⟨rfl, rfl, Nat.le_of_ble_eq_true rfl, Nat.le_of_ble_eq_true rfl⟩ (Nat.le_of_ble_eq_true rfl) dX1_mostCrates_2 ⟨Nat.le_of_ble_eq_true rfl, Nat.le_of_ble_eq_true rfl⟩) hS (fun locs hS => ?_)
  refine b_ifeq (tgt := 20) CX dX1_mostCrates_5 (by decide) (fun c_5 => ?_) (fun c_5 => ?_)
  · refine lv_iconst (v := nI 0) hx hb dX1_mostCrates_20 rfl ?_
    refine b_xv0 (cx_X1_119 (rest := []) CX hl.1 (m_X1_needIndex l (x := nI 0) hlt) rfl hS rfl ⟨rfl, rfl, Nat.le_of_ble_eq_true rfl, Nat.le_of_ble_eq_true rfl⟩ (Nat.le_of_ble_eq_true rfl) dX1_mostCrates_21 ⟨Nat.le_of_ble_eq_true rfl, Nat.le_of_ble_eq_true rfl⟩) hS (fun E9 q9 Hx2 locs hx9 hS he9 => ?_) (fun hk_21 locs hS => ?_)
    · rw [← hQ]
      have ho : o_most (S, n, L, tn, t) x y = f_no 1 (S, n, L, tn, t) := by
        unfold o_most
        try dsimp only
        repeat (first | rw [if_pos (by first | assumption | exact ⟨by assumption, by assumption⟩ | (constructor <;> omega) | omega | exact fun q => absurd q (by assumption) | exact fun q => absurd q.1 (by assumption) | exact fun q => absurd q.2 (by assumption) | exact Int32.not_lt.mpr (by assumption) | exact Int32.not_le.mp (by assumption) | exact fun q => q.2 (by assumption) | exact fun q => absurd q.1 (by omega))] | rw [if_neg (by first | assumption | exact ⟨by assumption, by assumption⟩ | (constructor <;> omega) | omega | exact fun q => absurd q (by assumption) | exact fun q => absurd q.1 (by assumption) | exact fun q => absurd q.2 (by assumption) | exact Int32.not_lt.mpr (by assumption) | exact Int32.not_le.mp (by assumption) | exact fun q => q.2 (by assumption) | exact fun q => absurd q.1 (by omega))])
      exact b_xout htb hlk he9 hS (Nat.le_of_ble_eq_true rfl) (Nat.le_of_ble_eq_true rfl) ⟨hX.tr hx9.2.2, 1, by omega, by rw [ho]; rfl, by rw [ho]; rfl, hx9.2.1⟩
    exact absurd (by decide) hk_21
  · refine lv_aload_n hx hb dX1_mostCrates_8 rfl (lv_at hl 0 rfl) ?_
    refine lv_iload_n hx hb dX1_mostCrates_9 rfl (lv_at hl 2 rfl) ?_
    refine b_ci0 (cs_X1_162 (rest := []) CX hl.1 (m_X1_isShop l (a := (A 0)) (asv := (A 1)) (atx := (A 3)) (atk := (A 5)) (hs := hs) (x := y) hc_X hL hW) rfl rfl rfl hc_X.at hS rfl ⟨rfl, rfl, Nat.le_of_ble_eq_true rfl, Nat.le_of_ble_eq_true rfl⟩ (Nat.le_of_ble_eq_true rfl) dX1_mostCrates_10 ⟨Nat.le_of_ble_eq_true rfl, Nat.le_of_ble_eq_true rfl⟩) hS (fun locs hS => ?_)
    refine b_ifeq (tgt := 20) CX dX1_mostCrates_13 (by decide) (fun c_13 => ?_) (fun c_13 => ?_)
    · refine lv_iconst (v := nI 0) hx hb dX1_mostCrates_20 rfl ?_
      refine b_xv0 (cx_X1_119 (rest := []) CX hl.1 (m_X1_needIndex l (x := nI 0) hlt) rfl hS rfl ⟨rfl, rfl, Nat.le_of_ble_eq_true rfl, Nat.le_of_ble_eq_true rfl⟩ (Nat.le_of_ble_eq_true rfl) dX1_mostCrates_21 ⟨Nat.le_of_ble_eq_true rfl, Nat.le_of_ble_eq_true rfl⟩) hS (fun E9 q9 Hx4 locs hx9 hS he9 => ?_) (fun hk_21 locs hS => ?_)
      · rw [← hQ]
        have ho : o_most (S, n, L, tn, t) x y = f_no 1 (S, n, L, tn, t) := by
          unfold o_most
          try dsimp only
          repeat (first | rw [if_pos (by first | assumption | exact ⟨by assumption, by assumption⟩ | (constructor <;> omega) | omega | exact fun q => absurd q (by assumption) | exact fun q => absurd q.1 (by assumption) | exact fun q => absurd q.2 (by assumption) | exact Int32.not_lt.mpr (by assumption) | exact Int32.not_le.mp (by assumption) | exact fun q => q.2 (by assumption) | exact fun q => absurd q.1 (by omega))] | rw [if_neg (by first | assumption | exact ⟨by assumption, by assumption⟩ | (constructor <;> omega) | omega | exact fun q => absurd q (by assumption) | exact fun q => absurd q.1 (by assumption) | exact fun q => absurd q.2 (by assumption) | exact Int32.not_lt.mpr (by assumption) | exact Int32.not_le.mp (by assumption) | exact fun q => q.2 (by assumption) | exact fun q => absurd q.1 (by omega))])
        exact b_xout htb hlk he9 hS (Nat.le_of_ble_eq_true rfl) (Nat.le_of_ble_eq_true rfl) ⟨hX.tr hx9.2.2, 1, by omega, by rw [ho]; rfl, by rw [ho]; rfl, hx9.2.1⟩
      exact absurd (by decide) hk_21
    · obtain ⟨jx, hjx, rfl⟩ := isB_lt hW c_5
      have ejx : ix (nI jx) = jx := ix_n (by omega)
      obtain ⟨jy, hjy, rfl⟩ := isS_lt hW c_13
      have ejy : ix (nI jy) = jy := ix_n (by omega)
      refine lv_iconst (v := nI 1) hx hb dX1_mostCrates_16 rfl ?_
      refine lv_goto (tgt := 21) hx hb dX1_mostCrates_17 (by decide) ?_
      refine b_xv0 (cx_X1_119 (rest := []) CX hl.1 (m_X1_needIndex l (x := nI 1) hlt) rfl hS rfl ⟨rfl, rfl, Nat.le_of_ble_eq_true rfl, Nat.le_of_ble_eq_true rfl⟩ (Nat.le_of_ble_eq_true rfl) dX1_mostCrates_21 ⟨Nat.le_of_ble_eq_true rfl, Nat.le_of_ble_eq_true rfl⟩) hS (fun E9 q9 Hx5 locs hx9 hS he9 => ?_) (fun hk_21 locs hS => ?_)
      · exact absurd hx9.1 (by decide)
      refine lv_aload_n hx hb dX1_mostCrates_24 rfl (lv_at hl 0 rfl) ?_
      refine lv_iload_n hx hb dX1_mostCrates_25 rfl (lv_at hl 1 rfl) ?_
      refine lv_iload_n hx hb dX1_mostCrates_26 rfl (lv_at hl 2 rfl) ?_
      refine b_ci0 (cs_X1_346 (rest := []) CX hl.1 (m_X1_mostTold l (a := (A 0)) (asv := (A 1)) (atx := (A 3)) (atk := (A 5)) (hs := hs) (b := jx) (s_ := jy) hc_X hL hW (by omega) (by omega) (hpr _ (by omega))) rfl rfl rfl hc_X.at hS rfl ⟨rfl, rfl, Nat.le_of_ble_eq_true rfl, Nat.le_of_ble_eq_true rfl⟩ (Nat.le_of_ble_eq_true rfl) dX1_mostCrates_27 ⟨Nat.le_of_ble_eq_true rfl, Nat.le_of_ble_eq_true rfl⟩) hS (fun locs hS => ?_)
      refine b_top (x := p_mostT S jx jy) (y := nI (p_dl S jx jy 50 0)) (hmt _ _ (by omega) (by omega)) ?_
      have ho : o_most (S, n, L, tn, t) (nI jx) (nI jy) = (nI 0, nI (p_dl S jx jy 50 0), (S, n, L, tn, t)) := by
        unfold o_most
        simp only [ejx, ejy]
        repeat (first | rw [if_pos (by first | assumption | exact ⟨by assumption, by assumption⟩ | (constructor <;> omega) | omega | exact fun q => absurd q (by assumption) | exact fun q => absurd q.1 (by assumption) | exact fun q => absurd q.2 (by assumption) | exact Int32.not_lt.mpr (by assumption) | exact Int32.not_le.mp (by assumption) | exact fun q => q.2 (by assumption) | exact fun q => absurd q.1 (by omega))] | rw [if_neg (by first | assumption | exact ⟨by assumption, by assumption⟩ | (constructor <;> omega) | omega | exact fun q => absurd q (by assumption) | exact fun q => absurd q.1 (by assumption) | exact fun q => absurd q.2 (by assumption) | exact Int32.not_lt.mpr (by assumption) | exact Int32.not_le.mp (by assumption) | exact fun q => q.2 (by assumption) | exact fun q => absurd q.1 (by omega))])
        first | rfl | (unfold f_ok f_no z_save;  rfl)
      rw [← hQ]
      exact vx_ret (b_iret CX hr hlk hS (Nat.le_of_ble_eq_true rfl) (Nat.le_of_ble_eq_true rfl) dX1_mostCrates_30 ((by unfold o_ok1; rw [ho]; exact ⟨rfl, rfl, _, hA, hF, ⟨d0, c0, ids, P0, F, M, E, Z, sm, rs, se, ml, hs, bt, tk9, hc_X, hc_sv, hsa, hse, hc_tx, hc_tb, hbt, hc_tk, hL, hZ, hW, hV, hd0, hdc, hn, htn, ht⟩⟩)))
theorem cs_X1_360 {p : Program} {l : Launch} {e : Env} {R : Room} {s : State} {m : MethodId} {args : Array Value} {below : List Frame} {meth : Method} {c : Code} {H : Heap} {locs : List Loc} {cells slots : Nat} {cc : ByteArray} {pc nL a : Nat} {ls : Array Slot} {rest : List Value} {G : b_G} {B0 : Nat} (CX : b_Cx p s m args c cc nL RX1 G B0) (hls : ls.size = nL) {rm : Room} {mc ms : Nat} {As st0 : List Value} {Qc : Array Value → State → Outcome → State → Prop} (hM : Met l yX1_collectedTold (ws_ yX1_collectedTold cX1_collectedTold 5 (Option.some Jvm.ClassFile.FieldType.int)) rm (b_Pc G B0 H (.ref a :: As)) Qc mc ms (b_A B0)) (hn : As.length = 3) {fs : List Value} {ci : Nat} {qc : vw_C} (hc : b_cl[ci]? = some qc) (hq : qc.1 = RX1) (hP : b_at G a (.inr (ci, fs)) H) (hS : va_S (b_A B0) s.heap H locs) (hst : st0 = As.reverse ++ .ref a :: rest) (hr : rm.cells = mc ∧ rm.slots = ms ∧ rm.frames + 1 ≤ R.frames ∧ 8 + (5 + 11) + rm.locals ≤ R.locals) (hw : (rest.map fun v => v.category).sum ≤ 8) (hdg : decode cc pc = .ok (.invokevirtual 360, 3)) (hf : cells + mc ≤ R.cells ∧ slots + ms ≤ R.slots) : va_Run p l e R s m args below meth c H locs cells slots mc ms (F0 m pc ls st0) rest (Qc (Value.ref a :: As).toArray) (b_A B0) := va_runV CX.fix hM (cwV 3 CX.ts (lw_V q899 q901 qs25 q79 q902) rfl hr.1 hr.2.1 (by decide +kernel) ⟨hr.2.2.1, hr.2.2.2⟩) ⟨b_blind G B0 H _, by have h9 := b_recv CX.K hc hP; rw [hq] at h9; exact h9, b_pre _ CX.K hS⟩ rfl hn hls hst (lv_room hw) hdg hf
set_option maxHeartbeats 2000000 in
set_option maxRecDepth 100000 in
theorem m_X1_collected (l : Launch) {G : b_G} {B0 : Nat} {H : Heap} {τ : b_T} {A : Nat → Nat} {S : b_St} {n : Nat} {L : Nat → b_St} {tn : Nat} {t : Nat → Nat} {x : Int32} {y : Int32} {c_ : Int32} (hlt : l.stackTraces = false) (hXR : XR G B0 τ A H (S, n, L, tn, t)) (hmf : ∀ s b c, s < ns S → b < nb S → 1 ≤ c → c ≤ 50 → (p_from S s (kd S b) < nI c ↔ ¬ a_collect S s (kd S b) (nI c) ≤ 0)) (hpk : ∀ s b c, s < ns S → b < nb S → c ≤ 50 → a_collect S s (kd S b) (nI c) ≤ 0 → p_picks S s (kd S b) c) : vx_Met l yX1_collected (ws_ yX1_collected cX1_collected 4 (Option.some Jvm.ClassFile.FieldType.int)) ({ frames := 7, cells := 2, slots := 12, locals := 135 } : Room) (b_Pc G B0 H [.ref ((A 0)), .int x, .int y, .int c_]) (b_Qi B0 (fun r H1 => o_ok1 G B0 τ A H (o_collected (S, n, L, tn, t) x y c_) r H1)) (b_X B0 (fun E9 q9 H9 => o_px H (S, n, L, tn, t) (o_collected (S, n, L, tn, t) x y c_) cl_A E9 H9)) 2 12 (b_A B0) := by
  refine b_ofX (by decide) (Nat.le_of_ble_eq_true rfl) ?_
  intro p e s m below meth c CX hr hlk htb hS ls hl
  have CX : b_Cx p s m _ c cX1_collected 4 RX1 G B0 := CX
  have hx := CX.hx
  have hb := CX.hb
  have hl : lv_has ls 4 [(0, .ref ((A 0))), (1, .int x), (2, .int y), (3, .int c_)] := hl
  generalize hQ : vx_MQ below (b_Qi B0 (fun r H1 => o_ok1 G B0 τ A H (o_collected (S, n, L, tn, t) x y c_) r H1)) (b_X B0 (fun E9 q9 H9 => o_px H (S, n, L, tn, t) (o_collected (S, n, L, tn, t) x y c_) cl_A E9 H9)) ([.ref ((A 0)), .int x, .int y, .int c_] : List Value).toArray s 2 12 (b_A B0) = Q
  have hF : b_Fr τ (fun t => t < 200 ∨ 1000 ≤ t) H H := b_Fr.rf
  have hA : b_Ag τ τ H := b_Ag.rf
  have hX : b_Ext H H := b_Ext.rf
  obtain ⟨d0, c0, ids, P0, F, M, E, Z, sm, rs, se, ml, hs, bt, tk9, hc_X, hc_sv, hsa, hse, hc_tx, hc_tb, hbt, hc_tk, hL, hZ, hW, hV, hd0, hdc, hn, htn, ht⟩ := hXR
  have hc_X : b_tt G B0 τ H ((A 0)) 0 (.inr (0, [.ref ((F 0)), .ref ((A 1)), .ref ((A 3)), .ref ((A 5)), .long hs])) := hc_X
  have hc_sv : b_tt G B0 τ H ((A 1)) 1 (.inr (2, [.int sm, .ref ((if se = true then rs else G.2.2 0)), .int (nI n)])) := hc_sv
  have hsa : (se = true → b_tt G B0 τ H rs 2 (.inl (G.2.1 2, q_refs 10 (fun j => if j < n then some (P0 j) else none)))) := hsa
  have hc_tx : b_tt G B0 τ H ((A 3)) 3 (.inr (3, [.ref ((A 4)), .int (nI 0), .int ml, .int (nI tn)])) := hc_tx
  have hc_tb : b_tt G B0 τ H ((A 4)) 4 (.inl (G.2.1 1, 60, .inl bt)) := hc_tb
  have hc_tk : b_tt G B0 τ H ((A 5)) 5 (.inl (G.2.1 0, 8, .inl tk9)) := hc_tk
  have hL : LR G B0 τ d0 F M E H S Z := hL
  have hV : SV G B0 τ d0 c0 n ids P0 H L := hV
  have hn8 := hL.2.2.2.1
  have hn6 := hL.2.2.2.2
  have hnb : nb S = nb S := rfl
  have hns : ns S = ns S := rfl
  have hn : n ≤ 6 := hn
  have htn : tn ≤ 60 := htn
  have ht : ∀ j, t j < 128 := ht
  have hse : se = true ∨ n = 0 := hse
  have hZ : pZ Z S := hZ
  have hW : b_WF S := hW
  have hbt : ∀ j, j < tn → bt j = nI (t j) := hbt
  refine lv_aload_n hx hb dX1_collected_0 rfl (lv_at hl 0 rfl) ?_
  refine lv_iload_n hx hb dX1_collected_1 rfl (lv_at hl 1 rfl) ?_
  refine b_ci0 (cs_X1_162 (rest := []) CX hl.1 (m_X1_isShop l (a := (A 0)) (asv := (A 1)) (atx := (A 3)) (atk := (A 5)) (hs := hs) (x := x) hc_X hL hW) rfl rfl rfl hc_X.at hS rfl ⟨rfl, rfl, Nat.le_of_ble_eq_true rfl, Nat.le_of_ble_eq_true rfl⟩ (Nat.le_of_ble_eq_true rfl) dX1_collected_2 ⟨Nat.le_of_ble_eq_true rfl, Nat.le_of_ble_eq_true rfl⟩) hS (fun locs hS => ?_)
  refine b_ifeq (tgt := 20) CX dX1_collected_5 (by decide) (fun c_5 => ?_) (fun c_5 => ?_)
  · refine lv_iconst (v := nI 0) hx hb dX1_collected_20 rfl ?_
    refine b_xv0 (cx_X1_119 (rest := []) CX hl.1 (m_X1_needIndex l (x := nI 0) hlt) rfl hS rfl ⟨rfl, rfl, Nat.le_of_ble_eq_true rfl, Nat.le_of_ble_eq_true rfl⟩ (Nat.le_of_ble_eq_true rfl) dX1_collected_21 ⟨Nat.le_of_ble_eq_true rfl, Nat.le_of_ble_eq_true rfl⟩) hS (fun E9 q9 Hx2 locs hx9 hS he9 => ?_) (fun hk_21 locs hS => ?_)
    · rw [← hQ]
      have ho : o_collected (S, n, L, tn, t) x y c_ = f_no 1 (S, n, L, tn, t) := by
        unfold o_collected
        try dsimp only
        repeat (first | rw [if_pos (by first | assumption | exact ⟨by assumption, by assumption⟩ | (constructor <;> omega) | omega | exact fun q => absurd q (by assumption) | exact fun q => absurd q.1 (by assumption) | exact fun q => absurd q.2 (by assumption) | exact Int32.not_lt.mpr (by assumption) | exact Int32.not_le.mp (by assumption) | exact fun q => q.2 (by assumption) | exact fun q => absurd q.1 (by omega))] | rw [if_neg (by first | assumption | exact ⟨by assumption, by assumption⟩ | (constructor <;> omega) | omega | exact fun q => absurd q (by assumption) | exact fun q => absurd q.1 (by assumption) | exact fun q => absurd q.2 (by assumption) | exact Int32.not_lt.mpr (by assumption) | exact Int32.not_le.mp (by assumption) | exact fun q => q.2 (by assumption) | exact fun q => absurd q.1 (by omega))])
      exact b_xout htb hlk he9 hS (Nat.le_of_ble_eq_true rfl) (Nat.le_of_ble_eq_true rfl) ⟨hX.tr hx9.2.2, 1, by omega, by rw [ho]; rfl, by rw [ho]; rfl, hx9.2.1⟩
    exact absurd (by decide) hk_21
  · refine lv_aload_n hx hb dX1_collected_8 rfl (lv_at hl 0 rfl) ?_
    refine lv_iload_n hx hb dX1_collected_9 rfl (lv_at hl 2 rfl) ?_
    refine b_ci0 (cs_X1_151 (rest := []) CX hl.1 (m_X1_isBrand l (a := (A 0)) (asv := (A 1)) (atx := (A 3)) (atk := (A 5)) (hs := hs) (x := y) hc_X hL hW) rfl rfl rfl hc_X.at hS rfl ⟨rfl, rfl, Nat.le_of_ble_eq_true rfl, Nat.le_of_ble_eq_true rfl⟩ (Nat.le_of_ble_eq_true rfl) dX1_collected_10 ⟨Nat.le_of_ble_eq_true rfl, Nat.le_of_ble_eq_true rfl⟩) hS (fun locs hS => ?_)
    refine b_ifeq (tgt := 20) CX dX1_collected_13 (by decide) (fun c_13 => ?_) (fun c_13 => ?_)
    · refine lv_iconst (v := nI 0) hx hb dX1_collected_20 rfl ?_
      refine b_xv0 (cx_X1_119 (rest := []) CX hl.1 (m_X1_needIndex l (x := nI 0) hlt) rfl hS rfl ⟨rfl, rfl, Nat.le_of_ble_eq_true rfl, Nat.le_of_ble_eq_true rfl⟩ (Nat.le_of_ble_eq_true rfl) dX1_collected_21 ⟨Nat.le_of_ble_eq_true rfl, Nat.le_of_ble_eq_true rfl⟩) hS (fun E9 q9 Hx4 locs hx9 hS he9 => ?_) (fun hk_21 locs hS => ?_)
      · rw [← hQ]
        have ho : o_collected (S, n, L, tn, t) x y c_ = f_no 1 (S, n, L, tn, t) := by
          unfold o_collected
          try dsimp only
          repeat (first | rw [if_pos (by first | assumption | exact ⟨by assumption, by assumption⟩ | (constructor <;> omega) | omega | exact fun q => absurd q (by assumption) | exact fun q => absurd q.1 (by assumption) | exact fun q => absurd q.2 (by assumption) | exact Int32.not_lt.mpr (by assumption) | exact Int32.not_le.mp (by assumption) | exact fun q => q.2 (by assumption) | exact fun q => absurd q.1 (by omega))] | rw [if_neg (by first | assumption | exact ⟨by assumption, by assumption⟩ | (constructor <;> omega) | omega | exact fun q => absurd q (by assumption) | exact fun q => absurd q.1 (by assumption) | exact fun q => absurd q.2 (by assumption) | exact Int32.not_lt.mpr (by assumption) | exact Int32.not_le.mp (by assumption) | exact fun q => q.2 (by assumption) | exact fun q => absurd q.1 (by omega))])
        exact b_xout htb hlk he9 hS (Nat.le_of_ble_eq_true rfl) (Nat.le_of_ble_eq_true rfl) ⟨hX.tr hx9.2.2, 1, by omega, by rw [ho]; rfl, by rw [ho]; rfl, hx9.2.1⟩
      exact absurd (by decide) hk_21
    · obtain ⟨jx, hjx, rfl⟩ := isS_lt hW c_5
      have ejx : ix (nI jx) = jx := ix_n (by omega)
      obtain ⟨jy, hjy, rfl⟩ := isB_lt hW c_13
      have ejy : ix (nI jy) = jy := ix_n (by omega)
      refine lv_iconst (v := nI 1) hx hb dX1_collected_16 rfl ?_
      refine lv_goto (tgt := 21) hx hb dX1_collected_17 (by decide) ?_
      refine b_xv0 (cx_X1_119 (rest := []) CX hl.1 (m_X1_needIndex l (x := nI 1) hlt) rfl hS rfl ⟨rfl, rfl, Nat.le_of_ble_eq_true rfl, Nat.le_of_ble_eq_true rfl⟩ (Nat.le_of_ble_eq_true rfl) dX1_collected_21 ⟨Nat.le_of_ble_eq_true rfl, Nat.le_of_ble_eq_true rfl⟩) hS (fun E9 q9 Hx5 locs hx9 hS he9 => ?_) (fun hk_21 locs hS => ?_)
      · exact absurd hx9.1 (by decide)
      refine lv_iload_n hx hb dX1_collected_24 rfl (lv_at hl 3 rfl) ?_
      refine lv_iconst (v := nI 1) hx hb dX1_collected_25 rfl ?_
      refine lv_bipush (v := nI 50) hx hb dX1_collected_26 rfl ?_
      refine b_ci0 (cs_X1_73 (rest := []) CX hl.1 (m_X1_in l (x := c_) (lo := nI 1) (hi := nI 50) ) rfl hS rfl ⟨rfl, rfl, Nat.le_of_ble_eq_true rfl, Nat.le_of_ble_eq_true rfl⟩ (Nat.le_of_ble_eq_true rfl) dX1_collected_28 ⟨Nat.le_of_ble_eq_true rfl, Nat.le_of_ble_eq_true rfl⟩) hS (fun locs hS => ?_)
      refine b_xv0 (cx_X1_84 (rest := []) CX hl.1 (m_X1_need l (x := bI ((nI 1) ≤ c_ ∧ c_ ≤ (nI 50))) hlt) rfl hS rfl ⟨rfl, rfl, Nat.le_of_ble_eq_true rfl, Nat.le_of_ble_eq_true rfl⟩ (Nat.le_of_ble_eq_true rfl) dX1_collected_31 ⟨Nat.le_of_ble_eq_true rfl, Nat.le_of_ble_eq_true rfl⟩) hS (fun E9 q9 Hx7 locs hx9 hS he9 => ?_) (fun hk_31 locs hS => ?_)
      · have hk_31 := bI_0.mp hx9.1
        rw [← hQ]
        have ho : o_collected (S, n, L, tn, t) (nI jx) (nI jy) c_ = f_no 2 (S, n, L, tn, t) := by
          unfold o_collected
          simp only [ejx, ejy]
          repeat (first | rw [if_pos (by first | assumption | exact ⟨by assumption, by assumption⟩ | (constructor <;> omega) | omega | exact fun q => absurd q (by assumption) | exact fun q => absurd q.1 (by assumption) | exact fun q => absurd q.2 (by assumption) | exact Int32.not_lt.mpr (by assumption) | exact Int32.not_le.mp (by assumption) | exact fun q => q.2 (by assumption) | exact fun q => absurd q.1 (by omega))] | rw [if_neg (by first | assumption | exact ⟨by assumption, by assumption⟩ | (constructor <;> omega) | omega | exact fun q => absurd q (by assumption) | exact fun q => absurd q.1 (by assumption) | exact fun q => absurd q.2 (by assumption) | exact Int32.not_lt.mpr (by assumption) | exact Int32.not_le.mp (by assumption) | exact fun q => q.2 (by assumption) | exact fun q => absurd q.1 (by omega))])
        exact b_xout htb hlk he9 hS (Nat.le_of_ble_eq_true rfl) (Nat.le_of_ble_eq_true rfl) ⟨hX.tr hx9.2.2, 2, by omega, by rw [ho]; rfl, by rw [ho]; rfl, hx9.2.1⟩
      have hk_31 := bI_n0.mp hk_31
      obtain ⟨jc, hjca, hjcb, rfl⟩ := p_rg (by decide) hk_31 (by decide)
      have ejc : ix (nI jc) = jc := ix_n (by omega)
      refine lv_aload_n hx hb dX1_collected_34 rfl (lv_at hl 0 rfl) ?_
      refine lv_iload_n hx hb dX1_collected_35 rfl (lv_at hl 1 rfl) ?_
      refine lv_iload_n hx hb dX1_collected_36 rfl (lv_at hl 2 rfl) ?_
      refine lv_iload_n hx hb dX1_collected_37 rfl (lv_at hl 3 rfl) ?_
      refine b_ci (cs_X1_360 (rest := []) CX hl.1 (m_X1_collectedTold l (a := (A 0)) (asv := (A 1)) (atx := (A 3)) (atk := (A 5)) (f := tk9) (hs := hs) (s_ := jx) (b := jy) (c_ := jc) hc_X hc_tk hL hW (by omega) (by omega) (by omega) (hmf _ _ _ (by omega) (by omega) (by omega) (by omega)) (hpk _ _ _ (by omega) (by omega) (by omega)) (by omega)) rfl rfl rfl hc_X.at hS rfl ⟨rfl, rfl, Nat.le_of_ble_eq_true rfl, Nat.le_of_ble_eq_true rfl⟩ (Nat.le_of_ble_eq_true rfl) dX1_collected_38 ⟨Nat.le_of_ble_eq_true rfl, Nat.le_of_ble_eq_true rfl⟩) hS (fun r H8 locs hp hS => ?_)
      obtain ⟨rfl, hF9, hx0⟩ := hp
      have hc_X := hc_X.fr hF9 (show ¬ (0 = 5) by omega)
      have hc_sv := hc_sv.fr hF9 (show ¬ (1 = 5) by omega)
      have hsa := fun h9 => (hsa h9).fr hF9 (show ¬ (2 = 5) by omega)
      have hc_tx := hc_tx.fr hF9 (show ¬ (3 = 5) by omega)
      have hc_tb := hc_tb.fr hF9 (show ¬ (4 = 5) by omega)
      have hL := hL.fr hF9 (fun i9 hi9 => show ¬ ((1000 * d0 + i9) = 5) by omega)
      have hV := hV.fr hF9 (fun k9 h1 h2 h3 i9 hi9 => show ¬ ((1000 * k9 + i9) = 5) by omega)
      have hz9 := hF.1
      have hF0 := hF.tr hA hF9 (fun q9 hq9 x9 => by have x8 : τ q9 = 5 := x9; show τ q9 < 200 ∨ 1000 ≤ τ q9; omega)
      have hF := hF0
      have hc_tk : b_tt G B0 τ H8 ((A 5)) 5 (.inl (G.2.1 0, 8, .inl ((if p_from S jx (kd S jy) < nI jc then tk9 else fun q => nI (p_tk S jx (kd S jy) (12 * jc) q))))) := hx0
      have ho : o_collected (S, n, L, tn, t) (nI jx) (nI jy) (nI jc) = (nI 0, p_would S jx jy jc, (S, n, L, tn, t)) := by
        unfold o_collected
        simp only [ejx, ejy, ejc]
        repeat (first | rw [if_pos (by first | assumption | exact ⟨by assumption, by assumption⟩ | (constructor <;> omega) | omega | exact fun q => absurd q (by assumption) | exact fun q => absurd q.1 (by assumption) | exact fun q => absurd q.2 (by assumption) | exact Int32.not_lt.mpr (by assumption) | exact Int32.not_le.mp (by assumption) | exact fun q => q.2 (by assumption) | exact fun q => absurd q.1 (by omega))] | rw [if_neg (by first | assumption | exact ⟨by assumption, by assumption⟩ | (constructor <;> omega) | omega | exact fun q => absurd q (by assumption) | exact fun q => absurd q.1 (by assumption) | exact fun q => absurd q.2 (by assumption) | exact Int32.not_lt.mpr (by assumption) | exact Int32.not_le.mp (by assumption) | exact fun q => q.2 (by assumption) | exact fun q => absurd q.1 (by omega))])
        first | rfl | (unfold f_ok f_no z_save;  rfl)
      rw [← hQ]
      exact vx_ret (b_iret CX hr hlk hS (Nat.le_of_ble_eq_true rfl) (Nat.le_of_ble_eq_true rfl) dX1_collected_41 ((by unfold o_ok1; rw [ho]; exact ⟨rfl, rfl, _, hA, hF, ⟨d0, c0, ids, P0, F, M, E, Z, sm, rs, se, ml, hs, bt, (if p_from S jx (kd S jy) < nI jc then tk9 else fun q => nI (p_tk S jx (kd S jy) (12 * jc) q)), hc_X, hc_sv, hsa, hse, hc_tx, hc_tb, hbt, hc_tk, hL, hZ, hW, hV, hd0, hdc, hn, htn, ht⟩⟩)))
theorem cs_X1_165 {p : Program} {l : Launch} {e : Env} {R : Room} {s : State} {m : MethodId} {args : Array Value} {below : List Frame} {meth : Method} {c : Code} {H : Heap} {locs : List Loc} {cells slots : Nat} {cc : ByteArray} {pc nL a : Nat} {ls : Array Slot} {rest : List Value} {G : b_G} {B0 : Nat} (CX : b_Cx p s m args c cc nL RX1 G B0) (hls : ls.size = nL) {rm : Room} {mc ms : Nat} {As st0 : List Value} {Qc : Array Value → State → Outcome → State → Prop} (hM : Met l yX1_delivering (ws_ yX1_delivering cX1_delivering 4 (Option.some (Jvm.ClassFile.FieldType.object "BottleLoop$Deed"))) rm (b_Pc G B0 H (.ref a :: As)) Qc mc ms (b_A B0)) (hn : As.length = 3) {fs : List Value} {ci : Nat} {qc : vw_C} (hc : b_cl[ci]? = some qc) (hq : qc.1 = RX1) (hP : b_at G a (.inr (ci, fs)) H) (hS : va_S (b_A B0) s.heap H locs) (hst : st0 = As.reverse ++ .ref a :: rest) (hr : rm.cells = mc ∧ rm.slots = ms ∧ rm.frames + 1 ≤ R.frames ∧ 8 + (4 + 11) + rm.locals ≤ R.locals) (hw : (rest.map fun v => v.category).sum ≤ 8) (hdg : decode cc pc = .ok (.invokevirtual 165, 3)) (hf : cells + mc ≤ R.cells ∧ slots + ms ≤ R.slots) : va_Run p l e R s m args below meth c H locs cells slots mc ms (F0 m pc ls st0) rest (Qc (Value.ref a :: As).toArray) (b_A B0) := va_runV CX.fix hM (cwV 3 CX.ts (lw_V q1443 q1445 qs30 q79 q1446) rfl hr.1 hr.2.1 (by decide +kernel) ⟨hr.2.2.1, hr.2.2.2⟩) ⟨b_blind G B0 H _, by have h9 := b_recv CX.K hc hP; rw [hq] at h9; exact h9, b_pre _ CX.K hS⟩ rfl hn hls hst (lv_room hw) hdg hf
theorem cx_X1_334_9 {p : Program} {l : Launch} {e : Env} {R : Room} {s : State} {m : MethodId} {args : Array Value} {below : List Frame} {meth : Method} {c : Code} {H : Heap} {locs : List Loc} {cells slots : Nat} {cc : ByteArray} {pc nL a : Nat} {ls : Array Slot} {rest : List Value} {G : b_G} {B0 : Nat} (CX : b_Cx p s m args c cc nL RX1 G B0) (hls : ls.size = nL) {rm : Room} {mc ms : Nat} {As st0 : List Value} {Qc : Array Value → State → Outcome → State → Prop} {XC : String → Addr → State → State → Prop} (hM : vx_Met l yX6_reason (wsW_ yX6_reason cX6_reason 2 (Option.some Jvm.ClassFile.FieldType.int) [((0 : Nat), (5 : Nat), (6 : Nat), (18 : Nat)), ((0 : Nat), (5 : Nat), (6 : Nat), (20 : Nat)), ((0 : Nat), (5 : Nat), (6 : Nat), (22 : Nat)), ((0 : Nat), (5 : Nat), (12 : Nat), (25 : Nat))]) rm (b_Pc G B0 H (.ref a :: As)) Qc XC mc ms (b_A B0)) (hn : As.length = 0) {fs : List Value} (hP : b_at G a (.inr (9, fs)) H) (hS : va_S (b_A B0) s.heap H locs) (hst : st0 = As.reverse ++ .ref a :: rest) (hr : rm.cells = mc ∧ rm.slots = ms ∧ rm.frames + 1 ≤ R.frames ∧ 8 + (2 + 11) + rm.locals ≤ R.locals) (hw : (rest.map fun v => v.category).sum ≤ 8) (hdg : decode cc pc = .ok (.invokevirtual 334, 3)) (hf : cells + mc ≤ R.cells ∧ slots + ms ≤ R.slots) : vx_Run p l e R s m args below meth c H locs cells slots mc ms (F0 m pc ls st0) rest (Qc (Value.ref a :: As).toArray) XC (b_A B0) := vx_runVX (C := RX12) CX.fix hM (b_cwVC 0 CX.ts q1804 q1182 q1184 q104 q1193 hr.1 hr.2.1 ⟨by decide, by decide, by decide +kernel⟩ ⟨hr.2.2.1, hr.2.2.2⟩) ⟨b_blind G B0 H _, b_recv CX.K (ci := 9) rfl hP, b_pre _ CX.K hS⟩ rfl hn hls hst (lv_room hw) hdg hf
set_option maxHeartbeats 2000000 in
set_option maxRecDepth 100000 in
theorem m_X1_whyNotDeliver (l : Launch) {G : b_G} {B0 : Nat} {H : Heap} {τ : b_T} {A : Nat → Nat} {S : b_St} {n : Nat} {L : Nat → b_St} {tn : Nat} {t : Nat → Nat} {x : Int32} {y : Int32} {c_ : Int32} (hlt : l.stackTraces = false) (hXR : XR G B0 τ A H (S, n, L, tn, t)) : vx_Met l yX1_whyNotDeliver (ws_ yX1_whyNotDeliver cX1_whyNotDeliver 4 (Option.some Jvm.ClassFile.FieldType.int)) ({ frames := 9, cells := 6, slots := 35, locals := 193 } : Room) (b_Pc G B0 H [.ref ((A 0)), .int x, .int y, .int c_]) (b_Qi B0 (fun r H1 => o_ok1 G B0 τ A H (o_whyD (S, n, L, tn, t) x y c_) r H1)) (b_X B0 (fun E9 q9 H9 => o_px H (S, n, L, tn, t) (o_whyD (S, n, L, tn, t) x y c_) cl_A E9 H9)) 6 35 (b_A B0) := by
  refine b_ofX (by decide) (Nat.le_of_ble_eq_true rfl) ?_
  intro p e s m below meth c CX hr hlk htb hS ls hl
  have CX : b_Cx p s m _ c cX1_whyNotDeliver 4 RX1 G B0 := CX
  have hx := CX.hx
  have hb := CX.hb
  have hl : lv_has ls 4 [(0, .ref ((A 0))), (1, .int x), (2, .int y), (3, .int c_)] := hl
  generalize hQ : vx_MQ below (b_Qi B0 (fun r H1 => o_ok1 G B0 τ A H (o_whyD (S, n, L, tn, t) x y c_) r H1)) (b_X B0 (fun E9 q9 H9 => o_px H (S, n, L, tn, t) (o_whyD (S, n, L, tn, t) x y c_) cl_A E9 H9)) ([.ref ((A 0)), .int x, .int y, .int c_] : List Value).toArray s 6 35 (b_A B0) = Q
  have hF : b_Fr τ (fun t => t < 200 ∨ 1000 ≤ t) H H := b_Fr.rf
  have hA : b_Ag τ τ H := b_Ag.rf
  have hX : b_Ext H H := b_Ext.rf
  obtain ⟨d0, c0, ids, P0, F, M, E, Z, sm, rs, se, ml, hs, bt, tk9, hc_X, hc_sv, hsa, hse, hc_tx, hc_tb, hbt, hc_tk, hL, hZ, hW, hV, hd0, hdc, hn, htn, ht⟩ := hXR
  have hc_X : b_tt G B0 τ H ((A 0)) 0 (.inr (0, [.ref ((F 0)), .ref ((A 1)), .ref ((A 3)), .ref ((A 5)), .long hs])) := hc_X
  have hc_sv : b_tt G B0 τ H ((A 1)) 1 (.inr (2, [.int sm, .ref ((if se = true then rs else G.2.2 0)), .int (nI n)])) := hc_sv
  have hsa : (se = true → b_tt G B0 τ H rs 2 (.inl (G.2.1 2, q_refs 10 (fun j => if j < n then some (P0 j) else none)))) := hsa
  have hc_tx : b_tt G B0 τ H ((A 3)) 3 (.inr (3, [.ref ((A 4)), .int (nI 0), .int ml, .int (nI tn)])) := hc_tx
  have hc_tb : b_tt G B0 τ H ((A 4)) 4 (.inl (G.2.1 1, 60, .inl bt)) := hc_tb
  have hc_tk : b_tt G B0 τ H ((A 5)) 5 (.inl (G.2.1 0, 8, .inl tk9)) := hc_tk
  have hL : LR G B0 τ d0 F M E H S Z := hL
  have hV : SV G B0 τ d0 c0 n ids P0 H L := hV
  have hn8 := hL.2.2.2.1
  have hn6 := hL.2.2.2.2
  have hnb : nb S = nb S := rfl
  have hns : ns S = ns S := rfl
  have hn : n ≤ 6 := hn
  have htn : tn ≤ 60 := htn
  have ht : ∀ j, t j < 128 := ht
  have hse : se = true ∨ n = 0 := hse
  have hZ : pZ Z S := hZ
  have hW : b_WF S := hW
  have hbt : ∀ j, j < tn → bt j = nI (t j) := hbt
  refine lv_aload_n hx hb dX1_whyNotDeliver_0 rfl (lv_at hl 0 rfl) ?_
  refine lv_iload_n hx hb dX1_whyNotDeliver_1 rfl (lv_at hl 1 rfl) ?_
  refine b_ci0 (cs_X1_151 (rest := []) CX hl.1 (m_X1_isBrand l (a := (A 0)) (asv := (A 1)) (atx := (A 3)) (atk := (A 5)) (hs := hs) (x := x) hc_X hL hW) rfl rfl rfl hc_X.at hS rfl ⟨rfl, rfl, Nat.le_of_ble_eq_true rfl, Nat.le_of_ble_eq_true rfl⟩ (Nat.le_of_ble_eq_true rfl) dX1_whyNotDeliver_2 ⟨Nat.le_of_ble_eq_true rfl, Nat.le_of_ble_eq_true rfl⟩) hS (fun locs hS => ?_)
  refine b_ifeq (tgt := 20) CX dX1_whyNotDeliver_5 (by decide) (fun c_5 => ?_) (fun c_5 => ?_)
  · refine lv_iconst (v := nI 0) hx hb dX1_whyNotDeliver_20 rfl ?_
    refine b_xv0 (cx_X1_119 (rest := []) CX hl.1 (m_X1_needIndex l (x := nI 0) hlt) rfl hS rfl ⟨rfl, rfl, Nat.le_of_ble_eq_true rfl, Nat.le_of_ble_eq_true rfl⟩ (Nat.le_of_ble_eq_true rfl) dX1_whyNotDeliver_21 ⟨Nat.le_of_ble_eq_true rfl, Nat.le_of_ble_eq_true rfl⟩) hS (fun E9 q9 Hx2 locs hx9 hS he9 => ?_) (fun hk_21 locs hS => ?_)
    · rw [← hQ]
      have ho : o_whyD (S, n, L, tn, t) x y c_ = f_no 1 (S, n, L, tn, t) := by
        unfold o_whyD
        try dsimp only
        repeat (first | rw [if_pos (by first | assumption | exact ⟨by assumption, by assumption⟩ | (constructor <;> omega) | omega | exact fun q => absurd q (by assumption) | exact fun q => absurd q.1 (by assumption) | exact fun q => absurd q.2 (by assumption) | exact Int32.not_lt.mpr (by assumption) | exact Int32.not_le.mp (by assumption) | exact fun q => q.2 (by assumption) | exact fun q => absurd q.1 (by omega))] | rw [if_neg (by first | assumption | exact ⟨by assumption, by assumption⟩ | (constructor <;> omega) | omega | exact fun q => absurd q (by assumption) | exact fun q => absurd q.1 (by assumption) | exact fun q => absurd q.2 (by assumption) | exact Int32.not_lt.mpr (by assumption) | exact Int32.not_le.mp (by assumption) | exact fun q => q.2 (by assumption) | exact fun q => absurd q.1 (by omega))])
      exact b_xout htb hlk he9 hS (Nat.le_of_ble_eq_true rfl) (Nat.le_of_ble_eq_true rfl) ⟨hX.tr hx9.2.2, 1, by omega, by rw [ho]; rfl, by rw [ho]; rfl, hx9.2.1⟩
    exact absurd (by decide) hk_21
  · refine lv_aload_n hx hb dX1_whyNotDeliver_8 rfl (lv_at hl 0 rfl) ?_
    refine lv_iload_n hx hb dX1_whyNotDeliver_9 rfl (lv_at hl 2 rfl) ?_
    refine b_ci0 (cs_X1_162 (rest := []) CX hl.1 (m_X1_isShop l (a := (A 0)) (asv := (A 1)) (atx := (A 3)) (atk := (A 5)) (hs := hs) (x := y) hc_X hL hW) rfl rfl rfl hc_X.at hS rfl ⟨rfl, rfl, Nat.le_of_ble_eq_true rfl, Nat.le_of_ble_eq_true rfl⟩ (Nat.le_of_ble_eq_true rfl) dX1_whyNotDeliver_10 ⟨Nat.le_of_ble_eq_true rfl, Nat.le_of_ble_eq_true rfl⟩) hS (fun locs hS => ?_)
    refine b_ifeq (tgt := 20) CX dX1_whyNotDeliver_13 (by decide) (fun c_13 => ?_) (fun c_13 => ?_)
    · refine lv_iconst (v := nI 0) hx hb dX1_whyNotDeliver_20 rfl ?_
      refine b_xv0 (cx_X1_119 (rest := []) CX hl.1 (m_X1_needIndex l (x := nI 0) hlt) rfl hS rfl ⟨rfl, rfl, Nat.le_of_ble_eq_true rfl, Nat.le_of_ble_eq_true rfl⟩ (Nat.le_of_ble_eq_true rfl) dX1_whyNotDeliver_21 ⟨Nat.le_of_ble_eq_true rfl, Nat.le_of_ble_eq_true rfl⟩) hS (fun E9 q9 Hx4 locs hx9 hS he9 => ?_) (fun hk_21 locs hS => ?_)
      · rw [← hQ]
        have ho : o_whyD (S, n, L, tn, t) x y c_ = f_no 1 (S, n, L, tn, t) := by
          unfold o_whyD
          try dsimp only
          repeat (first | rw [if_pos (by first | assumption | exact ⟨by assumption, by assumption⟩ | (constructor <;> omega) | omega | exact fun q => absurd q (by assumption) | exact fun q => absurd q.1 (by assumption) | exact fun q => absurd q.2 (by assumption) | exact Int32.not_lt.mpr (by assumption) | exact Int32.not_le.mp (by assumption) | exact fun q => q.2 (by assumption) | exact fun q => absurd q.1 (by omega))] | rw [if_neg (by first | assumption | exact ⟨by assumption, by assumption⟩ | (constructor <;> omega) | omega | exact fun q => absurd q (by assumption) | exact fun q => absurd q.1 (by assumption) | exact fun q => absurd q.2 (by assumption) | exact Int32.not_lt.mpr (by assumption) | exact Int32.not_le.mp (by assumption) | exact fun q => q.2 (by assumption) | exact fun q => absurd q.1 (by omega))])
        exact b_xout htb hlk he9 hS (Nat.le_of_ble_eq_true rfl) (Nat.le_of_ble_eq_true rfl) ⟨hX.tr hx9.2.2, 1, by omega, by rw [ho]; rfl, by rw [ho]; rfl, hx9.2.1⟩
      exact absurd (by decide) hk_21
    · obtain ⟨jx, hjx, rfl⟩ := isB_lt hW c_5
      have ejx : ix (nI jx) = jx := ix_n (by omega)
      obtain ⟨jy, hjy, rfl⟩ := isS_lt hW c_13
      have ejy : ix (nI jy) = jy := ix_n (by omega)
      refine lv_iconst (v := nI 1) hx hb dX1_whyNotDeliver_16 rfl ?_
      refine lv_goto (tgt := 21) hx hb dX1_whyNotDeliver_17 (by decide) ?_
      refine b_xv0 (cx_X1_119 (rest := []) CX hl.1 (m_X1_needIndex l (x := nI 1) hlt) rfl hS rfl ⟨rfl, rfl, Nat.le_of_ble_eq_true rfl, Nat.le_of_ble_eq_true rfl⟩ (Nat.le_of_ble_eq_true rfl) dX1_whyNotDeliver_21 ⟨Nat.le_of_ble_eq_true rfl, Nat.le_of_ble_eq_true rfl⟩) hS (fun E9 q9 Hx5 locs hx9 hS he9 => ?_) (fun hk_21 locs hS => ?_)
      · exact absurd hx9.1 (by decide)
      refine lv_iload_n hx hb dX1_whyNotDeliver_24 rfl (lv_at hl 3 rfl) ?_
      refine lv_iconst (v := nI 1) hx hb dX1_whyNotDeliver_25 rfl ?_
      refine lv_bipush (v := nI 50) hx hb dX1_whyNotDeliver_26 rfl ?_
      refine b_ci0 (cs_X1_73 (rest := []) CX hl.1 (m_X1_in l (x := c_) (lo := nI 1) (hi := nI 50) ) rfl hS rfl ⟨rfl, rfl, Nat.le_of_ble_eq_true rfl, Nat.le_of_ble_eq_true rfl⟩ (Nat.le_of_ble_eq_true rfl) dX1_whyNotDeliver_28 ⟨Nat.le_of_ble_eq_true rfl, Nat.le_of_ble_eq_true rfl⟩) hS (fun locs hS => ?_)
      refine b_xv0 (cx_X1_84 (rest := []) CX hl.1 (m_X1_need l (x := bI ((nI 1) ≤ c_ ∧ c_ ≤ (nI 50))) hlt) rfl hS rfl ⟨rfl, rfl, Nat.le_of_ble_eq_true rfl, Nat.le_of_ble_eq_true rfl⟩ (Nat.le_of_ble_eq_true rfl) dX1_whyNotDeliver_31 ⟨Nat.le_of_ble_eq_true rfl, Nat.le_of_ble_eq_true rfl⟩) hS (fun E9 q9 Hx7 locs hx9 hS he9 => ?_) (fun hk_31 locs hS => ?_)
      · have hk_31 := bI_0.mp hx9.1
        rw [← hQ]
        have ho : o_whyD (S, n, L, tn, t) (nI jx) (nI jy) c_ = f_no 2 (S, n, L, tn, t) := by
          unfold o_whyD
          simp only [ejx, ejy]
          repeat (first | rw [if_pos (by first | assumption | exact ⟨by assumption, by assumption⟩ | (constructor <;> omega) | omega | exact fun q => absurd q (by assumption) | exact fun q => absurd q.1 (by assumption) | exact fun q => absurd q.2 (by assumption) | exact Int32.not_lt.mpr (by assumption) | exact Int32.not_le.mp (by assumption) | exact fun q => q.2 (by assumption) | exact fun q => absurd q.1 (by omega))] | rw [if_neg (by first | assumption | exact ⟨by assumption, by assumption⟩ | (constructor <;> omega) | omega | exact fun q => absurd q (by assumption) | exact fun q => absurd q.1 (by assumption) | exact fun q => absurd q.2 (by assumption) | exact Int32.not_lt.mpr (by assumption) | exact Int32.not_le.mp (by assumption) | exact fun q => q.2 (by assumption) | exact fun q => absurd q.1 (by omega))])
        exact b_xout htb hlk he9 hS (Nat.le_of_ble_eq_true rfl) (Nat.le_of_ble_eq_true rfl) ⟨hX.tr hx9.2.2, 2, by omega, by rw [ho]; rfl, by rw [ho]; rfl, hx9.2.1⟩
      have hk_31 := bI_n0.mp hk_31
      refine lv_aload_n hx hb dX1_whyNotDeliver_34 rfl (lv_at hl 0 rfl) ?_
      refine lv_iload_n hx hb dX1_whyNotDeliver_35 rfl (lv_at hl 1 rfl) ?_
      refine lv_iload_n hx hb dX1_whyNotDeliver_36 rfl (lv_at hl 2 rfl) ?_
      refine lv_iload_n hx hb dX1_whyNotDeliver_37 rfl (lv_at hl 3 rfl) ?_
      refine b_cq (cs_X1_165 (rest := []) CX hl.1 (m_X1_delivering l (a := (A 0)) (b := jx) (s_ := jy) (c_ := c_) ) rfl rfl rfl hc_X.at hS rfl ⟨rfl, rfl, Nat.le_of_ble_eq_true rfl, Nat.le_of_ble_eq_true rfl⟩ (Nat.le_of_ble_eq_true rfl) dX1_whyNotDeliver_38 ⟨Nat.le_of_ble_eq_true rfl, Nat.le_of_ble_eq_true rfl⟩) hS (fun r H8 locs hp hS => ?_)
      obtain ⟨q8, rfl, hE, hz, hB, hat⟩ := hp
      have hc_X := hc_X.ad (tb := 100) hE hz
      have hc_sv := hc_sv.ad (tb := 100) hE hz
      have hsa := fun h9 => (hsa h9).ad (tb := 100) hE hz
      have hc_tx := hc_tx.ad (tb := 100) hE hz
      have hc_tb := hc_tb.ad (tb := 100) hE hz
      have hc_tk := hc_tk.ad (tb := 100) hE hz
      have hL := hL.ad (tb := 100) hE hz
      have hV := hV.ad (tb := 100) hE hz
      have fr_dd : H.size ≤ q8 := Nat.le_trans hF.1 hz
      have hX := hX.tr hE
      have hA := hA.tr (b_Ag.ge (t := 100) hz) hF.1
      have hF := hF.ext hE
      have hc_dd : b_tt G B0 ((upT τ q8 100)) H8 q8 100 (.inr (9, [.ref (((A 0))), .int (nI jx), .int (nI jy), .int c_, .ref (((A 0)))])) := b_tt.mk hat hB
      refine b_xi (cx_X1_334_9 (rest := []) CX hl.1 (m_X6_reason_9 l (da := q8) (td := 100) (a := ((A 0))) (asv := (A 1)) (atx := (A 3)) (atk := (A 5)) (hs := hs) (b := jx) (s_ := jy) (c_ := c_) hc_dd hc_X hL hW (by omega) (by omega)) rfl hc_dd.at hS rfl ⟨rfl, rfl, Nat.le_of_ble_eq_true rfl, Nat.le_of_ble_eq_true rfl⟩ (Nat.le_of_ble_eq_true rfl) dX1_whyNotDeliver_41 ⟨Nat.le_of_ble_eq_true rfl, Nat.le_of_ble_eq_true rfl⟩) hS (fun E9 q9 Hx9 locs hx9 hS he9 => ?_) (fun r H9 locs hp hS => ?_)
      · exact hx9.elim
      obtain ⟨rfl, hE⟩ := hp
      have hc_X := hc_X.ext hE
      have hc_sv := hc_sv.ext hE
      have hsa := fun h9 => (hsa h9).ext hE
      have hc_tx := hc_tx.ext hE
      have hc_tb := hc_tb.ext hE
      have hc_tk := hc_tk.ext hE
      have hL := hL.ext hE
      have hV := hV.ext hE
      have hc_dd := hc_dd.ext hE
      have hX := hX.tr hE
      have hF := hF.ext hE
      have ho : o_whyD (S, n, L, tn, t) (nI jx) (nI jy) c_ = (nI 0, (a_deliver S jx jy c_), (S, n, L, tn, t)) := by
        unfold o_whyD
        simp only [ejx, ejy]
        repeat (first | rw [if_pos (by first | assumption | exact ⟨by assumption, by assumption⟩ | (constructor <;> omega) | omega | exact fun q => absurd q (by assumption) | exact fun q => absurd q.1 (by assumption) | exact fun q => absurd q.2 (by assumption) | exact Int32.not_lt.mpr (by assumption) | exact Int32.not_le.mp (by assumption) | exact fun q => q.2 (by assumption) | exact fun q => absurd q.1 (by omega))] | rw [if_neg (by first | assumption | exact ⟨by assumption, by assumption⟩ | (constructor <;> omega) | omega | exact fun q => absurd q (by assumption) | exact fun q => absurd q.1 (by assumption) | exact fun q => absurd q.2 (by assumption) | exact Int32.not_lt.mpr (by assumption) | exact Int32.not_le.mp (by assumption) | exact fun q => q.2 (by assumption) | exact fun q => absurd q.1 (by omega))])
        first | rfl | (unfold f_ok f_no z_save;  rfl)
      rw [← hQ]
      exact vx_ret (b_iret CX hr hlk hS (Nat.le_of_ble_eq_true rfl) (Nat.le_of_ble_eq_true rfl) dX1_whyNotDeliver_44 ((by unfold o_ok1; rw [ho]; exact ⟨rfl, rfl, _, hA, hF, ⟨d0, c0, ids, P0, F, M, E, Z, sm, rs, se, ml, hs, bt, tk9, hc_X, hc_sv, hsa, hse, hc_tx, hc_tb, hbt, hc_tk, hL, hZ, hW, hV, hd0, hdc, hn, htn, ht⟩⟩)))
theorem cs_X1_189 {p : Program} {l : Launch} {e : Env} {R : Room} {s : State} {m : MethodId} {args : Array Value} {below : List Frame} {meth : Method} {c : Code} {H : Heap} {locs : List Loc} {cells slots : Nat} {cc : ByteArray} {pc nL a : Nat} {ls : Array Slot} {rest : List Value} {G : b_G} {B0 : Nat} (CX : b_Cx p s m args c cc nL RX1 G B0) (hls : ls.size = nL) {rm : Room} {mc ms : Nat} {As st0 : List Value} {Qc : Array Value → State → Outcome → State → Prop} (hM : Met l yX1_collecting (ws_ yX1_collecting cX1_collecting 4 (Option.some (Jvm.ClassFile.FieldType.object "BottleLoop$Deed"))) rm (b_Pc G B0 H (.ref a :: As)) Qc mc ms (b_A B0)) (hn : As.length = 3) {fs : List Value} {ci : Nat} {qc : vw_C} (hc : b_cl[ci]? = some qc) (hq : qc.1 = RX1) (hP : b_at G a (.inr (ci, fs)) H) (hS : va_S (b_A B0) s.heap H locs) (hst : st0 = As.reverse ++ .ref a :: rest) (hr : rm.cells = mc ∧ rm.slots = ms ∧ rm.frames + 1 ≤ R.frames ∧ 8 + (4 + 11) + rm.locals ≤ R.locals) (hw : (rest.map fun v => v.category).sum ≤ 8) (hdg : decode cc pc = .ok (.invokevirtual 189, 3)) (hf : cells + mc ≤ R.cells ∧ slots + ms ≤ R.slots) : va_Run p l e R s m args below meth c H locs cells slots mc ms (F0 m pc ls st0) rest (Qc (Value.ref a :: As).toArray) (b_A B0) := va_runV CX.fix hM (cwV 3 CX.ts (lw_V q1599 q1601 qs35 q79 q1602) rfl hr.1 hr.2.1 (by decide +kernel) ⟨hr.2.2.1, hr.2.2.2⟩) ⟨b_blind G B0 H _, by have h9 := b_recv CX.K hc hP; rw [hq] at h9; exact h9, b_pre _ CX.K hS⟩ rfl hn hls hst (lv_room hw) hdg hf
theorem cx_X1_334_13 {p : Program} {l : Launch} {e : Env} {R : Room} {s : State} {m : MethodId} {args : Array Value} {below : List Frame} {meth : Method} {c : Code} {H : Heap} {locs : List Loc} {cells slots : Nat} {cc : ByteArray} {pc nL a : Nat} {ls : Array Slot} {rest : List Value} {G : b_G} {B0 : Nat} (CX : b_Cx p s m args c cc nL RX1 G B0) (hls : ls.size = nL) {rm : Room} {mc ms : Nat} {As st0 : List Value} {Qc : Array Value → State → Outcome → State → Prop} {XC : String → Addr → State → State → Prop} (hM : vx_Met l yX6_reason (wsW_ yX6_reason cX6_reason 2 (Option.some Jvm.ClassFile.FieldType.int) [((0 : Nat), (5 : Nat), (6 : Nat), (18 : Nat)), ((0 : Nat), (5 : Nat), (6 : Nat), (20 : Nat)), ((0 : Nat), (5 : Nat), (6 : Nat), (22 : Nat)), ((0 : Nat), (5 : Nat), (12 : Nat), (25 : Nat))]) rm (b_Pc G B0 H (.ref a :: As)) Qc XC mc ms (b_A B0)) (hn : As.length = 0) {fs : List Value} (hP : b_at G a (.inr (13, fs)) H) (hS : va_S (b_A B0) s.heap H locs) (hst : st0 = As.reverse ++ .ref a :: rest) (hr : rm.cells = mc ∧ rm.slots = ms ∧ rm.frames + 1 ≤ R.frames ∧ 8 + (2 + 11) + rm.locals ≤ R.locals) (hw : (rest.map fun v => v.category).sum ≤ 8) (hdg : decode cc pc = .ok (.invokevirtual 334, 3)) (hf : cells + mc ≤ R.cells ∧ slots + ms ≤ R.slots) : vx_Run p l e R s m args below meth c H locs cells slots mc ms (F0 m pc ls st0) rest (Qc (Value.ref a :: As).toArray) XC (b_A B0) := vx_runVX (C := RX17) CX.fix hM (b_cwVC 0 CX.ts q1804 q1182 q1188 q104 q1193 hr.1 hr.2.1 ⟨by decide, by decide, by decide +kernel⟩ ⟨hr.2.2.1, hr.2.2.2⟩) ⟨b_blind G B0 H _, b_recv CX.K (ci := 13) rfl hP, b_pre _ CX.K hS⟩ rfl hn hls hst (lv_room hw) hdg hf
set_option maxHeartbeats 2000000 in
set_option maxRecDepth 100000 in
theorem m_X1_whyNotCollect (l : Launch) {G : b_G} {B0 : Nat} {H : Heap} {τ : b_T} {A : Nat → Nat} {S : b_St} {n : Nat} {L : Nat → b_St} {tn : Nat} {t : Nat → Nat} {x : Int32} {k : Int32} {c_ : Int32} (hlt : l.stackTraces = false) (hXR : XR G B0 τ A H (S, n, L, tn, t)) : vx_Met l yX1_whyNotCollect (ws_ yX1_whyNotCollect cX1_whyNotCollect 4 (Option.some Jvm.ClassFile.FieldType.int)) ({ frames := 9, cells := 5, slots := 29, locals := 192 } : Room) (b_Pc G B0 H [.ref ((A 0)), .int x, .int k, .int c_]) (b_Qi B0 (fun r H1 => o_ok1 G B0 τ A H (o_whyC (S, n, L, tn, t) x k c_) r H1)) (b_X B0 (fun E9 q9 H9 => o_px H (S, n, L, tn, t) (o_whyC (S, n, L, tn, t) x k c_) cl_A E9 H9)) 5 29 (b_A B0) := by
  refine b_ofX (by decide) (Nat.le_of_ble_eq_true rfl) ?_
  intro p e s m below meth c CX hr hlk htb hS ls hl
  have CX : b_Cx p s m _ c cX1_whyNotCollect 4 RX1 G B0 := CX
  have hx := CX.hx
  have hb := CX.hb
  have hl : lv_has ls 4 [(0, .ref ((A 0))), (1, .int x), (2, .int k), (3, .int c_)] := hl
  generalize hQ : vx_MQ below (b_Qi B0 (fun r H1 => o_ok1 G B0 τ A H (o_whyC (S, n, L, tn, t) x k c_) r H1)) (b_X B0 (fun E9 q9 H9 => o_px H (S, n, L, tn, t) (o_whyC (S, n, L, tn, t) x k c_) cl_A E9 H9)) ([.ref ((A 0)), .int x, .int k, .int c_] : List Value).toArray s 5 29 (b_A B0) = Q
  have hF : b_Fr τ (fun t => t < 200 ∨ 1000 ≤ t) H H := b_Fr.rf
  have hA : b_Ag τ τ H := b_Ag.rf
  have hX : b_Ext H H := b_Ext.rf
  obtain ⟨d0, c0, ids, P0, F, M, E, Z, sm, rs, se, ml, hs, bt, tk9, hc_X, hc_sv, hsa, hse, hc_tx, hc_tb, hbt, hc_tk, hL, hZ, hW, hV, hd0, hdc, hn, htn, ht⟩ := hXR
  have hc_X : b_tt G B0 τ H ((A 0)) 0 (.inr (0, [.ref ((F 0)), .ref ((A 1)), .ref ((A 3)), .ref ((A 5)), .long hs])) := hc_X
  have hc_sv : b_tt G B0 τ H ((A 1)) 1 (.inr (2, [.int sm, .ref ((if se = true then rs else G.2.2 0)), .int (nI n)])) := hc_sv
  have hsa : (se = true → b_tt G B0 τ H rs 2 (.inl (G.2.1 2, q_refs 10 (fun j => if j < n then some (P0 j) else none)))) := hsa
  have hc_tx : b_tt G B0 τ H ((A 3)) 3 (.inr (3, [.ref ((A 4)), .int (nI 0), .int ml, .int (nI tn)])) := hc_tx
  have hc_tb : b_tt G B0 τ H ((A 4)) 4 (.inl (G.2.1 1, 60, .inl bt)) := hc_tb
  have hc_tk : b_tt G B0 τ H ((A 5)) 5 (.inl (G.2.1 0, 8, .inl tk9)) := hc_tk
  have hL : LR G B0 τ d0 F M E H S Z := hL
  have hV : SV G B0 τ d0 c0 n ids P0 H L := hV
  have hn8 := hL.2.2.2.1
  have hn6 := hL.2.2.2.2
  have hnb : nb S = nb S := rfl
  have hns : ns S = ns S := rfl
  have hn : n ≤ 6 := hn
  have htn : tn ≤ 60 := htn
  have ht : ∀ j, t j < 128 := ht
  have hse : se = true ∨ n = 0 := hse
  have hZ : pZ Z S := hZ
  have hW : b_WF S := hW
  have hbt : ∀ j, j < tn → bt j = nI (t j) := hbt
  refine lv_aload_n hx hb dX1_whyNotCollect_0 rfl (lv_at hl 0 rfl) ?_
  refine lv_iload_n hx hb dX1_whyNotCollect_1 rfl (lv_at hl 1 rfl) ?_
  refine b_ci0 (cs_X1_162 (rest := []) CX hl.1 (m_X1_isShop l (a := (A 0)) (asv := (A 1)) (atx := (A 3)) (atk := (A 5)) (hs := hs) (x := x) hc_X hL hW) rfl rfl rfl hc_X.at hS rfl ⟨rfl, rfl, Nat.le_of_ble_eq_true rfl, Nat.le_of_ble_eq_true rfl⟩ (Nat.le_of_ble_eq_true rfl) dX1_whyNotCollect_2 ⟨Nat.le_of_ble_eq_true rfl, Nat.le_of_ble_eq_true rfl⟩) hS (fun locs hS => ?_)
  refine b_xv0 (cx_X1_119 (rest := []) CX hl.1 (m_X1_needIndex l (x := bI (nI 0 ≤ x ∧ x ≤ nI (ns S) - nI 1)) hlt) rfl hS rfl ⟨rfl, rfl, Nat.le_of_ble_eq_true rfl, Nat.le_of_ble_eq_true rfl⟩ (Nat.le_of_ble_eq_true rfl) dX1_whyNotCollect_5 ⟨Nat.le_of_ble_eq_true rfl, Nat.le_of_ble_eq_true rfl⟩) hS (fun E9 q9 Hx2 locs hx9 hS he9 => ?_) (fun hk_5 locs hS => ?_)
  · have hk_5 := bI_0.mp hx9.1
    rw [← hQ]
    have ho : o_whyC (S, n, L, tn, t) x k c_ = f_no 1 (S, n, L, tn, t) := by
      unfold o_whyC
      try dsimp only
      repeat (first | rw [if_pos (by first | assumption | exact ⟨by assumption, by assumption⟩ | (constructor <;> omega) | omega | exact fun q => absurd q (by assumption) | exact fun q => absurd q.1 (by assumption) | exact fun q => absurd q.2 (by assumption) | exact Int32.not_lt.mpr (by assumption) | exact Int32.not_le.mp (by assumption) | exact fun q => q.2 (by assumption) | exact fun q => absurd q.1 (by omega))] | rw [if_neg (by first | assumption | exact ⟨by assumption, by assumption⟩ | (constructor <;> omega) | omega | exact fun q => absurd q (by assumption) | exact fun q => absurd q.1 (by assumption) | exact fun q => absurd q.2 (by assumption) | exact Int32.not_lt.mpr (by assumption) | exact Int32.not_le.mp (by assumption) | exact fun q => q.2 (by assumption) | exact fun q => absurd q.1 (by omega))])
    exact b_xout htb hlk he9 hS (Nat.le_of_ble_eq_true rfl) (Nat.le_of_ble_eq_true rfl) ⟨hX.tr hx9.2.2, 1, by omega, by rw [ho]; rfl, by rw [ho]; rfl, hx9.2.1⟩
  have hk_5 := bI_n0.mp hk_5
  obtain ⟨jx, hjx, rfl⟩ := isS_lt hW hk_5
  have ejx : ix (nI jx) = jx := ix_n (by omega)
  refine lv_iload_n hx hb dX1_whyNotCollect_8 rfl (lv_at hl 2 rfl) ?_
  refine b_ci0 (cs_X1_80 (rest := []) CX hl.1 (m_X1_isKind l (x := k) ) rfl hS rfl ⟨rfl, rfl, Nat.le_of_ble_eq_true rfl, Nat.le_of_ble_eq_true rfl⟩ (Nat.le_of_ble_eq_true rfl) dX1_whyNotCollect_9 ⟨Nat.le_of_ble_eq_true rfl, Nat.le_of_ble_eq_true rfl⟩) hS (fun locs hS => ?_)
  refine b_ifeq (tgt := 29) CX dX1_whyNotCollect_12 (by decide) (fun c_12 => ?_) (fun c_12 => ?_)
  · refine lv_iconst (v := nI 0) hx hb dX1_whyNotCollect_29 rfl ?_
    refine b_xv0 (cx_X1_84 (rest := []) CX hl.1 (m_X1_need l (x := nI 0) hlt) rfl hS rfl ⟨rfl, rfl, Nat.le_of_ble_eq_true rfl, Nat.le_of_ble_eq_true rfl⟩ (Nat.le_of_ble_eq_true rfl) dX1_whyNotCollect_30 ⟨Nat.le_of_ble_eq_true rfl, Nat.le_of_ble_eq_true rfl⟩) hS (fun E9 q9 Hx4 locs hx9 hS he9 => ?_) (fun hk_30 locs hS => ?_)
    · rw [← hQ]
      have ho : o_whyC (S, n, L, tn, t) (nI jx) k c_ = f_no 2 (S, n, L, tn, t) := by
        unfold o_whyC
        simp only [ejx]
        repeat (first | rw [if_pos (by first | assumption | exact ⟨by assumption, by assumption⟩ | (constructor <;> omega) | omega | exact fun q => absurd q (by assumption) | exact fun q => absurd q.1 (by assumption) | exact fun q => absurd q.2 (by assumption) | exact Int32.not_lt.mpr (by assumption) | exact Int32.not_le.mp (by assumption) | exact fun q => q.2 (by assumption) | exact fun q => absurd q.1 (by omega))] | rw [if_neg (by first | assumption | exact ⟨by assumption, by assumption⟩ | (constructor <;> omega) | omega | exact fun q => absurd q (by assumption) | exact fun q => absurd q.1 (by assumption) | exact fun q => absurd q.2 (by assumption) | exact Int32.not_lt.mpr (by assumption) | exact Int32.not_le.mp (by assumption) | exact fun q => q.2 (by assumption) | exact fun q => absurd q.1 (by omega))])
      exact b_xout htb hlk he9 hS (Nat.le_of_ble_eq_true rfl) (Nat.le_of_ble_eq_true rfl) ⟨hX.tr hx9.2.2, 2, by omega, by rw [ho]; rfl, by rw [ho]; rfl, hx9.2.1⟩
    exact absurd (by decide) hk_30
  · refine lv_iload_n hx hb dX1_whyNotCollect_15 rfl (lv_at hl 3 rfl) ?_
    refine lv_iconst (v := nI 1) hx hb dX1_whyNotCollect_16 rfl ?_
    refine lv_bipush (v := nI 50) hx hb dX1_whyNotCollect_17 rfl ?_
    refine b_ci0 (cs_X1_73 (rest := []) CX hl.1 (m_X1_in l (x := c_) (lo := nI 1) (hi := nI 50) ) rfl hS rfl ⟨rfl, rfl, Nat.le_of_ble_eq_true rfl, Nat.le_of_ble_eq_true rfl⟩ (Nat.le_of_ble_eq_true rfl) dX1_whyNotCollect_19 ⟨Nat.le_of_ble_eq_true rfl, Nat.le_of_ble_eq_true rfl⟩) hS (fun locs hS => ?_)
    refine b_ifeq (tgt := 29) CX dX1_whyNotCollect_22 (by decide) (fun c_22 => ?_) (fun c_22 => ?_)
    · refine lv_iconst (v := nI 0) hx hb dX1_whyNotCollect_29 rfl ?_
      refine b_xv0 (cx_X1_84 (rest := []) CX hl.1 (m_X1_need l (x := nI 0) hlt) rfl hS rfl ⟨rfl, rfl, Nat.le_of_ble_eq_true rfl, Nat.le_of_ble_eq_true rfl⟩ (Nat.le_of_ble_eq_true rfl) dX1_whyNotCollect_30 ⟨Nat.le_of_ble_eq_true rfl, Nat.le_of_ble_eq_true rfl⟩) hS (fun E9 q9 Hx6 locs hx9 hS he9 => ?_) (fun hk_30 locs hS => ?_)
      · rw [← hQ]
        have ho : o_whyC (S, n, L, tn, t) (nI jx) k c_ = f_no 2 (S, n, L, tn, t) := by
          unfold o_whyC
          simp only [ejx]
          repeat (first | rw [if_pos (by first | assumption | exact ⟨by assumption, by assumption⟩ | (constructor <;> omega) | omega | exact fun q => absurd q (by assumption) | exact fun q => absurd q.1 (by assumption) | exact fun q => absurd q.2 (by assumption) | exact Int32.not_lt.mpr (by assumption) | exact Int32.not_le.mp (by assumption) | exact fun q => q.2 (by assumption) | exact fun q => absurd q.1 (by omega))] | rw [if_neg (by first | assumption | exact ⟨by assumption, by assumption⟩ | (constructor <;> omega) | omega | exact fun q => absurd q (by assumption) | exact fun q => absurd q.1 (by assumption) | exact fun q => absurd q.2 (by assumption) | exact Int32.not_lt.mpr (by assumption) | exact Int32.not_le.mp (by assumption) | exact fun q => q.2 (by assumption) | exact fun q => absurd q.1 (by omega))])
        exact b_xout htb hlk he9 hS (Nat.le_of_ble_eq_true rfl) (Nat.le_of_ble_eq_true rfl) ⟨hX.tr hx9.2.2, 2, by omega, by rw [ho]; rfl, by rw [ho]; rfl, hx9.2.1⟩
      exact absurd (by decide) hk_30
    · obtain ⟨jk, hjka, hjkb, rfl⟩ := p_rg (by decide) c_12 (by decide)
      have ejk : ix (nI jk) = jk := ix_n (by omega)
      obtain ⟨jc, hjca, hjcb, rfl⟩ := p_rg (by decide) c_22 (by decide)
      have ejc : ix (nI jc) = jc := ix_n (by omega)
      refine lv_iconst (v := nI 1) hx hb dX1_whyNotCollect_25 rfl ?_
      refine lv_goto (tgt := 30) hx hb dX1_whyNotCollect_26 (by decide) ?_
      refine b_xv0 (cx_X1_84 (rest := []) CX hl.1 (m_X1_need l (x := nI 1) hlt) rfl hS rfl ⟨rfl, rfl, Nat.le_of_ble_eq_true rfl, Nat.le_of_ble_eq_true rfl⟩ (Nat.le_of_ble_eq_true rfl) dX1_whyNotCollect_30 ⟨Nat.le_of_ble_eq_true rfl, Nat.le_of_ble_eq_true rfl⟩) hS (fun E9 q9 Hx7 locs hx9 hS he9 => ?_) (fun hk_30 locs hS => ?_)
      · exact absurd hx9.1 (by decide)
      refine lv_aload_n hx hb dX1_whyNotCollect_33 rfl (lv_at hl 0 rfl) ?_
      refine lv_iload_n hx hb dX1_whyNotCollect_34 rfl (lv_at hl 1 rfl) ?_
      refine lv_iload_n hx hb dX1_whyNotCollect_35 rfl (lv_at hl 2 rfl) ?_
      refine lv_iload_n hx hb dX1_whyNotCollect_36 rfl (lv_at hl 3 rfl) ?_
      refine b_cq (cs_X1_189 (rest := []) CX hl.1 (m_X1_collecting l (a := (A 0)) (s_ := jx) (k := jk) (c_ := jc) ) rfl rfl rfl hc_X.at hS rfl ⟨rfl, rfl, Nat.le_of_ble_eq_true rfl, Nat.le_of_ble_eq_true rfl⟩ (Nat.le_of_ble_eq_true rfl) dX1_whyNotCollect_37 ⟨Nat.le_of_ble_eq_true rfl, Nat.le_of_ble_eq_true rfl⟩) hS (fun r H8 locs hp hS => ?_)
      obtain ⟨q8, rfl, hE, hz, hB, hat⟩ := hp
      have hc_X := hc_X.ad (tb := 100) hE hz
      have hc_sv := hc_sv.ad (tb := 100) hE hz
      have hsa := fun h9 => (hsa h9).ad (tb := 100) hE hz
      have hc_tx := hc_tx.ad (tb := 100) hE hz
      have hc_tb := hc_tb.ad (tb := 100) hE hz
      have hc_tk := hc_tk.ad (tb := 100) hE hz
      have hL := hL.ad (tb := 100) hE hz
      have hV := hV.ad (tb := 100) hE hz
      have fr_dd : H.size ≤ q8 := Nat.le_trans hF.1 hz
      have hX := hX.tr hE
      have hA := hA.tr (b_Ag.ge (t := 100) hz) hF.1
      have hF := hF.ext hE
      have hc_dd : b_tt G B0 ((upT τ q8 100)) H8 q8 100 (.inr (13, [.ref (((A 0))), .int (nI jx), .int (nI jk), .int (nI jc), .ref (((A 0)))])) := b_tt.mk hat hB
      refine b_xi (cx_X1_334_13 (rest := []) CX hl.1 (m_X6_reason_13 l (da := q8) (td := 100) (a := ((A 0))) (asv := (A 1)) (atx := (A 3)) (atk := (A 5)) (hs := hs) (s_ := jx) (k := jk) (c_ := jc) hc_dd hc_X hL hW (by omega) (by omega)) rfl hc_dd.at hS rfl ⟨rfl, rfl, Nat.le_of_ble_eq_true rfl, Nat.le_of_ble_eq_true rfl⟩ (Nat.le_of_ble_eq_true rfl) dX1_whyNotCollect_40 ⟨Nat.le_of_ble_eq_true rfl, Nat.le_of_ble_eq_true rfl⟩) hS (fun E9 q9 Hx9 locs hx9 hS he9 => ?_) (fun r H9 locs hp hS => ?_)
      · exact hx9.elim
      obtain ⟨rfl, hE⟩ := hp
      have hc_X := hc_X.ext hE
      have hc_sv := hc_sv.ext hE
      have hsa := fun h9 => (hsa h9).ext hE
      have hc_tx := hc_tx.ext hE
      have hc_tb := hc_tb.ext hE
      have hc_tk := hc_tk.ext hE
      have hL := hL.ext hE
      have hV := hV.ext hE
      have hc_dd := hc_dd.ext hE
      have hX := hX.tr hE
      have hF := hF.ext hE
      have ho : o_whyC (S, n, L, tn, t) (nI jx) (nI jk) (nI jc) = (nI 0, (a_collect S jx jk (nI jc)), (S, n, L, tn, t)) := by
        unfold o_whyC
        simp only [ejx, ejk, ejc]
        repeat (first | rw [if_pos (by first | assumption | exact ⟨by assumption, by assumption⟩ | (constructor <;> omega) | omega | exact fun q => absurd q (by assumption) | exact fun q => absurd q.1 (by assumption) | exact fun q => absurd q.2 (by assumption) | exact Int32.not_lt.mpr (by assumption) | exact Int32.not_le.mp (by assumption) | exact fun q => q.2 (by assumption) | exact fun q => absurd q.1 (by omega))] | rw [if_neg (by first | assumption | exact ⟨by assumption, by assumption⟩ | (constructor <;> omega) | omega | exact fun q => absurd q (by assumption) | exact fun q => absurd q.1 (by assumption) | exact fun q => absurd q.2 (by assumption) | exact Int32.not_lt.mpr (by assumption) | exact Int32.not_le.mp (by assumption) | exact fun q => q.2 (by assumption) | exact fun q => absurd q.1 (by omega))])
        first | rfl | (unfold f_ok f_no z_save;  rfl)
      rw [← hQ]
      exact vx_ret (b_iret CX hr hlk hS (Nat.le_of_ble_eq_true rfl) (Nat.le_of_ble_eq_true rfl) dX1_whyNotCollect_43 ((by unfold o_ok1; rw [ho]; exact ⟨rfl, rfl, _, hA, hF, ⟨d0, c0, ids, P0, F, M, E, Z, sm, rs, se, ml, hs, bt, tk9, hc_X, hc_sv, hsa, hse, hc_tx, hc_tb, hbt, hc_tk, hL, hZ, hW, hV, hd0, hdc, hn, htn, ht⟩⟩)))
theorem cx_X1_88 {p : Program} {l : Launch} {e : Env} {R : Room} {s : State} {m : MethodId} {args : Array Value} {below : List Frame} {meth : Method} {c : Code} {H : Heap} {locs : List Loc} {cells slots : Nat} {cc : ByteArray} {pc nL : Nat} {ls : Array Slot} {rest : List Value} {G : b_G} {B0 : Nat} (CX : b_Cx p s m args c cc nL RX1 G B0) (hls : ls.size = nL) {rm : Room} {mc ms : Nat} {As st0 : List Value} {Qc : Array Value → State → Outcome → State → Prop} {XC : String → Addr → State → State → Prop} (hM : vx_Met l yX1_needState (ws_ yX1_needState cX1_needState 1 (Option.none)) rm (b_Pc G B0 H As) Qc XC mc ms (b_A B0)) (hn : As.length = 1) (hS : va_S (b_A B0) s.heap H locs) (hst : st0 = As.reverse ++ rest) (hr : rm.cells = mc ∧ rm.slots = ms ∧ rm.frames + 1 ≤ R.frames ∧ 8 + (1 + 11) + rm.locals ≤ R.locals) (hw : (rest.map fun v => v.category).sum ≤ 8) (hdg : decode cc pc = .ok (.invokestatic 88, 3)) (hf : cells + mc ≤ R.cells ∧ slots + ms ≤ R.slots) : vx_Run p l e R s m args below meth c H locs cells slots mc ms (F0 m pc ls st0) rest (Qc As.toArray) XC (b_A B0) := vx_runS CX.fix hM (va_cwS 1 CX.ts (lw_S q944 q945 q79 q946) rfl hr.1 hr.2.1 (by decide +kernel) ⟨hr.2.2.1, hr.2.2.2⟩) ⟨b_blind G B0 H _, b_pre _ CX.K hS⟩ rfl hn hls hst (lv_room hw) hdg hf
theorem cs_X1_91 {p : Program} {l : Launch} {e : Env} {R : Room} {s : State} {m : MethodId} {args : Array Value} {below : List Frame} {meth : Method} {c : Code} {H : Heap} {locs : List Loc} {cells slots : Nat} {cc : ByteArray} {pc nL a : Nat} {ls : Array Slot} {rest : List Value} {G : b_G} {B0 : Nat} (CX : b_Cx p s m args c cc nL RX1 G B0) (hls : ls.size = nL) {rm : Room} {mc ms : Nat} {As st0 : List Value} {Qc : Array Value → State → Outcome → State → Prop} (hM : Met l yX1_save (ws_ yX1_save cX1_save 1 (Option.none)) rm (b_Pc G B0 H (.ref a :: As)) Qc mc ms (b_A B0)) (hn : As.length = 0) {fs : List Value} {ci : Nat} {qc : vw_C} (hc : b_cl[ci]? = some qc) (hq : qc.1 = RX1) (hP : b_at G a (.inr (ci, fs)) H) (hS : va_S (b_A B0) s.heap H locs) (hst : st0 = As.reverse ++ .ref a :: rest) (hr : rm.cells = mc ∧ rm.slots = ms ∧ rm.frames + 1 ≤ R.frames ∧ 8 + (1 + 11) + rm.locals ≤ R.locals) (hw : (rest.map fun v => v.category).sum ≤ 8) (hdg : decode cc pc = .ok (.invokevirtual 91, 3)) (hf : cells + mc ≤ R.cells ∧ slots + ms ≤ R.slots) : va_Run p l e R s m args below meth c H locs cells slots mc ms (F0 m pc ls st0) rest (Qc (Value.ref a :: As).toArray) (b_A B0) := va_runV CX.fix hM (cwV 0 CX.ts (lw_V q962 q964 qs26 q79 q965) rfl hr.1 hr.2.1 (by decide +kernel) ⟨hr.2.2.1, hr.2.2.2⟩) ⟨b_blind G B0 H _, by have h9 := b_recv CX.K hc hP; rw [hq] at h9; exact h9, b_pre _ CX.K hS⟩ rfl hn hls hst (lv_room hw) hdg hf
theorem pf_X1_113_1 {p : Program} {l : Launch} {e : Env} {R : Room} {s : State} {m : MethodId} {args : Array Value} {below : List Frame} {meth : Method} {c : Code} {H : Heap} {locs : List Loc} {cells slots : Nat} {Q : State → Prop} {cc : ByteArray} {pc nL a : Nat} {ls : Array Slot} {rest : List Value} {G : b_G} {B0 : Nat} (CX : b_Cx p s m args c cc nL RX1 G B0) {fs : List Value} (hP : b_at G a (.inr (1, fs)) H) (hS : va_S (b_A B0) s.heap H locs) (ha : B0 ≤ a) {v : Value} (hn : narrow (tyX2 4) v = v) (hfit : fits (tyX2 4) v = true) (hl : 4 < fs.length) (hdg : decode cc pc = .ok (.putfield 113, 3)) (kk : ∀ (H1 : Heap) (locs1 : List Loc), b_at G a (.inr (1, fs.set 4 v)) H1 → b_Up a H H1 → va_S (b_A B0) s.heap H1 locs1 → W p l e R s m args below meth c H1 locs1 cells slots Q (F0 m (pc + 3) ls rest)) : W p l e R s m args below meth c H locs cells slots Q (F0 m pc ls (v :: .ref a :: rest)) := b_putN CX in_X2 tyX2 tyX2_ok rfl 4 (by decide) (by decide +kernel) q184 (Or.inl rfl) rfl hP hS ha hn hfit hl hdg kk
set_option maxHeartbeats 2000000 in
set_option maxRecDepth 100000 in
theorem m_X1_buyCrates (l : Launch) {G : b_G} {B0 : Nat} {H : Heap} {τ : b_T} {A : Nat → Nat} {S : b_St} {n : Nat} {L : Nat → b_St} {tn : Nat} {t : Nat → Nat} {b : Int32} (hlt : l.stackTraces = false) (hXR : XR G B0 τ A H (S, n, L, tn, t)) (hW1 : b_WF (o_buy (S, n, L, tn, t) b).2.2.1) : vx_Met l yX1_buyCrates (ws_ yX1_buyCrates cX1_buyCrates 2 (Option.some Jvm.ClassFile.FieldType.int)) ({ frames := 7, cells := 56, slots := 473, locals := 150 } : Room) (b_Pc G B0 H [.ref ((A 0)), .int b]) (b_Qi B0 (fun r H1 => o_ok1 G B0 τ A H (o_buy (S, n, L, tn, t) b) r H1)) (b_X B0 (fun E9 q9 H9 => o_px H (S, n, L, tn, t) (o_buy (S, n, L, tn, t) b) cl_B E9 H9)) 56 473 (b_A B0) := by
  refine b_ofX (by decide) (Nat.le_of_ble_eq_true rfl) ?_
  intro p e s m below meth c CX hr hlk htb hS ls hl
  have CX : b_Cx p s m _ c cX1_buyCrates 2 RX1 G B0 := CX
  have hx := CX.hx
  have hb := CX.hb
  have hl : lv_has ls 2 [(0, .ref ((A 0))), (1, .int b)] := hl
  generalize hQ : vx_MQ below (b_Qi B0 (fun r H1 => o_ok1 G B0 τ A H (o_buy (S, n, L, tn, t) b) r H1)) (b_X B0 (fun E9 q9 H9 => o_px H (S, n, L, tn, t) (o_buy (S, n, L, tn, t) b) cl_B E9 H9)) ([.ref ((A 0)), .int b] : List Value).toArray s 56 473 (b_A B0) = Q
  have hF : b_Fr τ (fun t => t < 200 ∨ 1000 ≤ t) H H := b_Fr.rf
  have hA : b_Ag τ τ H := b_Ag.rf
  have hX : b_Ext H H := b_Ext.rf
  obtain ⟨d0, c0, ids, P0, F, M, E, Z, sm, rs, se, ml, hs, bt, tk9, hc_X, hc_sv, hsa, hse, hc_tx, hc_tb, hbt, hc_tk, hL, hZ, hW, hV, hd0, hdc, hn, htn, ht⟩ := hXR
  have hc_X : b_tt G B0 τ H ((A 0)) 0 (.inr (0, [.ref ((F 0)), .ref ((A 1)), .ref ((A 3)), .ref ((A 5)), .long hs])) := hc_X
  have hc_sv : b_tt G B0 τ H ((A 1)) 1 (.inr (2, [.int sm, .ref ((if se = true then rs else G.2.2 0)), .int (nI n)])) := hc_sv
  have hsa : (se = true → b_tt G B0 τ H rs 2 (.inl (G.2.1 2, q_refs 10 (fun j => if j < n then some (P0 j) else none)))) := hsa
  have hc_tx : b_tt G B0 τ H ((A 3)) 3 (.inr (3, [.ref ((A 4)), .int (nI 0), .int ml, .int (nI tn)])) := hc_tx
  have hc_tb : b_tt G B0 τ H ((A 4)) 4 (.inl (G.2.1 1, 60, .inl bt)) := hc_tb
  have hc_tk : b_tt G B0 τ H ((A 5)) 5 (.inl (G.2.1 0, 8, .inl tk9)) := hc_tk
  have hL : LR G B0 τ d0 F M E H S Z := hL
  have hV : SV G B0 τ d0 c0 n ids P0 H L := hV
  have hn8 := hL.2.2.2.1
  have hn6 := hL.2.2.2.2
  have hnb : nb S = nb S := rfl
  have hns : ns S = ns S := rfl
  have hn : n ≤ 6 := hn
  have htn : tn ≤ 60 := htn
  have ht : ∀ j, t j < 128 := ht
  have hse : se = true ∨ n = 0 := hse
  have hZ : pZ Z S := hZ
  have hW : b_WF S := hW
  have hbt : ∀ j, j < tn → bt j = nI (t j) := hbt
  refine lv_iload_n hx hb dX1_buyCrates_0 rfl (lv_at hl 1 rfl) ?_
  refine lv_iconst (v := nI 1) hx hb dX1_buyCrates_1 rfl ?_
  refine lv_sipush (v := nI 500) hx hb dX1_buyCrates_2 rfl ?_
  refine b_ci0 (cs_X1_73 (rest := []) CX hl.1 (m_X1_in l (x := b) (lo := nI 1) (hi := nI 500) ) rfl hS rfl ⟨rfl, rfl, Nat.le_of_ble_eq_true rfl, Nat.le_of_ble_eq_true rfl⟩ (Nat.le_of_ble_eq_true rfl) dX1_buyCrates_5 ⟨Nat.le_of_ble_eq_true rfl, Nat.le_of_ble_eq_true rfl⟩) hS (fun locs hS => ?_)
  refine b_xv0 (cx_X1_84 (rest := []) CX hl.1 (m_X1_need l (x := bI ((nI 1) ≤ b ∧ b ≤ (nI 500))) hlt) rfl hS rfl ⟨rfl, rfl, Nat.le_of_ble_eq_true rfl, Nat.le_of_ble_eq_true rfl⟩ (Nat.le_of_ble_eq_true rfl) dX1_buyCrates_8 ⟨Nat.le_of_ble_eq_true rfl, Nat.le_of_ble_eq_true rfl⟩) hS (fun E9 q9 Hx2 locs hx9 hS he9 => ?_) (fun hk_8 locs hS => ?_)
  · have hk_8 := bI_0.mp hx9.1
    rw [← hQ]
    have ho : o_buy (S, n, L, tn, t) b = f_no 1 (S, n, L, tn, t) := by
      unfold o_buy
      try dsimp only
      repeat (first | rw [if_pos (by first | assumption | exact ⟨by assumption, by assumption⟩ | (constructor <;> omega) | omega | exact fun q => absurd q (by assumption) | exact fun q => absurd q.1 (by assumption) | exact fun q => absurd q.2 (by assumption) | exact Int32.not_lt.mpr (by assumption) | exact Int32.not_le.mp (by assumption) | exact fun q => q.2 (by assumption) | exact fun q => absurd q.1 (by omega) | exact Int32.not_le.mpr (by assumption) | exact Int32.not_lt.mp (by assumption))] | rw [if_neg (by first | assumption | exact ⟨by assumption, by assumption⟩ | (constructor <;> omega) | omega | exact fun q => absurd q (by assumption) | exact fun q => absurd q.1 (by assumption) | exact fun q => absurd q.2 (by assumption) | exact Int32.not_lt.mpr (by assumption) | exact Int32.not_le.mp (by assumption) | exact fun q => q.2 (by assumption) | exact fun q => absurd q.1 (by omega) | exact Int32.not_le.mpr (by assumption) | exact Int32.not_lt.mp (by assumption))])
    exact b_xout htb hlk he9 hS (Nat.le_of_ble_eq_true rfl) (Nat.le_of_ble_eq_true rfl) ⟨hX.tr hx9.2.2, 1, by omega, by rw [ho]; rfl, by rw [ho]; rfl, hx9.2.1⟩
  have hk_8 := bI_n0.mp hk_8
  refine lv_aload_n hx hb dX1_buyCrates_11 rfl (lv_at hl 0 rfl) ?_
  refine gf_X1_19_0 CX hc_X.at rfl dX1_buyCrates_12 ?_
  refine gf_X1_113_1 CX hL.loop.at rfl dX1_buyCrates_15 ?_
  refine lv_aload_n hx hb dX1_buyCrates_18 rfl (lv_at hl 0 rfl) ?_
  refine b_ci0 (cs_X1_116 (rest := [.int (S 0 0 2)]) CX hl.1 (m_X1_cratesInShops l (a := (A 0)) (asv := (A 1)) (atx := (A 3)) (atk := (A 5)) (hs := hs) hc_X hL hW) rfl rfl rfl hc_X.at hS rfl ⟨rfl, rfl, Nat.le_of_ble_eq_true rfl, Nat.le_of_ble_eq_true rfl⟩ (Nat.le_of_ble_eq_true rfl) dX1_buyCrates_19 ⟨Nat.le_of_ble_eq_true rfl, Nat.le_of_ble_eq_true rfl⟩) hS (fun locs hS => ?_)
  refine lv_iadd hx hb dX1_buyCrates_22 ?_
  refine lv_iload_n hx hb dX1_buyCrates_23 rfl (lv_at hl 1 rfl) ?_
  refine lv_iadd hx hb dX1_buyCrates_24 ?_
  refine lv_sipush (v := nI 1000) hx hb dX1_buyCrates_25 rfl ?_
  refine lv_icmp_gt (tgt := 35) hx hb dX1_buyCrates_28 (by decide) (fun c_28 => ?_) (fun c_28 => ?_)
  · refine lv_iconst (v := nI 0) hx hb dX1_buyCrates_35 rfl ?_
    refine b_xv0 (cx_X1_88 (rest := []) CX hl.1 (m_X1_needState l (x := nI 0) hlt) rfl hS rfl ⟨rfl, rfl, Nat.le_of_ble_eq_true rfl, Nat.le_of_ble_eq_true rfl⟩ (Nat.le_of_ble_eq_true rfl) dX1_buyCrates_36 ⟨Nat.le_of_ble_eq_true rfl, Nat.le_of_ble_eq_true rfl⟩) hS (fun E9 q9 Hx4 locs hx9 hS he9 => ?_) (fun hk_36 locs hS => ?_)
    · rw [← hQ]
      have ho : o_buy (S, n, L, tn, t) b = f_no 2 (S, n, L, tn, t) := by
        unfold o_buy
        try dsimp only
        repeat (first | rw [if_pos (by first | assumption | exact ⟨by assumption, by assumption⟩ | (constructor <;> omega) | omega | exact fun q => absurd q (by assumption) | exact fun q => absurd q.1 (by assumption) | exact fun q => absurd q.2 (by assumption) | exact Int32.not_lt.mpr (by assumption) | exact Int32.not_le.mp (by assumption) | exact fun q => q.2 (by assumption) | exact fun q => absurd q.1 (by omega) | exact Int32.not_le.mpr (by assumption) | exact Int32.not_lt.mp (by assumption))] | rw [if_neg (by first | assumption | exact ⟨by assumption, by assumption⟩ | (constructor <;> omega) | omega | exact fun q => absurd q (by assumption) | exact fun q => absurd q.1 (by assumption) | exact fun q => absurd q.2 (by assumption) | exact Int32.not_lt.mpr (by assumption) | exact Int32.not_le.mp (by assumption) | exact fun q => q.2 (by assumption) | exact fun q => absurd q.1 (by omega) | exact Int32.not_le.mpr (by assumption) | exact Int32.not_lt.mp (by assumption))])
      exact b_xout htb hlk he9 hS (Nat.le_of_ble_eq_true rfl) (Nat.le_of_ble_eq_true rfl) ⟨hX.tr hx9.2.2, 2, by omega, by rw [ho]; rfl, by rw [ho]; rfl, hx9.2.1⟩
    exact absurd (by decide) hk_36
  · refine lv_iconst (v := nI 1) hx hb dX1_buyCrates_31 rfl ?_
    refine lv_goto (tgt := 36) hx hb dX1_buyCrates_32 (by decide) ?_
    refine b_xv0 (cx_X1_88 (rest := []) CX hl.1 (m_X1_needState l (x := nI 1) hlt) rfl hS rfl ⟨rfl, rfl, Nat.le_of_ble_eq_true rfl, Nat.le_of_ble_eq_true rfl⟩ (Nat.le_of_ble_eq_true rfl) dX1_buyCrates_36 ⟨Nat.le_of_ble_eq_true rfl, Nat.le_of_ble_eq_true rfl⟩) hS (fun E9 q9 Hx5 locs hx9 hS he9 => ?_) (fun hk_36 locs hS => ?_)
    · exact absurd hx9.1 (by decide)
    refine lv_aload_n hx hb dX1_buyCrates_39 rfl (lv_at hl 0 rfl) ?_
    have hXR : XR G B0 τ A H (S, n, L, tn, t) := ⟨d0, c0, ids, P0, F, M, E, Z, sm, rs, se, ml, hs, bt, tk9, hc_X, hc_sv, hsa, hse, hc_tx, hc_tb, hbt, hc_tk, hL, hZ, hW, hV, hd0, hdc, hn, htn, ht⟩
    refine b_cv (cs_X1_91 (rest := []) CX hl.1 (m_X1_save l  hXR) rfl rfl rfl hc_X.at hS rfl ⟨rfl, rfl, Nat.le_of_ble_eq_true rfl, Nat.le_of_ble_eq_true rfl⟩ (Nat.le_of_ble_eq_true rfl) dX1_buyCrates_40 ⟨Nat.le_of_ble_eq_true rfl, Nat.le_of_ble_eq_true rfl⟩) hS (fun H6 locs hp hS => ?_)
    obtain ⟨τ6, hA9, hF9, hXR⟩ := hp
    have hF0 := hF.tr hA hF9 (fun q9 hq9 x9 => by have x8 : τ q9 = 1 ∨ τ q9 = 2 ∨ 1000 ≤ τ q9 := x9; show τ q9 < 200 ∨ 1000 ≤ τ q9; omega)
    have hA := hA.tr hA9 hF.1
    have hF := hF0
    have hXR : XR G B0 τ6 A H6 (S, (p_sn n), (p_L L S n), tn, t) := hXR
    obtain ⟨d06, c06, ids6, P06, F6, M6, E6, Z6, sm6, rs6, se6, ml6, hs6, bt6, tk96, hc_X, hc_sv, hsa, hse, hc_tx, hc_tb, hbt, hc_tk, hL, hZ, hW, hV, hd0, hdc, hn, htn, ht⟩ := hXR
    have hc_X : b_tt G B0 τ6 H6 ((A 0)) 0 (.inr (0, [.ref ((F6 0)), .ref ((A 1)), .ref ((A 3)), .ref ((A 5)), .long hs6])) := hc_X
    have hc_sv : b_tt G B0 τ6 H6 ((A 1)) 1 (.inr (2, [.int sm6, .ref ((if se6 = true then rs6 else G.2.2 0)), .int (nI ((p_sn n)))])) := hc_sv
    have hsa : (se6 = true → b_tt G B0 τ6 H6 rs6 2 (.inl (G.2.1 2, q_refs 10 (fun j => if j < (p_sn n) then some (P06 j) else none)))) := hsa
    have hc_tx : b_tt G B0 τ6 H6 ((A 3)) 3 (.inr (3, [.ref ((A 4)), .int (nI 0), .int ml6, .int (nI tn)])) := hc_tx
    have hc_tb : b_tt G B0 τ6 H6 ((A 4)) 4 (.inl (G.2.1 1, 60, .inl bt6)) := hc_tb
    have hc_tk : b_tt G B0 τ6 H6 ((A 5)) 5 (.inl (G.2.1 0, 8, .inl tk96)) := hc_tk
    have hL : LR G B0 τ6 d06 F6 M6 E6 H6 S Z6 := hL
    have hV : SV G B0 τ6 d06 c06 ((p_sn n)) ids6 P06 H6 ((p_L L S n)) := hV
    have hn8 := hL.2.2.2.1
    have hn6 := hL.2.2.2.2
    have hnb : nb S = nb S := rfl
    have hns : ns S = ns S := rfl
    have hn : (p_sn n) ≤ 6 := hn
    have htn : tn ≤ 60 := htn
    have ht : ∀ j, t j < 128 := ht
    have hse : se6 = true ∨ (p_sn n) = 0 := hse
    have hZ : pZ Z6 S := hZ
    have hW : b_WF S := hW
    have hbt : ∀ j, j < tn → bt6 j = nI (t j) := hbt
    refine lv_aload_n hx hb dX1_buyCrates_43 rfl (lv_at hl 0 rfl) ?_
    refine gf_X1_19_0 CX hc_X.at rfl dX1_buyCrates_44 ?_
    refine lv_dup hx hb dX1_buyCrates_47 rfl ?_
    refine gf_X1_113_1 CX hL.loop.at rfl dX1_buyCrates_48 ?_
    refine lv_iload_n hx hb dX1_buyCrates_51 rfl (lv_at hl 1 rfl) ?_
    refine lv_iadd hx hb dX1_buyCrates_52 ?_
    refine pf_X1_113_1 CX hL.loop.at hS hL.loop.B rfl rfl (Nat.le_of_ble_eq_true rfl) dX1_buyCrates_53 (fun H7 locs hat hu hS => ?_)
    have hc_X := hc_X.up hu hL.loop.tag (by omega)
    have hc_sv := hc_sv.up hu hL.loop.tag (by omega)
    have hsa := fun h9 => (hsa h9).up hu hL.loop.tag (by omega)
    have hc_tx := hc_tx.up hu hL.loop.tag (by omega)
    have hc_tb := hc_tb.up hu hL.loop.tag (by omega)
    have hc_tk := hc_tk.up hu hL.loop.tag (by omega)
    have hV := hV.up hu hL.loop.tag (fun k9 h1 h2 h3 => by omega)
    have hF := hF.up hA hu hL.loop.tag (fun _ => show (1000 * d06 + 0) < 200 ∨ 1000 ≤ (1000 * d06 + 0) by omega)
    have hL : LR G B0 τ6 d06 F6 M6 E6 H7 ((u3 S 0 0 2 ((S 0 0 2) + b))) Z6 := hL.set0 (w := 2) (by decide) hat hu (by simp [l_cnt, u3])
    have hnb : nb ((u3 S 0 0 2 ((S 0 0 2) + b))) = nb S := (nb_u (by omega)).trans hnb
    have hns : ns ((u3 S 0 0 2 ((S 0 0 2) + b))) = ns S := (ns_u (by omega)).trans hns
    refine lv_aload_n hx hb dX1_buyCrates_56 rfl (lv_at hl 0 rfl) ?_
    refine gf_X1_19_0 CX hc_X.at rfl dX1_buyCrates_57 ?_
    refine gf_X1_113_1 CX hL.loop.at (v := .int ((S 0 0 2) + b)) (congrArg (fun q => some (Value.int q)) (by simp [u3])) dX1_buyCrates_60 ?_
    have ho : o_buy (S, n, L, tn, t) b = (nI 0, (S 0 0 2) + b, ((u3 S 0 0 2 ((S 0 0 2) + b)), (p_sn n), (p_L L S n), tn, t)) := by
      unfold o_buy
      try dsimp only
      repeat (first | rw [if_pos (by first | assumption | exact ⟨by assumption, by assumption⟩ | (constructor <;> omega) | omega | exact fun q => absurd q (by assumption) | exact fun q => absurd q.1 (by assumption) | exact fun q => absurd q.2 (by assumption) | exact Int32.not_lt.mpr (by assumption) | exact Int32.not_le.mp (by assumption) | exact fun q => q.2 (by assumption) | exact fun q => absurd q.1 (by omega) | exact Int32.not_le.mpr (by assumption) | exact Int32.not_lt.mp (by assumption))] | rw [if_neg (by first | assumption | exact ⟨by assumption, by assumption⟩ | (constructor <;> omega) | omega | exact fun q => absurd q (by assumption) | exact fun q => absurd q.1 (by assumption) | exact fun q => absurd q.2 (by assumption) | exact Int32.not_lt.mpr (by assumption) | exact Int32.not_le.mp (by assumption) | exact fun q => q.2 (by assumption) | exact fun q => absurd q.1 (by omega) | exact Int32.not_le.mpr (by assumption) | exact Int32.not_lt.mp (by assumption))])
      first | rfl | (unfold f_ok f_no z_save;  rfl)
    rw [← hQ]
    exact vx_ret (b_iret CX hr hlk hS (Nat.le_of_ble_eq_true rfl) (Nat.le_of_ble_eq_true rfl) dX1_buyCrates_63 ((by unfold o_ok1; rw [ho]; exact ⟨rfl, rfl, _, hA, hF, ⟨d06, c06, ids6, P06, F6, M6, E6, Z6, sm6, rs6, se6, ml6, hs6, bt6, tk96, hc_X, hc_sv, hsa, hse, hc_tx, hc_tb, hbt, hc_tk, hL, (pZ.of hZ (fun i j => by simp [u3])), (by have h9 := hW1; rw [ho] at h9; exact h9), hV, hd0, hdc, hn, htn, ht⟩⟩)))
theorem cs_X1_156 {p : Program} {l : Launch} {e : Env} {R : Room} {s : State} {m : MethodId} {args : Array Value} {below : List Frame} {meth : Method} {c : Code} {H : Heap} {locs : List Loc} {cells slots : Nat} {cc : ByteArray} {pc nL a : Nat} {ls : Array Slot} {rest : List Value} {G : b_G} {B0 : Nat} (CX : b_Cx p s m args c cc nL RX1 G B0) (hls : ls.size = nL) {rm : Room} {mc ms : Nat} {As st0 : List Value} {Qc : Array Value → State → Outcome → State → Prop} (hM : Met l yX7_init (ws_ yX7_init cX7_init 4 (Option.none)) rm (b_Pc G B0 H (.ref a :: As)) Qc mc ms (b_A B0)) (hn : As.length = 3) (hS : va_S (b_A B0) s.heap H locs) (hst : st0 = As.reverse ++ .ref a :: rest) (hr : rm.cells = mc ∧ rm.slots = ms ∧ rm.frames + 1 ≤ R.frames ∧ 8 + (4 + 11) + rm.locals ≤ R.locals) (hw : (rest.map fun v => v.category).sum ≤ 8) (hdg : decode cc pc = .ok (.invokespecial 156, 3)) (hf : cells + mc ≤ R.cells ∧ slots + ms ≤ R.slots) : va_Run p l e R s m args below meth c H locs cells slots mc ms (F0 m pc ls st0) rest (Qc (Value.ref a :: As).toArray) (b_A B0) := va_runI CX.fix hM (cwI 3 CX.ts (lw_meth q1157) rfl hr.1 hr.2.1 (CX.ts _ q105) (CX.ts _ q1155) (CX.ts _ q1156) rfl (by decide +kernel) ⟨hr.2.2.1, hr.2.2.2⟩) ⟨b_blind G B0 H _, b_pre _ CX.K hS⟩ rfl hn hls hst (lv_room hw) hdg hf
theorem cx_X1_159_14 {p : Program} {l : Launch} {e : Env} {R : Room} {s : State} {m : MethodId} {args : Array Value} {below : List Frame} {meth : Method} {c : Code} {H : Heap} {locs : List Loc} {cells slots : Nat} {cc : ByteArray} {pc nL a : Nat} {ls : Array Slot} {rest : List Value} {G : b_G} {B0 : Nat} (CX : b_Cx p s m args c cc nL RX1 G B0) (hls : ls.size = nL) {rm : Room} {mc ms : Nat} {As st0 : List Value} {Qc : Array Value → State → Outcome → State → Prop} {XC : String → Addr → State → State → Prop} (hM : vx_Met l yX6_done (ws_ yX6_done cX6_done 1 (Option.some Jvm.ClassFile.FieldType.int)) rm (b_Pc G B0 H (.ref a :: As)) Qc XC mc ms (b_A B0)) (hn : As.length = 0) {fs : List Value} (hP : b_at G a (.inr (14, fs)) H) (hS : va_S (b_A B0) s.heap H locs) (hst : st0 = As.reverse ++ .ref a :: rest) (hr : rm.cells = mc ∧ rm.slots = ms ∧ rm.frames + 1 ≤ R.frames ∧ 8 + (1 + 11) + rm.locals ≤ R.locals) (hw : (rest.map fun v => v.category).sum ≤ 8) (hdg : decode cc pc = .ok (.invokevirtual 159, 3)) (hf : cells + mc ≤ R.cells ∧ slots + ms ≤ R.slots) : vx_Run p l e R s m args below meth c H locs cells slots mc ms (F0 m pc ls st0) rest (Qc (Value.ref a :: As).toArray) XC (b_A B0) := vx_runU CX.fix hM (va_cwU (C := RX7) (owner := RX6) 0 CX.ts (lw_U q1175 q1176 q1178 q1179 q104 q1180) rfl hr.1 hr.2.1 rfl ⟨by decide, by decide, by decide +kernel⟩ ⟨hr.2.2.1, hr.2.2.2⟩) ⟨b_blind G B0 H _, b_recv CX.K (ci := 14) rfl hP, b_pre _ CX.K hS⟩ rfl hn hls hst (lv_room hw) hdg hf
set_option maxHeartbeats 2000000 in
set_option maxRecDepth 100000 in
theorem m_X1_fill (l : Launch) {G : b_G} {B0 : Nat} {H : Heap} {τ : b_T} {A : Nat → Nat} {S : b_St} {n : Nat} {L : Nat → b_St} {tn : Nat} {t : Nat → Nat} {x : Int32} {b : Int32} (hlt : l.stackTraces = false) (hXR : XR G B0 τ A H (S, n, L, tn, t)) (hW1 : b_WF (o_fill (S, n, L, tn, t) x b).2.2.1) : vx_Met l yX1_fill (ws_ yX1_fill cX1_fill 3 (Option.some Jvm.ClassFile.FieldType.int)) ({ frames := 10, cells := 59, slots := 492, locals := 211 } : Room) (b_Pc G B0 H [.ref ((A 0)), .int x, .int b]) (b_Qi B0 (fun r H1 => o_ok1 G B0 τ A H (o_fill (S, n, L, tn, t) x b) r H1)) (b_X B0 (fun E9 q9 H9 => o_px H (S, n, L, tn, t) (o_fill (S, n, L, tn, t) x b) cl_A E9 H9)) 59 492 (b_A B0) := by
  refine b_ofX (by decide) (Nat.le_of_ble_eq_true rfl) ?_
  intro p e s m below meth c CX hr hlk htb hS ls hl
  have CX : b_Cx p s m _ c cX1_fill 3 RX1 G B0 := CX
  have hx := CX.hx
  have hb := CX.hb
  have hl : lv_has ls 3 [(0, .ref ((A 0))), (1, .int x), (2, .int b)] := hl
  generalize hQ : vx_MQ below (b_Qi B0 (fun r H1 => o_ok1 G B0 τ A H (o_fill (S, n, L, tn, t) x b) r H1)) (b_X B0 (fun E9 q9 H9 => o_px H (S, n, L, tn, t) (o_fill (S, n, L, tn, t) x b) cl_A E9 H9)) ([.ref ((A 0)), .int x, .int b] : List Value).toArray s 59 492 (b_A B0) = Q
  have hF : b_Fr τ (fun t => t < 200 ∨ 1000 ≤ t) H H := b_Fr.rf
  have hA : b_Ag τ τ H := b_Ag.rf
  have hX : b_Ext H H := b_Ext.rf
  obtain ⟨d0, c0, ids, P0, F, M, E, Z, sm, rs, se, ml, hs, bt, tk9, hc_X, hc_sv, hsa, hse, hc_tx, hc_tb, hbt, hc_tk, hL, hZ, hW, hV, hd0, hdc, hn, htn, ht⟩ := hXR
  have hc_X : b_tt G B0 τ H ((A 0)) 0 (.inr (0, [.ref ((F 0)), .ref ((A 1)), .ref ((A 3)), .ref ((A 5)), .long hs])) := hc_X
  have hc_sv : b_tt G B0 τ H ((A 1)) 1 (.inr (2, [.int sm, .ref ((if se = true then rs else G.2.2 0)), .int (nI n)])) := hc_sv
  have hsa : (se = true → b_tt G B0 τ H rs 2 (.inl (G.2.1 2, q_refs 10 (fun j => if j < n then some (P0 j) else none)))) := hsa
  have hc_tx : b_tt G B0 τ H ((A 3)) 3 (.inr (3, [.ref ((A 4)), .int (nI 0), .int ml, .int (nI tn)])) := hc_tx
  have hc_tb : b_tt G B0 τ H ((A 4)) 4 (.inl (G.2.1 1, 60, .inl bt)) := hc_tb
  have hc_tk : b_tt G B0 τ H ((A 5)) 5 (.inl (G.2.1 0, 8, .inl tk9)) := hc_tk
  have hL : LR G B0 τ d0 F M E H S Z := hL
  have hV : SV G B0 τ d0 c0 n ids P0 H L := hV
  have hn8 := hL.2.2.2.1
  have hn6 := hL.2.2.2.2
  have hnb : nb S = nb S := rfl
  have hns : ns S = ns S := rfl
  have hn : n ≤ 6 := hn
  have htn : tn ≤ 60 := htn
  have ht : ∀ j, t j < 128 := ht
  have hse : se = true ∨ n = 0 := hse
  have hZ : pZ Z S := hZ
  have hW : b_WF S := hW
  have hbt : ∀ j, j < tn → bt j = nI (t j) := hbt
  refine lv_aload_n hx hb dX1_fill_0 rfl (lv_at hl 0 rfl) ?_
  refine lv_iload_n hx hb dX1_fill_1 rfl (lv_at hl 1 rfl) ?_
  refine b_ci0 (cs_X1_151 (rest := []) CX hl.1 (m_X1_isBrand l (a := (A 0)) (asv := (A 1)) (atx := (A 3)) (atk := (A 5)) (hs := hs) (x := x) hc_X hL hW) rfl rfl rfl hc_X.at hS rfl ⟨rfl, rfl, Nat.le_of_ble_eq_true rfl, Nat.le_of_ble_eq_true rfl⟩ (Nat.le_of_ble_eq_true rfl) dX1_fill_2 ⟨Nat.le_of_ble_eq_true rfl, Nat.le_of_ble_eq_true rfl⟩) hS (fun locs hS => ?_)
  refine b_xv0 (cx_X1_119 (rest := []) CX hl.1 (m_X1_needIndex l (x := bI (nI 0 ≤ x ∧ x ≤ nI (nb S) - nI 1)) hlt) rfl hS rfl ⟨rfl, rfl, Nat.le_of_ble_eq_true rfl, Nat.le_of_ble_eq_true rfl⟩ (Nat.le_of_ble_eq_true rfl) dX1_fill_5 ⟨Nat.le_of_ble_eq_true rfl, Nat.le_of_ble_eq_true rfl⟩) hS (fun E9 q9 Hx2 locs hx9 hS he9 => ?_) (fun hk_5 locs hS => ?_)
  · have hk_5 := bI_0.mp hx9.1
    rw [← hQ]
    have ho : o_fill (S, n, L, tn, t) x b = f_no 1 (S, n, L, tn, t) := by
      unfold o_fill
      try dsimp only
      repeat (first | rw [if_pos (by first | assumption | exact ⟨by assumption, by assumption⟩ | (constructor <;> omega) | omega | exact fun q => absurd q (by assumption) | exact fun q => absurd q.1 (by assumption) | exact fun q => absurd q.2 (by assumption) | exact Int32.not_lt.mpr (by assumption) | exact Int32.not_le.mp (by assumption) | exact fun q => q.2 (by assumption) | exact fun q => absurd q.1 (by omega))] | rw [if_neg (by first | assumption | exact ⟨by assumption, by assumption⟩ | (constructor <;> omega) | omega | exact fun q => absurd q (by assumption) | exact fun q => absurd q.1 (by assumption) | exact fun q => absurd q.2 (by assumption) | exact Int32.not_lt.mpr (by assumption) | exact Int32.not_le.mp (by assumption) | exact fun q => q.2 (by assumption) | exact fun q => absurd q.1 (by omega))])
    exact b_xout htb hlk he9 hS (Nat.le_of_ble_eq_true rfl) (Nat.le_of_ble_eq_true rfl) ⟨hX.tr hx9.2.2, 1, by omega, by rw [ho]; rfl, by rw [ho]; rfl, hx9.2.1⟩
  have hk_5 := bI_n0.mp hk_5
  obtain ⟨jx, hjx, rfl⟩ := isB_lt hW hk_5
  have ejx : ix (nI jx) = jx := ix_n (by omega)
  refine lv_iload_n hx hb dX1_fill_8 rfl (lv_at hl 2 rfl) ?_
  refine lv_iconst (v := nI 1) hx hb dX1_fill_9 rfl ?_
  refine lv_sipush (v := nI 5000) hx hb dX1_fill_10 rfl ?_
  refine b_ci0 (cs_X1_73 (rest := []) CX hl.1 (m_X1_in l (x := b) (lo := nI 1) (hi := nI 5000) ) rfl hS rfl ⟨rfl, rfl, Nat.le_of_ble_eq_true rfl, Nat.le_of_ble_eq_true rfl⟩ (Nat.le_of_ble_eq_true rfl) dX1_fill_13 ⟨Nat.le_of_ble_eq_true rfl, Nat.le_of_ble_eq_true rfl⟩) hS (fun locs hS => ?_)
  refine b_xv0 (cx_X1_84 (rest := []) CX hl.1 (m_X1_need l (x := bI ((nI 1) ≤ b ∧ b ≤ (nI 5000))) hlt) rfl hS rfl ⟨rfl, rfl, Nat.le_of_ble_eq_true rfl, Nat.le_of_ble_eq_true rfl⟩ (Nat.le_of_ble_eq_true rfl) dX1_fill_16 ⟨Nat.le_of_ble_eq_true rfl, Nat.le_of_ble_eq_true rfl⟩) hS (fun E9 q9 Hx4 locs hx9 hS he9 => ?_) (fun hk_16 locs hS => ?_)
  · have hk_16 := bI_0.mp hx9.1
    rw [← hQ]
    have ho : o_fill (S, n, L, tn, t) (nI jx) b = f_no 2 (S, n, L, tn, t) := by
      unfold o_fill
      simp only [ejx]
      repeat (first | rw [if_pos (by first | assumption | exact ⟨by assumption, by assumption⟩ | (constructor <;> omega) | omega | exact fun q => absurd q (by assumption) | exact fun q => absurd q.1 (by assumption) | exact fun q => absurd q.2 (by assumption) | exact Int32.not_lt.mpr (by assumption) | exact Int32.not_le.mp (by assumption) | exact fun q => q.2 (by assumption) | exact fun q => absurd q.1 (by omega))] | rw [if_neg (by first | assumption | exact ⟨by assumption, by assumption⟩ | (constructor <;> omega) | omega | exact fun q => absurd q (by assumption) | exact fun q => absurd q.1 (by assumption) | exact fun q => absurd q.2 (by assumption) | exact Int32.not_lt.mpr (by assumption) | exact Int32.not_le.mp (by assumption) | exact fun q => q.2 (by assumption) | exact fun q => absurd q.1 (by omega))])
    exact b_xout htb hlk he9 hS (Nat.le_of_ble_eq_true rfl) (Nat.le_of_ble_eq_true rfl) ⟨hX.tr hx9.2.2, 2, by omega, by rw [ho]; rfl, by rw [ho]; rfl, hx9.2.1⟩
  have hk_16 := bI_n0.mp hk_16
  refine b_new CX in_X7 tyX7 tyX7_ok (ci := 14) rfl q1153 q1154 q105 (fs := [.null, .int (nI 0), .int (nI 0), .null]) (nofn_X7) hS (Nat.le_of_ble_eq_true rfl) (Nat.le_of_ble_eq_true rfl) dX1_fill_19 (fun q5 H5 hq hB hat hsz hE hS => ?_)
  have hc_X := hc_X.new (tb := 100) hE hq
  have hc_sv := hc_sv.new (tb := 100) hE hq
  have hsa := fun h9 => (hsa h9).new (tb := 100) hE hq
  have hc_tx := hc_tx.new (tb := 100) hE hq
  have hc_tb := hc_tb.new (tb := 100) hE hq
  have hc_tk := hc_tk.new (tb := 100) hE hq
  have hL := hL.new (tb := 100) hE hq
  have hV := hV.new (tb := 100) hE hq
  have fr_dd : H.size ≤ q5 := by rw [hq]; exact hF.1
  have hX := hX.tr hE
  have hA := hA.tr (b_Ag.new (t := 100) hq) hF.1
  have hF := hF.ext hE
  have hc_dd : b_tt G B0 ((upT τ q5 100)) H5 q5 100 (.inr (14, [.null, .int (nI 0), .int (nI 0), .null])) := b_tt.mk hat hB
  refine lv_dup hx hb dX1_fill_22 rfl ?_
  refine lv_aload_n hx hb dX1_fill_23 rfl (lv_at hl 0 rfl) ?_
  refine lv_iload_n hx hb dX1_fill_24 rfl (lv_at hl 1 rfl) ?_
  refine lv_iload_n hx hb dX1_fill_25 rfl (lv_at hl 2 rfl) ?_
  refine b_cv (cs_X1_156 (rest := [.ref q5]) CX hl.1 (m_X7_init l (a := q5) (ta := 100) (ax := (A 0)) (b := jx) (w_ := b) hc_dd) rfl hS rfl ⟨rfl, rfl, Nat.le_of_ble_eq_true rfl, Nat.le_of_ble_eq_true rfl⟩ (Nat.le_of_ble_eq_true rfl) dX1_fill_26 ⟨Nat.le_of_ble_eq_true rfl, Nat.le_of_ble_eq_true rfl⟩) hS (fun H6 locs hp hS => ?_)
  obtain ⟨hu, hx0⟩ := hp
  have hc_X := hc_X.up hu hc_dd.tag (by decide)
  have hc_sv := hc_sv.up hu hc_dd.tag (by decide)
  have hsa := fun h9 => (hsa h9).up hu hc_dd.tag (by omega)
  have hc_tx := hc_tx.up hu hc_dd.tag (by decide)
  have hc_tb := hc_tb.up hu hc_dd.tag (by decide)
  have hc_tk := hc_tk.up hu hc_dd.tag (by decide)
  have hL := hL.up hu hc_dd.tag (by omega)
  have hV := hV.up hu hc_dd.tag (fun k9 h1 h2 h3 => by omega)
  have hX := hX.up hu fr_dd
  have hF := hF.up hA hu hc_dd.tag (fun q9 => absurd q9 (Nat.not_lt.mpr fr_dd))
  have hc_dd : b_tt G B0 ((upT τ q5 100)) H6 q5 100 (.inr (14, [.ref ((A 0)), .int (nI jx), .int b, .ref ((A 0))])) := hx0
  have hXR : XR G B0 ((upT τ q5 100)) A H6 (S, n, L, tn, t) := ⟨d0, c0, ids, P0, F, M, E, Z, sm, rs, se, ml, hs, bt, tk9, hc_X, hc_sv, hsa, hse, hc_tx, hc_tb, hbt, hc_tk, hL, hZ, hW, hV, hd0, hdc, hn, htn, ht⟩
  refine b_xi (cx_X1_159_14 (rest := []) CX hl.1 (m_X6_done_14 l (da := q5) (b := jx) (w_ := b) hc_dd hlt hXR (by omega) (fun h9 => by have h7 := c_lt0 (h9); have ho : o_fill (S, n, L, tn, t) (nI jx) b = f_ok (p_full S jx b) (z_save (S, n, L, tn, t) ((s_fill S jx b))) := (by unfold o_fill; simp only [ejx]; repeat (first | rw [if_pos (by first | assumption | exact ⟨by assumption, by assumption⟩ | (constructor <;> omega) | omega | exact fun q => absurd q (by assumption) | exact fun q => absurd q.1 (by assumption) | exact fun q => absurd q.2 (by assumption) | exact Int32.not_lt.mpr (by assumption) | exact Int32.not_le.mp (by assumption) | exact fun q => q.2 (by assumption) | exact fun q => absurd q.1 (by omega))] | rw [if_neg (by first | assumption | exact ⟨by assumption, by assumption⟩ | (constructor <;> omega) | omega | exact fun q => absurd q (by assumption) | exact fun q => absurd q.1 (by assumption) | exact fun q => absurd q.2 (by assumption) | exact Int32.not_lt.mpr (by assumption) | exact Int32.not_le.mp (by assumption) | exact fun q => q.2 (by assumption) | exact fun q => absurd q.1 (by omega))])); have h8 := hW1; rw [ho] at h8; exact h8)) rfl hc_dd.at hS rfl ⟨rfl, rfl, Nat.le_of_ble_eq_true rfl, Nat.le_of_ble_eq_true rfl⟩ (Nat.le_of_ble_eq_true rfl) dX1_fill_29 ⟨Nat.le_of_ble_eq_true rfl, Nat.le_of_ble_eq_true rfl⟩) hS (fun E9 q9 Hx7 locs hx9 hS he9 => ?_) (fun r H7 locs hp hS => ?_)
  · have h7 := c_lt1 (hx9.1)
    rw [← hQ]
    have ho : o_fill (S, n, L, tn, t) (nI jx) b = f_no 3 (S, n, L, tn, t) := by
      unfold o_fill
      simp only [ejx]
      repeat (first | rw [if_pos (by first | assumption | exact ⟨by assumption, by assumption⟩ | (constructor <;> omega) | omega | exact fun q => absurd q (by assumption) | exact fun q => absurd q.1 (by assumption) | exact fun q => absurd q.2 (by assumption) | exact Int32.not_lt.mpr (by assumption) | exact Int32.not_le.mp (by assumption) | exact fun q => q.2 (by assumption) | exact fun q => absurd q.1 (by omega))] | rw [if_neg (by first | assumption | exact ⟨by assumption, by assumption⟩ | (constructor <;> omega) | omega | exact fun q => absurd q (by assumption) | exact fun q => absurd q.1 (by assumption) | exact fun q => absurd q.2 (by assumption) | exact Int32.not_lt.mpr (by assumption) | exact Int32.not_le.mp (by assumption) | exact fun q => q.2 (by assumption) | exact fun q => absurd q.1 (by omega))])
    exact b_xout htb hlk he9 hS (Nat.le_of_ble_eq_true rfl) (Nat.le_of_ble_eq_true rfl) ⟨hX.tr hx9.2.2, 3, by omega, by rw [ho]; rfl, by rw [ho]; rfl, hx9.2.1⟩
  obtain ⟨hk_29, rfl, τ7, hA9, hF9, hXR⟩ := hp
  have hc_dd := hc_dd.ca hF9 hA9 (show ¬ (100 < 10 ∨ 1000 ≤ 100) by omega)
  have hF0 := hF.tr hA hF9 (fun q9 hq9 x9 => by have x8 : τ q9 < 10 ∨ 1000 ≤ τ q9 := x9; show τ q9 < 200 ∨ 1000 ≤ τ q9; omega)
  have hA := hA.tr hA9 hF.1
  have hF := hF0
  have hXR : XR G B0 τ7 A H7 ((s_fill S jx b), (p_sn n), (p_L L S n), tn, t) := hXR
  have h7 := c_lt0 (hk_29)
  have ho : o_fill (S, n, L, tn, t) (nI jx) b = (nI 0, p_full S jx b, ((s_fill S jx b), (p_sn n), (p_L L S n), tn, t)) := by
    unfold o_fill
    simp only [ejx]
    repeat (first | rw [if_pos (by first | assumption | exact ⟨by assumption, by assumption⟩ | (constructor <;> omega) | omega | exact fun q => absurd q (by assumption) | exact fun q => absurd q.1 (by assumption) | exact fun q => absurd q.2 (by assumption) | exact Int32.not_lt.mpr (by assumption) | exact Int32.not_le.mp (by assumption) | exact fun q => q.2 (by assumption) | exact fun q => absurd q.1 (by omega))] | rw [if_neg (by first | assumption | exact ⟨by assumption, by assumption⟩ | (constructor <;> omega) | omega | exact fun q => absurd q (by assumption) | exact fun q => absurd q.1 (by assumption) | exact fun q => absurd q.2 (by assumption) | exact Int32.not_lt.mpr (by assumption) | exact Int32.not_le.mp (by assumption) | exact fun q => q.2 (by assumption) | exact fun q => absurd q.1 (by omega))])
    first | rfl | (unfold f_ok f_no z_save;  rfl)
  rw [← hQ]
  exact vx_ret (b_iret CX hr hlk hS (Nat.le_of_ble_eq_true rfl) (Nat.le_of_ble_eq_true rfl) dX1_fill_32 ((by unfold o_ok1; rw [ho]; exact ⟨rfl, rfl, _, hA, hF, hXR⟩)))
theorem cs_X1_187 {p : Program} {l : Launch} {e : Env} {R : Room} {s : State} {m : MethodId} {args : Array Value} {below : List Frame} {meth : Method} {c : Code} {H : Heap} {locs : List Loc} {cells slots : Nat} {cc : ByteArray} {pc nL a : Nat} {ls : Array Slot} {rest : List Value} {G : b_G} {B0 : Nat} (CX : b_Cx p s m args c cc nL RX1 G B0) (hls : ls.size = nL) {rm : Room} {mc ms : Nat} {As st0 : List Value} {Qc : Array Value → State → Outcome → State → Prop} (hM : Met l yX16_init (ws_ yX16_init cX16_init 4 (Option.none)) rm (b_Pc G B0 H (.ref a :: As)) Qc mc ms (b_A B0)) (hn : As.length = 3) (hS : va_S (b_A B0) s.heap H locs) (hst : st0 = As.reverse ++ .ref a :: rest) (hr : rm.cells = mc ∧ rm.slots = ms ∧ rm.frames + 1 ≤ R.frames ∧ 8 + (4 + 11) + rm.locals ≤ R.locals) (hw : (rest.map fun v => v.category).sum ≤ 8) (hdg : decode cc pc = .ok (.invokespecial 187, 3)) (hf : cells + mc ≤ R.cells ∧ slots + ms ≤ R.slots) : va_Run p l e R s m args below meth c H locs cells slots mc ms (F0 m pc ls st0) rest (Qc (Value.ref a :: As).toArray) (b_A B0) := va_runI CX.fix hM (cwI 3 CX.ts (lw_meth q1576) rfl hr.1 hr.2.1 (CX.ts _ q114) (CX.ts _ q1574) (CX.ts _ q1575) rfl (by decide +kernel) ⟨hr.2.2.1, hr.2.2.2⟩) ⟨b_blind G B0 H _, b_pre _ CX.K hS⟩ rfl hn hls hst (lv_room hw) hdg hf
theorem cx_X1_188_15 {p : Program} {l : Launch} {e : Env} {R : Room} {s : State} {m : MethodId} {args : Array Value} {below : List Frame} {meth : Method} {c : Code} {H : Heap} {locs : List Loc} {cells slots : Nat} {cc : ByteArray} {pc nL a : Nat} {ls : Array Slot} {rest : List Value} {G : b_G} {B0 : Nat} (CX : b_Cx p s m args c cc nL RX1 G B0) (hls : ls.size = nL) {rm : Room} {mc ms : Nat} {As st0 : List Value} {Qc : Array Value → State → Outcome → State → Prop} {XC : String → Addr → State → State → Prop} (hM : vx_Met l yX6_done (ws_ yX6_done cX6_done 1 (Option.some Jvm.ClassFile.FieldType.int)) rm (b_Pc G B0 H (.ref a :: As)) Qc XC mc ms (b_A B0)) (hn : As.length = 0) {fs : List Value} (hP : b_at G a (.inr (15, fs)) H) (hS : va_S (b_A B0) s.heap H locs) (hst : st0 = As.reverse ++ .ref a :: rest) (hr : rm.cells = mc ∧ rm.slots = ms ∧ rm.frames + 1 ≤ R.frames ∧ 8 + (1 + 11) + rm.locals ≤ R.locals) (hw : (rest.map fun v => v.category).sum ≤ 8) (hdg : decode cc pc = .ok (.invokevirtual 188, 3)) (hf : cells + mc ≤ R.cells ∧ slots + ms ≤ R.slots) : vx_Run p l e R s m args below meth c H locs cells slots mc ms (F0 m pc ls st0) rest (Qc (Value.ref a :: As).toArray) XC (b_A B0) := vx_runU CX.fix hM (va_cwU (C := RX16) (owner := RX6) 0 CX.ts (lw_U q1589 q1590 q1591 q1179 q104 q1180) rfl hr.1 hr.2.1 rfl ⟨by decide, by decide, by decide +kernel⟩ ⟨hr.2.2.1, hr.2.2.2⟩) ⟨b_blind G B0 H _, b_recv CX.K (ci := 15) rfl hP, b_pre _ CX.K hS⟩ rfl hn hls hst (lv_room hw) hdg hf
set_option maxHeartbeats 2000000 in
set_option maxRecDepth 100000 in
theorem m_X1_lose (l : Launch) {G : b_G} {B0 : Nat} {H : Heap} {τ : b_T} {A : Nat → Nat} {S : b_St} {n : Nat} {L : Nat → b_St} {tn : Nat} {t : Nat → Nat} {x : Int32} {b : Int32} (hlt : l.stackTraces = false) (hXR : XR G B0 τ A H (S, n, L, tn, t)) (hW1 : b_WF (o_lose (S, n, L, tn, t) x b).2.2.1) : vx_Met l yX1_lose (ws_ yX1_lose cX1_lose 3 (Option.some Jvm.ClassFile.FieldType.int)) ({ frames := 10, cells := 59, slots := 492, locals := 211 } : Room) (b_Pc G B0 H [.ref ((A 0)), .int x, .int b]) (b_Qi B0 (fun r H1 => o_ok1 G B0 τ A H (o_lose (S, n, L, tn, t) x b) r H1)) (b_X B0 (fun E9 q9 H9 => o_px H (S, n, L, tn, t) (o_lose (S, n, L, tn, t) x b) cl_A E9 H9)) 59 492 (b_A B0) := by
  refine b_ofX (by decide) (Nat.le_of_ble_eq_true rfl) ?_
  intro p e s m below meth c CX hr hlk htb hS ls hl
  have CX : b_Cx p s m _ c cX1_lose 3 RX1 G B0 := CX
  have hx := CX.hx
  have hb := CX.hb
  have hl : lv_has ls 3 [(0, .ref ((A 0))), (1, .int x), (2, .int b)] := hl
  generalize hQ : vx_MQ below (b_Qi B0 (fun r H1 => o_ok1 G B0 τ A H (o_lose (S, n, L, tn, t) x b) r H1)) (b_X B0 (fun E9 q9 H9 => o_px H (S, n, L, tn, t) (o_lose (S, n, L, tn, t) x b) cl_A E9 H9)) ([.ref ((A 0)), .int x, .int b] : List Value).toArray s 59 492 (b_A B0) = Q
  have hF : b_Fr τ (fun t => t < 200 ∨ 1000 ≤ t) H H := b_Fr.rf
  have hA : b_Ag τ τ H := b_Ag.rf
  have hX : b_Ext H H := b_Ext.rf
  obtain ⟨d0, c0, ids, P0, F, M, E, Z, sm, rs, se, ml, hs, bt, tk9, hc_X, hc_sv, hsa, hse, hc_tx, hc_tb, hbt, hc_tk, hL, hZ, hW, hV, hd0, hdc, hn, htn, ht⟩ := hXR
  have hc_X : b_tt G B0 τ H ((A 0)) 0 (.inr (0, [.ref ((F 0)), .ref ((A 1)), .ref ((A 3)), .ref ((A 5)), .long hs])) := hc_X
  have hc_sv : b_tt G B0 τ H ((A 1)) 1 (.inr (2, [.int sm, .ref ((if se = true then rs else G.2.2 0)), .int (nI n)])) := hc_sv
  have hsa : (se = true → b_tt G B0 τ H rs 2 (.inl (G.2.1 2, q_refs 10 (fun j => if j < n then some (P0 j) else none)))) := hsa
  have hc_tx : b_tt G B0 τ H ((A 3)) 3 (.inr (3, [.ref ((A 4)), .int (nI 0), .int ml, .int (nI tn)])) := hc_tx
  have hc_tb : b_tt G B0 τ H ((A 4)) 4 (.inl (G.2.1 1, 60, .inl bt)) := hc_tb
  have hc_tk : b_tt G B0 τ H ((A 5)) 5 (.inl (G.2.1 0, 8, .inl tk9)) := hc_tk
  have hL : LR G B0 τ d0 F M E H S Z := hL
  have hV : SV G B0 τ d0 c0 n ids P0 H L := hV
  have hn8 := hL.2.2.2.1
  have hn6 := hL.2.2.2.2
  have hnb : nb S = nb S := rfl
  have hns : ns S = ns S := rfl
  have hn : n ≤ 6 := hn
  have htn : tn ≤ 60 := htn
  have ht : ∀ j, t j < 128 := ht
  have hse : se = true ∨ n = 0 := hse
  have hZ : pZ Z S := hZ
  have hW : b_WF S := hW
  have hbt : ∀ j, j < tn → bt j = nI (t j) := hbt
  refine lv_aload_n hx hb dX1_lose_0 rfl (lv_at hl 0 rfl) ?_
  refine lv_iload_n hx hb dX1_lose_1 rfl (lv_at hl 1 rfl) ?_
  refine b_ci0 (cs_X1_151 (rest := []) CX hl.1 (m_X1_isBrand l (a := (A 0)) (asv := (A 1)) (atx := (A 3)) (atk := (A 5)) (hs := hs) (x := x) hc_X hL hW) rfl rfl rfl hc_X.at hS rfl ⟨rfl, rfl, Nat.le_of_ble_eq_true rfl, Nat.le_of_ble_eq_true rfl⟩ (Nat.le_of_ble_eq_true rfl) dX1_lose_2 ⟨Nat.le_of_ble_eq_true rfl, Nat.le_of_ble_eq_true rfl⟩) hS (fun locs hS => ?_)
  refine b_xv0 (cx_X1_119 (rest := []) CX hl.1 (m_X1_needIndex l (x := bI (nI 0 ≤ x ∧ x ≤ nI (nb S) - nI 1)) hlt) rfl hS rfl ⟨rfl, rfl, Nat.le_of_ble_eq_true rfl, Nat.le_of_ble_eq_true rfl⟩ (Nat.le_of_ble_eq_true rfl) dX1_lose_5 ⟨Nat.le_of_ble_eq_true rfl, Nat.le_of_ble_eq_true rfl⟩) hS (fun E9 q9 Hx2 locs hx9 hS he9 => ?_) (fun hk_5 locs hS => ?_)
  · have hk_5 := bI_0.mp hx9.1
    rw [← hQ]
    have ho : o_lose (S, n, L, tn, t) x b = f_no 1 (S, n, L, tn, t) := by
      unfold o_lose
      try dsimp only
      repeat (first | rw [if_pos (by first | assumption | exact ⟨by assumption, by assumption⟩ | (constructor <;> omega) | omega | exact fun q => absurd q (by assumption) | exact fun q => absurd q.1 (by assumption) | exact fun q => absurd q.2 (by assumption) | exact Int32.not_lt.mpr (by assumption) | exact Int32.not_le.mp (by assumption) | exact fun q => q.2 (by assumption) | exact fun q => absurd q.1 (by omega))] | rw [if_neg (by first | assumption | exact ⟨by assumption, by assumption⟩ | (constructor <;> omega) | omega | exact fun q => absurd q (by assumption) | exact fun q => absurd q.1 (by assumption) | exact fun q => absurd q.2 (by assumption) | exact Int32.not_lt.mpr (by assumption) | exact Int32.not_le.mp (by assumption) | exact fun q => q.2 (by assumption) | exact fun q => absurd q.1 (by omega))])
    exact b_xout htb hlk he9 hS (Nat.le_of_ble_eq_true rfl) (Nat.le_of_ble_eq_true rfl) ⟨hX.tr hx9.2.2, 1, by omega, by rw [ho]; rfl, by rw [ho]; rfl, hx9.2.1⟩
  have hk_5 := bI_n0.mp hk_5
  obtain ⟨jx, hjx, rfl⟩ := isB_lt hW hk_5
  have ejx : ix (nI jx) = jx := ix_n (by omega)
  refine lv_iload_n hx hb dX1_lose_8 rfl (lv_at hl 2 rfl) ?_
  refine lv_iconst (v := nI 1) hx hb dX1_lose_9 rfl ?_
  refine lv_sipush (v := nI 5000) hx hb dX1_lose_10 rfl ?_
  refine b_ci0 (cs_X1_73 (rest := []) CX hl.1 (m_X1_in l (x := b) (lo := nI 1) (hi := nI 5000) ) rfl hS rfl ⟨rfl, rfl, Nat.le_of_ble_eq_true rfl, Nat.le_of_ble_eq_true rfl⟩ (Nat.le_of_ble_eq_true rfl) dX1_lose_13 ⟨Nat.le_of_ble_eq_true rfl, Nat.le_of_ble_eq_true rfl⟩) hS (fun locs hS => ?_)
  refine b_xv0 (cx_X1_84 (rest := []) CX hl.1 (m_X1_need l (x := bI ((nI 1) ≤ b ∧ b ≤ (nI 5000))) hlt) rfl hS rfl ⟨rfl, rfl, Nat.le_of_ble_eq_true rfl, Nat.le_of_ble_eq_true rfl⟩ (Nat.le_of_ble_eq_true rfl) dX1_lose_16 ⟨Nat.le_of_ble_eq_true rfl, Nat.le_of_ble_eq_true rfl⟩) hS (fun E9 q9 Hx4 locs hx9 hS he9 => ?_) (fun hk_16 locs hS => ?_)
  · have hk_16 := bI_0.mp hx9.1
    rw [← hQ]
    have ho : o_lose (S, n, L, tn, t) (nI jx) b = f_no 2 (S, n, L, tn, t) := by
      unfold o_lose
      simp only [ejx]
      repeat (first | rw [if_pos (by first | assumption | exact ⟨by assumption, by assumption⟩ | (constructor <;> omega) | omega | exact fun q => absurd q (by assumption) | exact fun q => absurd q.1 (by assumption) | exact fun q => absurd q.2 (by assumption) | exact Int32.not_lt.mpr (by assumption) | exact Int32.not_le.mp (by assumption) | exact fun q => q.2 (by assumption) | exact fun q => absurd q.1 (by omega))] | rw [if_neg (by first | assumption | exact ⟨by assumption, by assumption⟩ | (constructor <;> omega) | omega | exact fun q => absurd q (by assumption) | exact fun q => absurd q.1 (by assumption) | exact fun q => absurd q.2 (by assumption) | exact Int32.not_lt.mpr (by assumption) | exact Int32.not_le.mp (by assumption) | exact fun q => q.2 (by assumption) | exact fun q => absurd q.1 (by omega))])
    exact b_xout htb hlk he9 hS (Nat.le_of_ble_eq_true rfl) (Nat.le_of_ble_eq_true rfl) ⟨hX.tr hx9.2.2, 2, by omega, by rw [ho]; rfl, by rw [ho]; rfl, hx9.2.1⟩
  have hk_16 := bI_n0.mp hk_16
  refine b_new CX in_X16 tyX16 tyX16_ok (ci := 15) rfl q1572 q1573 q114 (fs := [.null, .int (nI 0), .int (nI 0), .null]) (nofn_X16) hS (Nat.le_of_ble_eq_true rfl) (Nat.le_of_ble_eq_true rfl) dX1_lose_19 (fun q5 H5 hq hB hat hsz hE hS => ?_)
  have hc_X := hc_X.new (tb := 100) hE hq
  have hc_sv := hc_sv.new (tb := 100) hE hq
  have hsa := fun h9 => (hsa h9).new (tb := 100) hE hq
  have hc_tx := hc_tx.new (tb := 100) hE hq
  have hc_tb := hc_tb.new (tb := 100) hE hq
  have hc_tk := hc_tk.new (tb := 100) hE hq
  have hL := hL.new (tb := 100) hE hq
  have hV := hV.new (tb := 100) hE hq
  have fr_dd : H.size ≤ q5 := by rw [hq]; exact hF.1
  have hX := hX.tr hE
  have hA := hA.tr (b_Ag.new (t := 100) hq) hF.1
  have hF := hF.ext hE
  have hc_dd : b_tt G B0 ((upT τ q5 100)) H5 q5 100 (.inr (15, [.null, .int (nI 0), .int (nI 0), .null])) := b_tt.mk hat hB
  refine lv_dup hx hb dX1_lose_22 rfl ?_
  refine lv_aload_n hx hb dX1_lose_23 rfl (lv_at hl 0 rfl) ?_
  refine lv_iload_n hx hb dX1_lose_24 rfl (lv_at hl 1 rfl) ?_
  refine lv_iload_n hx hb dX1_lose_25 rfl (lv_at hl 2 rfl) ?_
  refine b_cv (cs_X1_187 (rest := [.ref q5]) CX hl.1 (m_X16_init l (a := q5) (ta := 100) (ax := (A 0)) (b := jx) (w_ := b) hc_dd) rfl hS rfl ⟨rfl, rfl, Nat.le_of_ble_eq_true rfl, Nat.le_of_ble_eq_true rfl⟩ (Nat.le_of_ble_eq_true rfl) dX1_lose_26 ⟨Nat.le_of_ble_eq_true rfl, Nat.le_of_ble_eq_true rfl⟩) hS (fun H6 locs hp hS => ?_)
  obtain ⟨hu, hx0⟩ := hp
  have hc_X := hc_X.up hu hc_dd.tag (by decide)
  have hc_sv := hc_sv.up hu hc_dd.tag (by decide)
  have hsa := fun h9 => (hsa h9).up hu hc_dd.tag (by omega)
  have hc_tx := hc_tx.up hu hc_dd.tag (by decide)
  have hc_tb := hc_tb.up hu hc_dd.tag (by decide)
  have hc_tk := hc_tk.up hu hc_dd.tag (by decide)
  have hL := hL.up hu hc_dd.tag (by omega)
  have hV := hV.up hu hc_dd.tag (fun k9 h1 h2 h3 => by omega)
  have hX := hX.up hu fr_dd
  have hF := hF.up hA hu hc_dd.tag (fun q9 => absurd q9 (Nat.not_lt.mpr fr_dd))
  have hc_dd : b_tt G B0 ((upT τ q5 100)) H6 q5 100 (.inr (15, [.ref ((A 0)), .int (nI jx), .int b, .ref ((A 0))])) := hx0
  have hXR : XR G B0 ((upT τ q5 100)) A H6 (S, n, L, tn, t) := ⟨d0, c0, ids, P0, F, M, E, Z, sm, rs, se, ml, hs, bt, tk9, hc_X, hc_sv, hsa, hse, hc_tx, hc_tb, hbt, hc_tk, hL, hZ, hW, hV, hd0, hdc, hn, htn, ht⟩
  refine b_xi (cx_X1_188_15 (rest := []) CX hl.1 (m_X6_done_15 l (da := q5) (b := jx) (w_ := b) hc_dd hlt hXR (by omega) (fun h9 => by have h7 := c_lt0 (h9); have ho : o_lose (S, n, L, tn, t) (nI jx) b = f_ok (S 1 jx 3 - b) (z_save (S, n, L, tn, t) ((s_lose S jx b))) := (by unfold o_lose; simp only [ejx]; repeat (first | rw [if_pos (by first | assumption | exact ⟨by assumption, by assumption⟩ | (constructor <;> omega) | omega | exact fun q => absurd q (by assumption) | exact fun q => absurd q.1 (by assumption) | exact fun q => absurd q.2 (by assumption) | exact Int32.not_lt.mpr (by assumption) | exact Int32.not_le.mp (by assumption) | exact fun q => q.2 (by assumption) | exact fun q => absurd q.1 (by omega))] | rw [if_neg (by first | assumption | exact ⟨by assumption, by assumption⟩ | (constructor <;> omega) | omega | exact fun q => absurd q (by assumption) | exact fun q => absurd q.1 (by assumption) | exact fun q => absurd q.2 (by assumption) | exact Int32.not_lt.mpr (by assumption) | exact Int32.not_le.mp (by assumption) | exact fun q => q.2 (by assumption) | exact fun q => absurd q.1 (by omega))])); have h8 := hW1; rw [ho] at h8; exact h8)) rfl hc_dd.at hS rfl ⟨rfl, rfl, Nat.le_of_ble_eq_true rfl, Nat.le_of_ble_eq_true rfl⟩ (Nat.le_of_ble_eq_true rfl) dX1_lose_29 ⟨Nat.le_of_ble_eq_true rfl, Nat.le_of_ble_eq_true rfl⟩) hS (fun E9 q9 Hx7 locs hx9 hS he9 => ?_) (fun r H7 locs hp hS => ?_)
  · have h7 := c_lt1 (hx9.1)
    rw [← hQ]
    have ho : o_lose (S, n, L, tn, t) (nI jx) b = f_no 3 (S, n, L, tn, t) := by
      unfold o_lose
      simp only [ejx]
      repeat (first | rw [if_pos (by first | assumption | exact ⟨by assumption, by assumption⟩ | (constructor <;> omega) | omega | exact fun q => absurd q (by assumption) | exact fun q => absurd q.1 (by assumption) | exact fun q => absurd q.2 (by assumption) | exact Int32.not_lt.mpr (by assumption) | exact Int32.not_le.mp (by assumption) | exact fun q => q.2 (by assumption) | exact fun q => absurd q.1 (by omega))] | rw [if_neg (by first | assumption | exact ⟨by assumption, by assumption⟩ | (constructor <;> omega) | omega | exact fun q => absurd q (by assumption) | exact fun q => absurd q.1 (by assumption) | exact fun q => absurd q.2 (by assumption) | exact Int32.not_lt.mpr (by assumption) | exact Int32.not_le.mp (by assumption) | exact fun q => q.2 (by assumption) | exact fun q => absurd q.1 (by omega))])
    exact b_xout htb hlk he9 hS (Nat.le_of_ble_eq_true rfl) (Nat.le_of_ble_eq_true rfl) ⟨hX.tr hx9.2.2, 3, by omega, by rw [ho]; rfl, by rw [ho]; rfl, hx9.2.1⟩
  obtain ⟨hk_29, rfl, τ7, hA9, hF9, hXR⟩ := hp
  have hc_dd := hc_dd.ca hF9 hA9 (show ¬ (100 < 10 ∨ 1000 ≤ 100) by omega)
  have hF0 := hF.tr hA hF9 (fun q9 hq9 x9 => by have x8 : τ q9 < 10 ∨ 1000 ≤ τ q9 := x9; show τ q9 < 200 ∨ 1000 ≤ τ q9; omega)
  have hA := hA.tr hA9 hF.1
  have hF := hF0
  have hXR : XR G B0 τ7 A H7 ((s_lose S jx b), (p_sn n), (p_L L S n), tn, t) := hXR
  have h7 := c_lt0 (hk_29)
  have ho : o_lose (S, n, L, tn, t) (nI jx) b = (nI 0, S 1 jx 3 - b, ((s_lose S jx b), (p_sn n), (p_L L S n), tn, t)) := by
    unfold o_lose
    simp only [ejx]
    repeat (first | rw [if_pos (by first | assumption | exact ⟨by assumption, by assumption⟩ | (constructor <;> omega) | omega | exact fun q => absurd q (by assumption) | exact fun q => absurd q.1 (by assumption) | exact fun q => absurd q.2 (by assumption) | exact Int32.not_lt.mpr (by assumption) | exact Int32.not_le.mp (by assumption) | exact fun q => q.2 (by assumption) | exact fun q => absurd q.1 (by omega))] | rw [if_neg (by first | assumption | exact ⟨by assumption, by assumption⟩ | (constructor <;> omega) | omega | exact fun q => absurd q (by assumption) | exact fun q => absurd q.1 (by assumption) | exact fun q => absurd q.2 (by assumption) | exact Int32.not_lt.mpr (by assumption) | exact Int32.not_le.mp (by assumption) | exact fun q => q.2 (by assumption) | exact fun q => absurd q.1 (by omega))])
    first | rfl | (unfold f_ok f_no z_save;  rfl)
  rw [← hQ]
  exact vx_ret (b_iret CX hr hlk hS (Nat.le_of_ble_eq_true rfl) (Nat.le_of_ble_eq_true rfl) dX1_lose_32 ((by unfold o_ok1; rw [ho]; exact ⟨rfl, rfl, _, hA, hF, hXR⟩)))
theorem cx_X1_169_9 {p : Program} {l : Launch} {e : Env} {R : Room} {s : State} {m : MethodId} {args : Array Value} {below : List Frame} {meth : Method} {c : Code} {H : Heap} {locs : List Loc} {cells slots : Nat} {cc : ByteArray} {pc nL a : Nat} {ls : Array Slot} {rest : List Value} {G : b_G} {B0 : Nat} (CX : b_Cx p s m args c cc nL RX1 G B0) (hls : ls.size = nL) {rm : Room} {mc ms : Nat} {As st0 : List Value} {Qc : Array Value → State → Outcome → State → Prop} {XC : String → Addr → State → State → Prop} (hM : vx_Met l yX6_done (ws_ yX6_done cX6_done 1 (Option.some Jvm.ClassFile.FieldType.int)) rm (b_Pc G B0 H (.ref a :: As)) Qc XC mc ms (b_A B0)) (hn : As.length = 0) {fs : List Value} (hP : b_at G a (.inr (9, fs)) H) (hS : va_S (b_A B0) s.heap H locs) (hst : st0 = As.reverse ++ .ref a :: rest) (hr : rm.cells = mc ∧ rm.slots = ms ∧ rm.frames + 1 ≤ R.frames ∧ 8 + (1 + 11) + rm.locals ≤ R.locals) (hw : (rest.map fun v => v.category).sum ≤ 8) (hdg : decode cc pc = .ok (.invokevirtual 169, 3)) (hf : cells + mc ≤ R.cells ∧ slots + ms ≤ R.slots) : vx_Run p l e R s m args below meth c H locs cells slots mc ms (F0 m pc ls st0) rest (Qc (Value.ref a :: As).toArray) XC (b_A B0) := vx_runU CX.fix hM (va_cwU (C := RX12) (owner := RX6) 0 CX.ts (lw_U q1467 q2213 q2214 q1179 q104 q1180) rfl hr.1 hr.2.1 rfl ⟨by decide, by decide, by decide +kernel⟩ ⟨hr.2.2.1, hr.2.2.2⟩) ⟨b_blind G B0 H _, b_recv CX.K (ci := 9) rfl hP, b_pre _ CX.K hS⟩ rfl hn hls hst (lv_room hw) hdg hf
set_option maxHeartbeats 2000000 in
set_option maxRecDepth 100000 in
theorem m_X1_deliver (l : Launch) {G : b_G} {B0 : Nat} {H : Heap} {τ : b_T} {A : Nat → Nat} {S : b_St} {n : Nat} {L : Nat → b_St} {tn : Nat} {t : Nat → Nat} {x : Int32} {y : Int32} {c_ : Int32} (hlt : l.stackTraces = false) (hXR : XR G B0 τ A H (S, n, L, tn, t)) (hW1 : b_WF (o_deliver (S, n, L, tn, t) x y c_).2.2.1) : vx_Met l yX1_deliver (ws_ yX1_deliver cX1_deliver 4 (Option.some Jvm.ClassFile.FieldType.int)) ({ frames := 10, cells := 61, slots := 504, locals := 213 } : Room) (b_Pc G B0 H [.ref ((A 0)), .int x, .int y, .int c_]) (b_Qi B0 (fun r H1 => o_ok1 G B0 τ A H (o_deliver (S, n, L, tn, t) x y c_) r H1)) (b_X B0 (fun E9 q9 H9 => o_px H (S, n, L, tn, t) (o_deliver (S, n, L, tn, t) x y c_) cl_A E9 H9)) 61 504 (b_A B0) := by
  refine b_ofX (by decide) (Nat.le_of_ble_eq_true rfl) ?_
  intro p e s m below meth c CX hr hlk htb hS ls hl
  have CX : b_Cx p s m _ c cX1_deliver 4 RX1 G B0 := CX
  have hx := CX.hx
  have hb := CX.hb
  have hl : lv_has ls 4 [(0, .ref ((A 0))), (1, .int x), (2, .int y), (3, .int c_)] := hl
  generalize hQ : vx_MQ below (b_Qi B0 (fun r H1 => o_ok1 G B0 τ A H (o_deliver (S, n, L, tn, t) x y c_) r H1)) (b_X B0 (fun E9 q9 H9 => o_px H (S, n, L, tn, t) (o_deliver (S, n, L, tn, t) x y c_) cl_A E9 H9)) ([.ref ((A 0)), .int x, .int y, .int c_] : List Value).toArray s 61 504 (b_A B0) = Q
  have hF : b_Fr τ (fun t => t < 200 ∨ 1000 ≤ t) H H := b_Fr.rf
  have hA : b_Ag τ τ H := b_Ag.rf
  have hX : b_Ext H H := b_Ext.rf
  obtain ⟨d0, c0, ids, P0, F, M, E, Z, sm, rs, se, ml, hs, bt, tk9, hc_X, hc_sv, hsa, hse, hc_tx, hc_tb, hbt, hc_tk, hL, hZ, hW, hV, hd0, hdc, hn, htn, ht⟩ := hXR
  have hc_X : b_tt G B0 τ H ((A 0)) 0 (.inr (0, [.ref ((F 0)), .ref ((A 1)), .ref ((A 3)), .ref ((A 5)), .long hs])) := hc_X
  have hc_sv : b_tt G B0 τ H ((A 1)) 1 (.inr (2, [.int sm, .ref ((if se = true then rs else G.2.2 0)), .int (nI n)])) := hc_sv
  have hsa : (se = true → b_tt G B0 τ H rs 2 (.inl (G.2.1 2, q_refs 10 (fun j => if j < n then some (P0 j) else none)))) := hsa
  have hc_tx : b_tt G B0 τ H ((A 3)) 3 (.inr (3, [.ref ((A 4)), .int (nI 0), .int ml, .int (nI tn)])) := hc_tx
  have hc_tb : b_tt G B0 τ H ((A 4)) 4 (.inl (G.2.1 1, 60, .inl bt)) := hc_tb
  have hc_tk : b_tt G B0 τ H ((A 5)) 5 (.inl (G.2.1 0, 8, .inl tk9)) := hc_tk
  have hL : LR G B0 τ d0 F M E H S Z := hL
  have hV : SV G B0 τ d0 c0 n ids P0 H L := hV
  have hn8 := hL.2.2.2.1
  have hn6 := hL.2.2.2.2
  have hnb : nb S = nb S := rfl
  have hns : ns S = ns S := rfl
  have hn : n ≤ 6 := hn
  have htn : tn ≤ 60 := htn
  have ht : ∀ j, t j < 128 := ht
  have hse : se = true ∨ n = 0 := hse
  have hZ : pZ Z S := hZ
  have hW : b_WF S := hW
  have hbt : ∀ j, j < tn → bt j = nI (t j) := hbt
  refine lv_aload_n hx hb dX1_deliver_0 rfl (lv_at hl 0 rfl) ?_
  refine lv_iload_n hx hb dX1_deliver_1 rfl (lv_at hl 1 rfl) ?_
  refine b_ci0 (cs_X1_151 (rest := []) CX hl.1 (m_X1_isBrand l (a := (A 0)) (asv := (A 1)) (atx := (A 3)) (atk := (A 5)) (hs := hs) (x := x) hc_X hL hW) rfl rfl rfl hc_X.at hS rfl ⟨rfl, rfl, Nat.le_of_ble_eq_true rfl, Nat.le_of_ble_eq_true rfl⟩ (Nat.le_of_ble_eq_true rfl) dX1_deliver_2 ⟨Nat.le_of_ble_eq_true rfl, Nat.le_of_ble_eq_true rfl⟩) hS (fun locs hS => ?_)
  refine b_ifeq (tgt := 20) CX dX1_deliver_5 (by decide) (fun c_5 => ?_) (fun c_5 => ?_)
  · refine lv_iconst (v := nI 0) hx hb dX1_deliver_20 rfl ?_
    refine b_xv0 (cx_X1_119 (rest := []) CX hl.1 (m_X1_needIndex l (x := nI 0) hlt) rfl hS rfl ⟨rfl, rfl, Nat.le_of_ble_eq_true rfl, Nat.le_of_ble_eq_true rfl⟩ (Nat.le_of_ble_eq_true rfl) dX1_deliver_21 ⟨Nat.le_of_ble_eq_true rfl, Nat.le_of_ble_eq_true rfl⟩) hS (fun E9 q9 Hx2 locs hx9 hS he9 => ?_) (fun hk_21 locs hS => ?_)
    · rw [← hQ]
      have ho : o_deliver (S, n, L, tn, t) x y c_ = f_no 1 (S, n, L, tn, t) := by
        unfold o_deliver
        try dsimp only
        repeat (first | rw [if_pos (by first | assumption | exact ⟨by assumption, by assumption⟩ | (constructor <;> omega) | omega | exact fun q => absurd q (by assumption) | exact fun q => absurd q.1 (by assumption) | exact fun q => absurd q.2 (by assumption) | exact Int32.not_lt.mpr (by assumption) | exact Int32.not_le.mp (by assumption) | exact fun q => q.2 (by assumption) | exact fun q => absurd q.1 (by omega))] | rw [if_neg (by first | assumption | exact ⟨by assumption, by assumption⟩ | (constructor <;> omega) | omega | exact fun q => absurd q (by assumption) | exact fun q => absurd q.1 (by assumption) | exact fun q => absurd q.2 (by assumption) | exact Int32.not_lt.mpr (by assumption) | exact Int32.not_le.mp (by assumption) | exact fun q => q.2 (by assumption) | exact fun q => absurd q.1 (by omega))])
      exact b_xout htb hlk he9 hS (Nat.le_of_ble_eq_true rfl) (Nat.le_of_ble_eq_true rfl) ⟨hX.tr hx9.2.2, 1, by omega, by rw [ho]; rfl, by rw [ho]; rfl, hx9.2.1⟩
    exact absurd (by decide) hk_21
  · refine lv_aload_n hx hb dX1_deliver_8 rfl (lv_at hl 0 rfl) ?_
    refine lv_iload_n hx hb dX1_deliver_9 rfl (lv_at hl 2 rfl) ?_
    refine b_ci0 (cs_X1_162 (rest := []) CX hl.1 (m_X1_isShop l (a := (A 0)) (asv := (A 1)) (atx := (A 3)) (atk := (A 5)) (hs := hs) (x := y) hc_X hL hW) rfl rfl rfl hc_X.at hS rfl ⟨rfl, rfl, Nat.le_of_ble_eq_true rfl, Nat.le_of_ble_eq_true rfl⟩ (Nat.le_of_ble_eq_true rfl) dX1_deliver_10 ⟨Nat.le_of_ble_eq_true rfl, Nat.le_of_ble_eq_true rfl⟩) hS (fun locs hS => ?_)
    refine b_ifeq (tgt := 20) CX dX1_deliver_13 (by decide) (fun c_13 => ?_) (fun c_13 => ?_)
    · refine lv_iconst (v := nI 0) hx hb dX1_deliver_20 rfl ?_
      refine b_xv0 (cx_X1_119 (rest := []) CX hl.1 (m_X1_needIndex l (x := nI 0) hlt) rfl hS rfl ⟨rfl, rfl, Nat.le_of_ble_eq_true rfl, Nat.le_of_ble_eq_true rfl⟩ (Nat.le_of_ble_eq_true rfl) dX1_deliver_21 ⟨Nat.le_of_ble_eq_true rfl, Nat.le_of_ble_eq_true rfl⟩) hS (fun E9 q9 Hx4 locs hx9 hS he9 => ?_) (fun hk_21 locs hS => ?_)
      · rw [← hQ]
        have ho : o_deliver (S, n, L, tn, t) x y c_ = f_no 1 (S, n, L, tn, t) := by
          unfold o_deliver
          try dsimp only
          repeat (first | rw [if_pos (by first | assumption | exact ⟨by assumption, by assumption⟩ | (constructor <;> omega) | omega | exact fun q => absurd q (by assumption) | exact fun q => absurd q.1 (by assumption) | exact fun q => absurd q.2 (by assumption) | exact Int32.not_lt.mpr (by assumption) | exact Int32.not_le.mp (by assumption) | exact fun q => q.2 (by assumption) | exact fun q => absurd q.1 (by omega))] | rw [if_neg (by first | assumption | exact ⟨by assumption, by assumption⟩ | (constructor <;> omega) | omega | exact fun q => absurd q (by assumption) | exact fun q => absurd q.1 (by assumption) | exact fun q => absurd q.2 (by assumption) | exact Int32.not_lt.mpr (by assumption) | exact Int32.not_le.mp (by assumption) | exact fun q => q.2 (by assumption) | exact fun q => absurd q.1 (by omega))])
        exact b_xout htb hlk he9 hS (Nat.le_of_ble_eq_true rfl) (Nat.le_of_ble_eq_true rfl) ⟨hX.tr hx9.2.2, 1, by omega, by rw [ho]; rfl, by rw [ho]; rfl, hx9.2.1⟩
      exact absurd (by decide) hk_21
    · obtain ⟨jx, hjx, rfl⟩ := isB_lt hW c_5
      have ejx : ix (nI jx) = jx := ix_n (by omega)
      obtain ⟨jy, hjy, rfl⟩ := isS_lt hW c_13
      have ejy : ix (nI jy) = jy := ix_n (by omega)
      refine lv_iconst (v := nI 1) hx hb dX1_deliver_16 rfl ?_
      refine lv_goto (tgt := 21) hx hb dX1_deliver_17 (by decide) ?_
      refine b_xv0 (cx_X1_119 (rest := []) CX hl.1 (m_X1_needIndex l (x := nI 1) hlt) rfl hS rfl ⟨rfl, rfl, Nat.le_of_ble_eq_true rfl, Nat.le_of_ble_eq_true rfl⟩ (Nat.le_of_ble_eq_true rfl) dX1_deliver_21 ⟨Nat.le_of_ble_eq_true rfl, Nat.le_of_ble_eq_true rfl⟩) hS (fun E9 q9 Hx5 locs hx9 hS he9 => ?_) (fun hk_21 locs hS => ?_)
      · exact absurd hx9.1 (by decide)
      refine lv_iload_n hx hb dX1_deliver_24 rfl (lv_at hl 3 rfl) ?_
      refine lv_iconst (v := nI 1) hx hb dX1_deliver_25 rfl ?_
      refine lv_bipush (v := nI 50) hx hb dX1_deliver_26 rfl ?_
      refine b_ci0 (cs_X1_73 (rest := []) CX hl.1 (m_X1_in l (x := c_) (lo := nI 1) (hi := nI 50) ) rfl hS rfl ⟨rfl, rfl, Nat.le_of_ble_eq_true rfl, Nat.le_of_ble_eq_true rfl⟩ (Nat.le_of_ble_eq_true rfl) dX1_deliver_28 ⟨Nat.le_of_ble_eq_true rfl, Nat.le_of_ble_eq_true rfl⟩) hS (fun locs hS => ?_)
      refine b_xv0 (cx_X1_84 (rest := []) CX hl.1 (m_X1_need l (x := bI ((nI 1) ≤ c_ ∧ c_ ≤ (nI 50))) hlt) rfl hS rfl ⟨rfl, rfl, Nat.le_of_ble_eq_true rfl, Nat.le_of_ble_eq_true rfl⟩ (Nat.le_of_ble_eq_true rfl) dX1_deliver_31 ⟨Nat.le_of_ble_eq_true rfl, Nat.le_of_ble_eq_true rfl⟩) hS (fun E9 q9 Hx7 locs hx9 hS he9 => ?_) (fun hk_31 locs hS => ?_)
      · have hk_31 := bI_0.mp hx9.1
        rw [← hQ]
        have ho : o_deliver (S, n, L, tn, t) (nI jx) (nI jy) c_ = f_no 2 (S, n, L, tn, t) := by
          unfold o_deliver
          simp only [ejx, ejy]
          repeat (first | rw [if_pos (by first | assumption | exact ⟨by assumption, by assumption⟩ | (constructor <;> omega) | omega | exact fun q => absurd q (by assumption) | exact fun q => absurd q.1 (by assumption) | exact fun q => absurd q.2 (by assumption) | exact Int32.not_lt.mpr (by assumption) | exact Int32.not_le.mp (by assumption) | exact fun q => q.2 (by assumption) | exact fun q => absurd q.1 (by omega))] | rw [if_neg (by first | assumption | exact ⟨by assumption, by assumption⟩ | (constructor <;> omega) | omega | exact fun q => absurd q (by assumption) | exact fun q => absurd q.1 (by assumption) | exact fun q => absurd q.2 (by assumption) | exact Int32.not_lt.mpr (by assumption) | exact Int32.not_le.mp (by assumption) | exact fun q => q.2 (by assumption) | exact fun q => absurd q.1 (by omega))])
        exact b_xout htb hlk he9 hS (Nat.le_of_ble_eq_true rfl) (Nat.le_of_ble_eq_true rfl) ⟨hX.tr hx9.2.2, 2, by omega, by rw [ho]; rfl, by rw [ho]; rfl, hx9.2.1⟩
      have hk_31 := bI_n0.mp hk_31
      refine lv_aload_n hx hb dX1_deliver_34 rfl (lv_at hl 0 rfl) ?_
      refine lv_iload_n hx hb dX1_deliver_35 rfl (lv_at hl 1 rfl) ?_
      refine lv_iload_n hx hb dX1_deliver_36 rfl (lv_at hl 2 rfl) ?_
      refine lv_iload_n hx hb dX1_deliver_37 rfl (lv_at hl 3 rfl) ?_
      refine b_cq (cs_X1_165 (rest := []) CX hl.1 (m_X1_delivering l (a := (A 0)) (b := jx) (s_ := jy) (c_ := c_) ) rfl rfl rfl hc_X.at hS rfl ⟨rfl, rfl, Nat.le_of_ble_eq_true rfl, Nat.le_of_ble_eq_true rfl⟩ (Nat.le_of_ble_eq_true rfl) dX1_deliver_38 ⟨Nat.le_of_ble_eq_true rfl, Nat.le_of_ble_eq_true rfl⟩) hS (fun r H8 locs hp hS => ?_)
      obtain ⟨q8, rfl, hE, hz, hB, hat⟩ := hp
      have hc_X := hc_X.ad (tb := 100) hE hz
      have hc_sv := hc_sv.ad (tb := 100) hE hz
      have hsa := fun h9 => (hsa h9).ad (tb := 100) hE hz
      have hc_tx := hc_tx.ad (tb := 100) hE hz
      have hc_tb := hc_tb.ad (tb := 100) hE hz
      have hc_tk := hc_tk.ad (tb := 100) hE hz
      have hL := hL.ad (tb := 100) hE hz
      have hV := hV.ad (tb := 100) hE hz
      have fr_dd : H.size ≤ q8 := Nat.le_trans hF.1 hz
      have hX := hX.tr hE
      have hA := hA.tr (b_Ag.ge (t := 100) hz) hF.1
      have hF := hF.ext hE
      have hc_dd : b_tt G B0 ((upT τ q8 100)) H8 q8 100 (.inr (9, [.ref (((A 0))), .int (nI jx), .int (nI jy), .int c_, .ref (((A 0)))])) := b_tt.mk hat hB
      have hXR : XR G B0 ((upT τ q8 100)) A H8 (S, n, L, tn, t) := ⟨d0, c0, ids, P0, F, M, E, Z, sm, rs, se, ml, hs, bt, tk9, hc_X, hc_sv, hsa, hse, hc_tx, hc_tb, hbt, hc_tk, hL, hZ, hW, hV, hd0, hdc, hn, htn, ht⟩
      refine b_xi (cx_X1_169_9 (rest := []) CX hl.1 (m_X6_done_9 l (da := q8) (b := jx) (s_ := jy) (c_ := c_) hc_dd hlt hXR (by omega) (by omega) (fun h9 => by have h7 := (a_01 a_deliver_v).mpr (h9); have ho : o_deliver (S, n, L, tn, t) (nI jx) (nI jy) c_ = f_ok (p_price S jx c_) (z_save (S, n, L, tn, t) ((s_deliver S jx jy c_))) := (by unfold o_deliver; simp only [ejx, ejy]; repeat (first | rw [if_pos (by first | assumption | exact ⟨by assumption, by assumption⟩ | (constructor <;> omega) | omega | exact fun q => absurd q (by assumption) | exact fun q => absurd q.1 (by assumption) | exact fun q => absurd q.2 (by assumption) | exact Int32.not_lt.mpr (by assumption) | exact Int32.not_le.mp (by assumption) | exact fun q => q.2 (by assumption) | exact fun q => absurd q.1 (by omega))] | rw [if_neg (by first | assumption | exact ⟨by assumption, by assumption⟩ | (constructor <;> omega) | omega | exact fun q => absurd q (by assumption) | exact fun q => absurd q.1 (by assumption) | exact fun q => absurd q.2 (by assumption) | exact Int32.not_lt.mpr (by assumption) | exact Int32.not_le.mp (by assumption) | exact fun q => q.2 (by assumption) | exact fun q => absurd q.1 (by omega))])); have h8 := hW1; rw [ho] at h8; exact h8)) rfl hc_dd.at hS rfl ⟨rfl, rfl, Nat.le_of_ble_eq_true rfl, Nat.le_of_ble_eq_true rfl⟩ (Nat.le_of_ble_eq_true rfl) dX1_deliver_41 ⟨Nat.le_of_ble_eq_true rfl, Nat.le_of_ble_eq_true rfl⟩) hS (fun E9 q9 Hx9 locs hx9 hS he9 => ?_) (fun r H9 locs hp hS => ?_)
      · have h7 := fun q8 => (hx9.1) ((a_01 a_deliver_v).mp q8)
        rw [← hQ]
        have ho : o_deliver (S, n, L, tn, t) (nI jx) (nI jy) c_ = f_no 3 (S, n, L, tn, t) := by
          unfold o_deliver
          simp only [ejx, ejy]
          repeat (first | rw [if_pos (by first | assumption | exact ⟨by assumption, by assumption⟩ | (constructor <;> omega) | omega | exact fun q => absurd q (by assumption) | exact fun q => absurd q.1 (by assumption) | exact fun q => absurd q.2 (by assumption) | exact Int32.not_lt.mpr (by assumption) | exact Int32.not_le.mp (by assumption) | exact fun q => q.2 (by assumption) | exact fun q => absurd q.1 (by omega))] | rw [if_neg (by first | assumption | exact ⟨by assumption, by assumption⟩ | (constructor <;> omega) | omega | exact fun q => absurd q (by assumption) | exact fun q => absurd q.1 (by assumption) | exact fun q => absurd q.2 (by assumption) | exact Int32.not_lt.mpr (by assumption) | exact Int32.not_le.mp (by assumption) | exact fun q => q.2 (by assumption) | exact fun q => absurd q.1 (by omega))])
        exact b_xout htb hlk he9 hS (Nat.le_of_ble_eq_true rfl) (Nat.le_of_ble_eq_true rfl) ⟨hX.tr hx9.2.2, 3, by omega, by rw [ho]; rfl, by rw [ho]; rfl, hx9.2.1⟩
      obtain ⟨hk_41, rfl, τ9, hA9, hF9, hXR⟩ := hp
      have hc_dd := hc_dd.ca hF9 hA9 (show ¬ (100 < 10 ∨ 1000 ≤ 100) by omega)
      have hF0 := hF.tr hA hF9 (fun q9 hq9 x9 => by have x8 : τ q9 < 10 ∨ 1000 ≤ τ q9 := x9; show τ q9 < 200 ∨ 1000 ≤ τ q9; omega)
      have hA := hA.tr hA9 hF.1
      have hF := hF0
      have hXR : XR G B0 τ9 A H9 ((s_deliver S jx jy c_), (p_sn n), (p_L L S n), tn, t) := hXR
      have h7 := (a_01 a_deliver_v).mpr (hk_41)
      have ho : o_deliver (S, n, L, tn, t) (nI jx) (nI jy) c_ = (nI 0, p_price S jx c_, ((s_deliver S jx jy c_), (p_sn n), (p_L L S n), tn, t)) := by
        unfold o_deliver
        simp only [ejx, ejy]
        repeat (first | rw [if_pos (by first | assumption | exact ⟨by assumption, by assumption⟩ | (constructor <;> omega) | omega | exact fun q => absurd q (by assumption) | exact fun q => absurd q.1 (by assumption) | exact fun q => absurd q.2 (by assumption) | exact Int32.not_lt.mpr (by assumption) | exact Int32.not_le.mp (by assumption) | exact fun q => q.2 (by assumption) | exact fun q => absurd q.1 (by omega))] | rw [if_neg (by first | assumption | exact ⟨by assumption, by assumption⟩ | (constructor <;> omega) | omega | exact fun q => absurd q (by assumption) | exact fun q => absurd q.1 (by assumption) | exact fun q => absurd q.2 (by assumption) | exact Int32.not_lt.mpr (by assumption) | exact Int32.not_le.mp (by assumption) | exact fun q => q.2 (by assumption) | exact fun q => absurd q.1 (by omega))])
        first | rfl | (unfold f_ok f_no z_save;  rfl)
      rw [← hQ]
      exact vx_ret (b_iret CX hr hlk hS (Nat.le_of_ble_eq_true rfl) (Nat.le_of_ble_eq_true rfl) dX1_deliver_44 ((by unfold o_ok1; rw [ho]; exact ⟨rfl, rfl, _, hA, hF, hXR⟩)))
set_option maxHeartbeats 2000000 in
set_option maxRecDepth 100000 in
theorem m_X1_needSale (l : Launch) {G : b_G} {B0 : Nat} {H : Heap} {τ : b_T} {id : Nat} {F : Nat → Nat} {M : Nat → Int32} {E : Nat → Bool} {S : b_St} {Z : Nat → Nat → Int32} {a : Nat} {asv : Nat} {atx : Nat} {atk : Nat} {hs : Int64} {x : Int32} {y : Int32} {w_ : Int32} (hc_X : b_tt G B0 τ H a 0 (.inr (0, [.ref ((F 0)), .ref asv, .ref atx, .ref atk, .long hs]))) (hL : LR G B0 τ id F M E H S Z) (hlt : l.stackTraces = false) (hW : b_WF S) : vx_Met l yX1_needSale (ws_ yX1_needSale cX1_needSale 4 (Option.none)) ({ frames := 7, cells := 2, slots := 12, locals := 109 } : Room) (b_Pc G B0 H [.ref a, .int x, .int y, .int w_]) (b_Qv B0 (fun H1 => (((nI 0 ≤ x ∧ x ≤ nI (ns S) - nI 1) ∧ (nI 0 ≤ y ∧ y ≤ nI (nb S) - nI 1)) ∧ (nI 1 ≤ w_ ∧ w_ ≤ nI 500)) ∧ H1 = H)) (b_X B0 (fun E9 q9 H9 => b_Ext H H9 ∧ ((¬ ((nI 0 ≤ x ∧ x ≤ nI (ns S) - nI 1) ∧ (nI 0 ≤ y ∧ y ≤ nI (nb S) - nI 1)) ∧ E9 = "java/lang/IndexOutOfBoundsException") ∨ (((nI 0 ≤ x ∧ x ≤ nI (ns S) - nI 1) ∧ (nI 0 ≤ y ∧ y ≤ nI (nb S) - nI 1)) ∧ ¬ (nI 1 ≤ w_ ∧ w_ ≤ nI 500) ∧ E9 = "java/lang/IllegalArgumentException")))) 2 12 (b_A B0) := by
  refine b_ofX (by decide) (Nat.le_of_ble_eq_true rfl) ?_
  intro p e s m below meth c CX hr hlk htb hS ls hl
  have CX : b_Cx p s m _ c cX1_needSale 4 RX1 G B0 := CX
  have hx := CX.hx
  have hb := CX.hb
  have hl : lv_has ls 4 [(0, .ref a), (1, .int x), (2, .int y), (3, .int w_)] := hl
  generalize hQ : vx_MQ below (b_Qv B0 (fun H1 => (((nI 0 ≤ x ∧ x ≤ nI (ns S) - nI 1) ∧ (nI 0 ≤ y ∧ y ≤ nI (nb S) - nI 1)) ∧ (nI 1 ≤ w_ ∧ w_ ≤ nI 500)) ∧ H1 = H)) (b_X B0 (fun E9 q9 H9 => b_Ext H H9 ∧ ((¬ ((nI 0 ≤ x ∧ x ≤ nI (ns S) - nI 1) ∧ (nI 0 ≤ y ∧ y ≤ nI (nb S) - nI 1)) ∧ E9 = "java/lang/IndexOutOfBoundsException") ∨ (((nI 0 ≤ x ∧ x ≤ nI (ns S) - nI 1) ∧ (nI 0 ≤ y ∧ y ≤ nI (nb S) - nI 1)) ∧ ¬ (nI 1 ≤ w_ ∧ w_ ≤ nI 500) ∧ E9 = "java/lang/IllegalArgumentException")))) ([.ref a, .int x, .int y, .int w_] : List Value).toArray s 2 12 (b_A B0) = Q
  have hX : b_Ext H H := b_Ext.rf
  have hnb : nb S = nb S := rfl
  have hns : ns S = ns S := rfl
  have hn8 := hL.2.2.2.1
  have hn6 := hL.2.2.2.2
  refine lv_aload_n hx hb dX1_needSale_0 rfl (lv_at hl 0 rfl) ?_
  refine lv_iload_n hx hb dX1_needSale_1 rfl (lv_at hl 1 rfl) ?_
  refine b_ci0 (cs_X1_162 (rest := []) CX hl.1 (m_X1_isShop l (a := a) (asv := asv) (atx := atx) (atk := atk) (hs := hs) (x := x) hc_X hL hW) rfl rfl rfl hc_X.at hS rfl ⟨rfl, rfl, Nat.le_of_ble_eq_true rfl, Nat.le_of_ble_eq_true rfl⟩ (Nat.le_of_ble_eq_true rfl) dX1_needSale_2 ⟨Nat.le_of_ble_eq_true rfl, Nat.le_of_ble_eq_true rfl⟩) hS (fun locs hS => ?_)
  refine b_ifeq (tgt := 20) CX dX1_needSale_5 (by decide) (fun c_5 => ?_) (fun c_5 => ?_)
  · refine lv_iconst (v := nI 0) hx hb dX1_needSale_20 rfl ?_
    refine b_xv0 (cx_X1_119 (rest := []) CX hl.1 (m_X1_needIndex l (x := nI 0) hlt) rfl hS rfl ⟨rfl, rfl, Nat.le_of_ble_eq_true rfl, Nat.le_of_ble_eq_true rfl⟩ (Nat.le_of_ble_eq_true rfl) dX1_needSale_21 ⟨Nat.le_of_ble_eq_true rfl, Nat.le_of_ble_eq_true rfl⟩) hS (fun E9 q9 Hx2 locs hx9 hS he9 => ?_) (fun hk_21 locs hS => ?_)
    · rw [← hQ]
      exact b_xout htb hlk he9 hS (Nat.le_of_ble_eq_true rfl) (Nat.le_of_ble_eq_true rfl) (⟨hX.tr hx9.2.2, Or.inl ⟨by first | exact fun q => absurd q.1 c_5 | exact fun q => absurd q.2 c_13, hx9.2.1⟩⟩)
    exact absurd (by decide) hk_21
  · refine lv_aload_n hx hb dX1_needSale_8 rfl (lv_at hl 0 rfl) ?_
    refine lv_iload_n hx hb dX1_needSale_9 rfl (lv_at hl 2 rfl) ?_
    refine b_ci0 (cs_X1_151 (rest := []) CX hl.1 (m_X1_isBrand l (a := a) (asv := asv) (atx := atx) (atk := atk) (hs := hs) (x := y) hc_X hL hW) rfl rfl rfl hc_X.at hS rfl ⟨rfl, rfl, Nat.le_of_ble_eq_true rfl, Nat.le_of_ble_eq_true rfl⟩ (Nat.le_of_ble_eq_true rfl) dX1_needSale_10 ⟨Nat.le_of_ble_eq_true rfl, Nat.le_of_ble_eq_true rfl⟩) hS (fun locs hS => ?_)
    refine b_ifeq (tgt := 20) CX dX1_needSale_13 (by decide) (fun c_13 => ?_) (fun c_13 => ?_)
    · refine lv_iconst (v := nI 0) hx hb dX1_needSale_20 rfl ?_
      refine b_xv0 (cx_X1_119 (rest := []) CX hl.1 (m_X1_needIndex l (x := nI 0) hlt) rfl hS rfl ⟨rfl, rfl, Nat.le_of_ble_eq_true rfl, Nat.le_of_ble_eq_true rfl⟩ (Nat.le_of_ble_eq_true rfl) dX1_needSale_21 ⟨Nat.le_of_ble_eq_true rfl, Nat.le_of_ble_eq_true rfl⟩) hS (fun E9 q9 Hx4 locs hx9 hS he9 => ?_) (fun hk_21 locs hS => ?_)
      · rw [← hQ]
        exact b_xout htb hlk he9 hS (Nat.le_of_ble_eq_true rfl) (Nat.le_of_ble_eq_true rfl) (⟨hX.tr hx9.2.2, Or.inl ⟨by first | exact fun q => absurd q.1 c_5 | exact fun q => absurd q.2 c_13, hx9.2.1⟩⟩)
      exact absurd (by decide) hk_21
    · refine lv_iconst (v := nI 1) hx hb dX1_needSale_16 rfl ?_
      refine lv_goto (tgt := 21) hx hb dX1_needSale_17 (by decide) ?_
      refine b_xv0 (cx_X1_119 (rest := []) CX hl.1 (m_X1_needIndex l (x := nI 1) hlt) rfl hS rfl ⟨rfl, rfl, Nat.le_of_ble_eq_true rfl, Nat.le_of_ble_eq_true rfl⟩ (Nat.le_of_ble_eq_true rfl) dX1_needSale_21 ⟨Nat.le_of_ble_eq_true rfl, Nat.le_of_ble_eq_true rfl⟩) hS (fun E9 q9 Hx5 locs hx9 hS he9 => ?_) (fun hk_21 locs hS => ?_)
      · exact absurd hx9.1 (by decide)
      refine lv_iload_n hx hb dX1_needSale_24 rfl (lv_at hl 3 rfl) ?_
      refine lv_iconst (v := nI 1) hx hb dX1_needSale_25 rfl ?_
      refine lv_sipush (v := nI 500) hx hb dX1_needSale_26 rfl ?_
      refine b_ci0 (cs_X1_73 (rest := []) CX hl.1 (m_X1_in l (x := w_) (lo := nI 1) (hi := nI 500) ) rfl hS rfl ⟨rfl, rfl, Nat.le_of_ble_eq_true rfl, Nat.le_of_ble_eq_true rfl⟩ (Nat.le_of_ble_eq_true rfl) dX1_needSale_29 ⟨Nat.le_of_ble_eq_true rfl, Nat.le_of_ble_eq_true rfl⟩) hS (fun locs hS => ?_)
      refine b_xv0 (cx_X1_84 (rest := []) CX hl.1 (m_X1_need l (x := bI ((nI 1) ≤ w_ ∧ w_ ≤ (nI 500))) hlt) rfl hS rfl ⟨rfl, rfl, Nat.le_of_ble_eq_true rfl, Nat.le_of_ble_eq_true rfl⟩ (Nat.le_of_ble_eq_true rfl) dX1_needSale_32 ⟨Nat.le_of_ble_eq_true rfl, Nat.le_of_ble_eq_true rfl⟩) hS (fun E9 q9 Hx7 locs hx9 hS he9 => ?_) (fun hk_32 locs hS => ?_)
      · have hk_32 := bI_0.mp hx9.1
        rw [← hQ]
        exact b_xout htb hlk he9 hS (Nat.le_of_ble_eq_true rfl) (Nat.le_of_ble_eq_true rfl) (⟨hX.tr hx9.2.2, Or.inr ⟨⟨c_5, c_13⟩, hk_32, hx9.2.1⟩⟩)
      have hk_32 := bI_n0.mp hk_32
      rw [← hQ]
      exact vx_ret (b_vret CX hr hlk hS (Nat.le_of_ble_eq_true rfl) (Nat.le_of_ble_eq_true rfl) dX1_needSale_35 (⟨(by exact ⟨⟨c_5, c_13⟩, hk_32⟩), rfl⟩))
theorem cx_X1_172 {p : Program} {l : Launch} {e : Env} {R : Room} {s : State} {m : MethodId} {args : Array Value} {below : List Frame} {meth : Method} {c : Code} {H : Heap} {locs : List Loc} {cells slots : Nat} {cc : ByteArray} {pc nL a : Nat} {ls : Array Slot} {rest : List Value} {G : b_G} {B0 : Nat} (CX : b_Cx p s m args c cc nL RX1 G B0) (hls : ls.size = nL) {rm : Room} {mc ms : Nat} {As st0 : List Value} {Qc : Array Value → State → Outcome → State → Prop} {XC : String → Addr → State → State → Prop} (hM : vx_Met l yX1_needSale (ws_ yX1_needSale cX1_needSale 4 (Option.none)) rm (b_Pc G B0 H (.ref a :: As)) Qc XC mc ms (b_A B0)) (hn : As.length = 3) {fs : List Value} {ci : Nat} {qc : vw_C} (hc : b_cl[ci]? = some qc) (hq : qc.1 = RX1) (hP : b_at G a (.inr (ci, fs)) H) (hS : va_S (b_A B0) s.heap H locs) (hst : st0 = As.reverse ++ .ref a :: rest) (hr : rm.cells = mc ∧ rm.slots = ms ∧ rm.frames + 1 ≤ R.frames ∧ 8 + (4 + 11) + rm.locals ≤ R.locals) (hw : (rest.map fun v => v.category).sum ≤ 8) (hdg : decode cc pc = .ok (.invokevirtual 172, 3)) (hf : cells + mc ≤ R.cells ∧ slots + ms ≤ R.slots) : vx_Run p l e R s m args below meth c H locs cells slots mc ms (F0 m pc ls st0) rest (Qc (Value.ref a :: As).toArray) XC (b_A B0) := vx_runV CX.fix hM (cwV 3 CX.ts (lw_V q1475 q1477 qs31 q79 q1478) rfl hr.1 hr.2.1 (by decide +kernel) ⟨hr.2.2.1, hr.2.2.2⟩) ⟨b_blind G B0 H _, by have h9 := b_recv CX.K hc hP; rw [hq] at h9; exact h9, b_pre _ CX.K hS⟩ rfl hn hls hst (lv_room hw) hdg hf
theorem cs_X1_176 {p : Program} {l : Launch} {e : Env} {R : Room} {s : State} {m : MethodId} {args : Array Value} {below : List Frame} {meth : Method} {c : Code} {H : Heap} {locs : List Loc} {cells slots : Nat} {cc : ByteArray} {pc nL a : Nat} {ls : Array Slot} {rest : List Value} {G : b_G} {B0 : Nat} (CX : b_Cx p s m args c cc nL RX1 G B0) (hls : ls.size = nL) {rm : Room} {mc ms : Nat} {As st0 : List Value} {Qc : Array Value → State → Outcome → State → Prop} (hM : Met l yX1_selling (ws_ yX1_selling cX1_selling 4 (Option.some (Jvm.ClassFile.FieldType.object "BottleLoop$Deed"))) rm (b_Pc G B0 H (.ref a :: As)) Qc mc ms (b_A B0)) (hn : As.length = 3) {fs : List Value} {ci : Nat} {qc : vw_C} (hc : b_cl[ci]? = some qc) (hq : qc.1 = RX1) (hP : b_at G a (.inr (ci, fs)) H) (hS : va_S (b_A B0) s.heap H locs) (hst : st0 = As.reverse ++ .ref a :: rest) (hr : rm.cells = mc ∧ rm.slots = ms ∧ rm.frames + 1 ≤ R.frames ∧ 8 + (4 + 11) + rm.locals ≤ R.locals) (hw : (rest.map fun v => v.category).sum ≤ 8) (hdg : decode cc pc = .ok (.invokevirtual 176, 3)) (hf : cells + mc ≤ R.cells ∧ slots + ms ≤ R.slots) : va_Run p l e R s m args below meth c H locs cells slots mc ms (F0 m pc ls st0) rest (Qc (Value.ref a :: As).toArray) (b_A B0) := va_runV CX.fix hM (cwV 3 CX.ts (lw_V q1479 q1481 qs32 q79 q1482) rfl hr.1 hr.2.1 (by decide +kernel) ⟨hr.2.2.1, hr.2.2.2⟩) ⟨b_blind G B0 H _, by have h9 := b_recv CX.K hc hP; rw [hq] at h9; exact h9, b_pre _ CX.K hS⟩ rfl hn hls hst (lv_room hw) hdg hf
theorem cx_X1_169_10 {p : Program} {l : Launch} {e : Env} {R : Room} {s : State} {m : MethodId} {args : Array Value} {below : List Frame} {meth : Method} {c : Code} {H : Heap} {locs : List Loc} {cells slots : Nat} {cc : ByteArray} {pc nL a : Nat} {ls : Array Slot} {rest : List Value} {G : b_G} {B0 : Nat} (CX : b_Cx p s m args c cc nL RX1 G B0) (hls : ls.size = nL) {rm : Room} {mc ms : Nat} {As st0 : List Value} {Qc : Array Value → State → Outcome → State → Prop} {XC : String → Addr → State → State → Prop} (hM : vx_Met l yX6_done (ws_ yX6_done cX6_done 1 (Option.some Jvm.ClassFile.FieldType.int)) rm (b_Pc G B0 H (.ref a :: As)) Qc XC mc ms (b_A B0)) (hn : As.length = 0) {fs : List Value} (hP : b_at G a (.inr (10, fs)) H) (hS : va_S (b_A B0) s.heap H locs) (hst : st0 = As.reverse ++ .ref a :: rest) (hr : rm.cells = mc ∧ rm.slots = ms ∧ rm.frames + 1 ≤ R.frames ∧ 8 + (1 + 11) + rm.locals ≤ R.locals) (hw : (rest.map fun v => v.category).sum ≤ 8) (hdg : decode cc pc = .ok (.invokevirtual 169, 3)) (hf : cells + mc ≤ R.cells ∧ slots + ms ≤ R.slots) : vx_Run p l e R s m args below meth c H locs cells slots mc ms (F0 m pc ls st0) rest (Qc (Value.ref a :: As).toArray) XC (b_A B0) := vx_runU CX.fix hM (va_cwU (C := RX13) (owner := RX6) 0 CX.ts (lw_U q1467 q2213 q2215 q1179 q104 q1180) rfl hr.1 hr.2.1 rfl ⟨by decide, by decide, by decide +kernel⟩ ⟨hr.2.2.1, hr.2.2.2⟩) ⟨b_blind G B0 H _, b_recv CX.K (ci := 10) rfl hP, b_pre _ CX.K hS⟩ rfl hn hls hst (lv_room hw) hdg hf
set_option maxHeartbeats 2000000 in
set_option maxRecDepth 100000 in
theorem m_X1_sell (l : Launch) {G : b_G} {B0 : Nat} {H : Heap} {τ : b_T} {A : Nat → Nat} {S : b_St} {n : Nat} {L : Nat → b_St} {tn : Nat} {t : Nat → Nat} {x : Int32} {y : Int32} {c_ : Int32} (hlt : l.stackTraces = false) (hXR : XR G B0 τ A H (S, n, L, tn, t)) (hW1 : b_WF (o_sell (S, n, L, tn, t) x y c_).2.2.1) : vx_Met l yX1_sell (ws_ yX1_sell cX1_sell 4 (Option.some Jvm.ClassFile.FieldType.int)) ({ frames := 10, cells := 59, slots := 492, locals := 212 } : Room) (b_Pc G B0 H [.ref ((A 0)), .int x, .int y, .int c_]) (b_Qi B0 (fun r H1 => o_ok1 G B0 τ A H (o_sell (S, n, L, tn, t) x y c_) r H1)) (b_X B0 (fun E9 q9 H9 => o_px H (S, n, L, tn, t) (o_sell (S, n, L, tn, t) x y c_) cl_A E9 H9)) 59 492 (b_A B0) := by
  refine b_ofX (by decide) (Nat.le_of_ble_eq_true rfl) ?_
  intro p e s m below meth c CX hr hlk htb hS ls hl
  have CX : b_Cx p s m _ c cX1_sell 4 RX1 G B0 := CX
  have hx := CX.hx
  have hb := CX.hb
  have hl : lv_has ls 4 [(0, .ref ((A 0))), (1, .int x), (2, .int y), (3, .int c_)] := hl
  generalize hQ : vx_MQ below (b_Qi B0 (fun r H1 => o_ok1 G B0 τ A H (o_sell (S, n, L, tn, t) x y c_) r H1)) (b_X B0 (fun E9 q9 H9 => o_px H (S, n, L, tn, t) (o_sell (S, n, L, tn, t) x y c_) cl_A E9 H9)) ([.ref ((A 0)), .int x, .int y, .int c_] : List Value).toArray s 59 492 (b_A B0) = Q
  have hF : b_Fr τ (fun t => t < 200 ∨ 1000 ≤ t) H H := b_Fr.rf
  have hA : b_Ag τ τ H := b_Ag.rf
  have hX : b_Ext H H := b_Ext.rf
  obtain ⟨d0, c0, ids, P0, F, M, E, Z, sm, rs, se, ml, hs, bt, tk9, hc_X, hc_sv, hsa, hse, hc_tx, hc_tb, hbt, hc_tk, hL, hZ, hW, hV, hd0, hdc, hn, htn, ht⟩ := hXR
  have hc_X : b_tt G B0 τ H ((A 0)) 0 (.inr (0, [.ref ((F 0)), .ref ((A 1)), .ref ((A 3)), .ref ((A 5)), .long hs])) := hc_X
  have hc_sv : b_tt G B0 τ H ((A 1)) 1 (.inr (2, [.int sm, .ref ((if se = true then rs else G.2.2 0)), .int (nI n)])) := hc_sv
  have hsa : (se = true → b_tt G B0 τ H rs 2 (.inl (G.2.1 2, q_refs 10 (fun j => if j < n then some (P0 j) else none)))) := hsa
  have hc_tx : b_tt G B0 τ H ((A 3)) 3 (.inr (3, [.ref ((A 4)), .int (nI 0), .int ml, .int (nI tn)])) := hc_tx
  have hc_tb : b_tt G B0 τ H ((A 4)) 4 (.inl (G.2.1 1, 60, .inl bt)) := hc_tb
  have hc_tk : b_tt G B0 τ H ((A 5)) 5 (.inl (G.2.1 0, 8, .inl tk9)) := hc_tk
  have hL : LR G B0 τ d0 F M E H S Z := hL
  have hV : SV G B0 τ d0 c0 n ids P0 H L := hV
  have hn8 := hL.2.2.2.1
  have hn6 := hL.2.2.2.2
  have hnb : nb S = nb S := rfl
  have hns : ns S = ns S := rfl
  have hn : n ≤ 6 := hn
  have htn : tn ≤ 60 := htn
  have ht : ∀ j, t j < 128 := ht
  have hse : se = true ∨ n = 0 := hse
  have hZ : pZ Z S := hZ
  have hW : b_WF S := hW
  have hbt : ∀ j, j < tn → bt j = nI (t j) := hbt
  refine lv_aload_n hx hb dX1_sell_0 rfl (lv_at hl 0 rfl) ?_
  refine lv_iload_n hx hb dX1_sell_1 rfl (lv_at hl 1 rfl) ?_
  refine lv_iload_n hx hb dX1_sell_2 rfl (lv_at hl 2 rfl) ?_
  refine lv_iload_n hx hb dX1_sell_3 rfl (lv_at hl 3 rfl) ?_
  refine b_xv0 (cx_X1_172 (rest := []) CX hl.1 (m_X1_needSale l (a := (A 0)) (asv := (A 1)) (atx := (A 3)) (atk := (A 5)) (hs := hs) (x := x) (y := y) (w_ := c_) hc_X hL hlt hW) rfl rfl rfl hc_X.at hS rfl ⟨rfl, rfl, Nat.le_of_ble_eq_true rfl, Nat.le_of_ble_eq_true rfl⟩ (Nat.le_of_ble_eq_true rfl) dX1_sell_4 ⟨Nat.le_of_ble_eq_true rfl, Nat.le_of_ble_eq_true rfl⟩) hS (fun E9 q9 Hx1 locs hx9 hS he9 => ?_) (fun hk_4 locs hS => ?_)
  · obtain ⟨hE9, hor⟩ := hx9
    rcases hor with ⟨h5, h6⟩ | ⟨h5, h6, h8⟩
    · have hx9 : True ∧ _ ∧ _ := ⟨trivial, h6, hE9⟩
      rw [← hQ]
      have ho : o_sell (S, n, L, tn, t) x y c_ = f_no 1 (S, n, L, tn, t) := by
        unfold o_sell
        try dsimp only
        repeat (first | rw [if_pos (by first | assumption | exact ⟨by assumption, by assumption⟩ | (constructor <;> omega) | omega | exact fun q => absurd q (by assumption) | exact fun q => absurd q.1 (by assumption) | exact fun q => absurd q.2 (by assumption) | exact Int32.not_lt.mpr (by assumption) | exact Int32.not_le.mp (by assumption) | exact fun q => q.2 (by assumption) | exact fun q => absurd q.1 (by omega))] | rw [if_neg (by first | assumption | exact ⟨by assumption, by assumption⟩ | (constructor <;> omega) | omega | exact fun q => absurd q (by assumption) | exact fun q => absurd q.1 (by assumption) | exact fun q => absurd q.2 (by assumption) | exact Int32.not_lt.mpr (by assumption) | exact Int32.not_le.mp (by assumption) | exact fun q => q.2 (by assumption) | exact fun q => absurd q.1 (by omega))])
      exact b_xout htb hlk he9 hS (Nat.le_of_ble_eq_true rfl) (Nat.le_of_ble_eq_true rfl) ⟨hX.tr hx9.2.2, 1, by omega, by rw [ho]; rfl, by rw [ho]; rfl, hx9.2.1⟩
    · obtain ⟨h5a, h5b⟩ := h5
      have hx9 : True ∧ _ ∧ _ := ⟨trivial, h8, hE9⟩
      rw [← hQ]
      have ho : o_sell (S, n, L, tn, t) x y c_ = f_no 2 (S, n, L, tn, t) := by
        unfold o_sell
        try dsimp only
        repeat (first | rw [if_pos (by first | assumption | exact ⟨by assumption, by assumption⟩ | (constructor <;> omega) | omega | exact fun q => absurd q (by assumption) | exact fun q => absurd q.1 (by assumption) | exact fun q => absurd q.2 (by assumption) | exact Int32.not_lt.mpr (by assumption) | exact Int32.not_le.mp (by assumption) | exact fun q => q.2 (by assumption) | exact fun q => absurd q.1 (by omega))] | rw [if_neg (by first | assumption | exact ⟨by assumption, by assumption⟩ | (constructor <;> omega) | omega | exact fun q => absurd q (by assumption) | exact fun q => absurd q.1 (by assumption) | exact fun q => absurd q.2 (by assumption) | exact Int32.not_lt.mpr (by assumption) | exact Int32.not_le.mp (by assumption) | exact fun q => q.2 (by assumption) | exact fun q => absurd q.1 (by omega))])
      exact b_xout htb hlk he9 hS (Nat.le_of_ble_eq_true rfl) (Nat.le_of_ble_eq_true rfl) ⟨hX.tr hx9.2.2, 2, by omega, by rw [ho]; rfl, by rw [ho]; rfl, hx9.2.1⟩
  obtain ⟨jx, hjx, rfl⟩ := isS_lt hW hk_4.1.1
  have ejx : ix (nI jx) = jx := ix_n (by omega)
  obtain ⟨jy, hjy, rfl⟩ := isB_lt hW hk_4.1.2
  have ejy : ix (nI jy) = jy := ix_n (by omega)
  obtain ⟨⟨h5a, h5b⟩, h5c⟩ := hk_4
  refine lv_aload_n hx hb dX1_sell_7 rfl (lv_at hl 0 rfl) ?_
  refine lv_iload_n hx hb dX1_sell_8 rfl (lv_at hl 1 rfl) ?_
  refine lv_iload_n hx hb dX1_sell_9 rfl (lv_at hl 2 rfl) ?_
  refine lv_iload_n hx hb dX1_sell_10 rfl (lv_at hl 3 rfl) ?_
  refine b_cq (cs_X1_176 (rest := []) CX hl.1 (m_X1_selling l (a := (A 0)) (s_ := jx) (b := jy) (w_ := c_) ) rfl rfl rfl hc_X.at hS rfl ⟨rfl, rfl, Nat.le_of_ble_eq_true rfl, Nat.le_of_ble_eq_true rfl⟩ (Nat.le_of_ble_eq_true rfl) dX1_sell_11 ⟨Nat.le_of_ble_eq_true rfl, Nat.le_of_ble_eq_true rfl⟩) hS (fun r H2 locs hp hS => ?_)
  obtain ⟨q2, rfl, hE, hz, hB, hat⟩ := hp
  have hc_X := hc_X.ad (tb := 100) hE hz
  have hc_sv := hc_sv.ad (tb := 100) hE hz
  have hsa := fun h9 => (hsa h9).ad (tb := 100) hE hz
  have hc_tx := hc_tx.ad (tb := 100) hE hz
  have hc_tb := hc_tb.ad (tb := 100) hE hz
  have hc_tk := hc_tk.ad (tb := 100) hE hz
  have hL := hL.ad (tb := 100) hE hz
  have hV := hV.ad (tb := 100) hE hz
  have fr_dd : H.size ≤ q2 := Nat.le_trans hF.1 hz
  have hX := hX.tr hE
  have hA := hA.tr (b_Ag.ge (t := 100) hz) hF.1
  have hF := hF.ext hE
  have hc_dd : b_tt G B0 ((upT τ q2 100)) H2 q2 100 (.inr (10, [.ref (((A 0))), .int (nI jy), .int (nI jx), .int c_, .ref (((A 0)))])) := b_tt.mk hat hB
  have hXR : XR G B0 ((upT τ q2 100)) A H2 (S, n, L, tn, t) := ⟨d0, c0, ids, P0, F, M, E, Z, sm, rs, se, ml, hs, bt, tk9, hc_X, hc_sv, hsa, hse, hc_tx, hc_tb, hbt, hc_tk, hL, hZ, hW, hV, hd0, hdc, hn, htn, ht⟩
  refine b_xi (cx_X1_169_10 (rest := []) CX hl.1 (m_X6_done_10 l (da := q2) (b := jy) (s_ := jx) (w_ := c_) hc_dd hlt hXR (by omega) (by omega) (fun h9 => by have h7 := (a_01 a_sell_v).mpr (h9); have ho : o_sell (S, n, L, tn, t) (nI jx) (nI jy) c_ = f_ok (S 2 jx 0 + c_ * p_dep S jy) (z_save (S, n, L, tn, t) ((s_sell S jx jy c_))) := (by unfold o_sell; simp only [ejx, ejy]; repeat (first | rw [if_pos (by first | assumption | exact ⟨by assumption, by assumption⟩ | (constructor <;> omega) | omega | exact fun q => absurd q (by assumption) | exact fun q => absurd q.1 (by assumption) | exact fun q => absurd q.2 (by assumption) | exact Int32.not_lt.mpr (by assumption) | exact Int32.not_le.mp (by assumption) | exact fun q => q.2 (by assumption) | exact fun q => absurd q.1 (by omega))] | rw [if_neg (by first | assumption | exact ⟨by assumption, by assumption⟩ | (constructor <;> omega) | omega | exact fun q => absurd q (by assumption) | exact fun q => absurd q.1 (by assumption) | exact fun q => absurd q.2 (by assumption) | exact Int32.not_lt.mpr (by assumption) | exact Int32.not_le.mp (by assumption) | exact fun q => q.2 (by assumption) | exact fun q => absurd q.1 (by omega))])); have h8 := hW1; rw [ho] at h8; exact h8)) rfl hc_dd.at hS rfl ⟨rfl, rfl, Nat.le_of_ble_eq_true rfl, Nat.le_of_ble_eq_true rfl⟩ (Nat.le_of_ble_eq_true rfl) dX1_sell_14 ⟨Nat.le_of_ble_eq_true rfl, Nat.le_of_ble_eq_true rfl⟩) hS (fun E9 q9 Hx3 locs hx9 hS he9 => ?_) (fun r H3 locs hp hS => ?_)
  · have h7 := fun q8 => (hx9.1) ((a_01 a_sell_v).mp q8)
    rw [← hQ]
    have ho : o_sell (S, n, L, tn, t) (nI jx) (nI jy) c_ = f_no 3 (S, n, L, tn, t) := by
      unfold o_sell
      simp only [ejx, ejy]
      repeat (first | rw [if_pos (by first | assumption | exact ⟨by assumption, by assumption⟩ | (constructor <;> omega) | omega | exact fun q => absurd q (by assumption) | exact fun q => absurd q.1 (by assumption) | exact fun q => absurd q.2 (by assumption) | exact Int32.not_lt.mpr (by assumption) | exact Int32.not_le.mp (by assumption) | exact fun q => q.2 (by assumption) | exact fun q => absurd q.1 (by omega))] | rw [if_neg (by first | assumption | exact ⟨by assumption, by assumption⟩ | (constructor <;> omega) | omega | exact fun q => absurd q (by assumption) | exact fun q => absurd q.1 (by assumption) | exact fun q => absurd q.2 (by assumption) | exact Int32.not_lt.mpr (by assumption) | exact Int32.not_le.mp (by assumption) | exact fun q => q.2 (by assumption) | exact fun q => absurd q.1 (by omega))])
    exact b_xout htb hlk he9 hS (Nat.le_of_ble_eq_true rfl) (Nat.le_of_ble_eq_true rfl) ⟨hX.tr hx9.2.2, 3, by omega, by rw [ho]; rfl, by rw [ho]; rfl, hx9.2.1⟩
  obtain ⟨hk_14, rfl, τ3, hA9, hF9, hXR⟩ := hp
  have hc_dd := hc_dd.ca hF9 hA9 (show ¬ (100 < 10 ∨ 1000 ≤ 100) by omega)
  have hF0 := hF.tr hA hF9 (fun q9 hq9 x9 => by have x8 : τ q9 < 10 ∨ 1000 ≤ τ q9 := x9; show τ q9 < 200 ∨ 1000 ≤ τ q9; omega)
  have hA := hA.tr hA9 hF.1
  have hF := hF0
  have hXR : XR G B0 τ3 A H3 ((s_sell S jx jy c_), (p_sn n), (p_L L S n), tn, t) := hXR
  have h7 := (a_01 a_sell_v).mpr (hk_14)
  have ho : o_sell (S, n, L, tn, t) (nI jx) (nI jy) c_ = (nI 0, S 2 jx 0 + c_ * p_dep S jy, ((s_sell S jx jy c_), (p_sn n), (p_L L S n), tn, t)) := by
    unfold o_sell
    simp only [ejx, ejy]
    repeat (first | rw [if_pos (by first | assumption | exact ⟨by assumption, by assumption⟩ | (constructor <;> omega) | omega | exact fun q => absurd q (by assumption) | exact fun q => absurd q.1 (by assumption) | exact fun q => absurd q.2 (by assumption) | exact Int32.not_lt.mpr (by assumption) | exact Int32.not_le.mp (by assumption) | exact fun q => q.2 (by assumption) | exact fun q => absurd q.1 (by omega))] | rw [if_neg (by first | assumption | exact ⟨by assumption, by assumption⟩ | (constructor <;> omega) | omega | exact fun q => absurd q (by assumption) | exact fun q => absurd q.1 (by assumption) | exact fun q => absurd q.2 (by assumption) | exact Int32.not_lt.mpr (by assumption) | exact Int32.not_le.mp (by assumption) | exact fun q => q.2 (by assumption) | exact fun q => absurd q.1 (by omega))])
    first | rfl | (unfold f_ok f_no z_save;  rfl)
  rw [← hQ]
  exact vx_ret (b_iret CX hr hlk hS (Nat.le_of_ble_eq_true rfl) (Nat.le_of_ble_eq_true rfl) dX1_sell_17 ((by unfold o_ok1; rw [ho]; exact ⟨rfl, rfl, _, hA, hF, hXR⟩)))
theorem cs_X1_179 {p : Program} {l : Launch} {e : Env} {R : Room} {s : State} {m : MethodId} {args : Array Value} {below : List Frame} {meth : Method} {c : Code} {H : Heap} {locs : List Loc} {cells slots : Nat} {cc : ByteArray} {pc nL a : Nat} {ls : Array Slot} {rest : List Value} {G : b_G} {B0 : Nat} (CX : b_Cx p s m args c cc nL RX1 G B0) (hls : ls.size = nL) {rm : Room} {mc ms : Nat} {As st0 : List Value} {Qc : Array Value → State → Outcome → State → Prop} (hM : Met l yX1_taking (ws_ yX1_taking cX1_taking 4 (Option.some (Jvm.ClassFile.FieldType.object "BottleLoop$Deed"))) rm (b_Pc G B0 H (.ref a :: As)) Qc mc ms (b_A B0)) (hn : As.length = 3) {fs : List Value} {ci : Nat} {qc : vw_C} (hc : b_cl[ci]? = some qc) (hq : qc.1 = RX1) (hP : b_at G a (.inr (ci, fs)) H) (hS : va_S (b_A B0) s.heap H locs) (hst : st0 = As.reverse ++ .ref a :: rest) (hr : rm.cells = mc ∧ rm.slots = ms ∧ rm.frames + 1 ≤ R.frames ∧ 8 + (4 + 11) + rm.locals ≤ R.locals) (hw : (rest.map fun v => v.category).sum ≤ 8) (hdg : decode cc pc = .ok (.invokevirtual 179, 3)) (hf : cells + mc ≤ R.cells ∧ slots + ms ≤ R.slots) : va_Run p l e R s m args below meth c H locs cells slots mc ms (F0 m pc ls st0) rest (Qc (Value.ref a :: As).toArray) (b_A B0) := va_runV CX.fix hM (cwV 3 CX.ts (lw_V q1510 q1512 qs33 q79 q1513) rfl hr.1 hr.2.1 (by decide +kernel) ⟨hr.2.2.1, hr.2.2.2⟩) ⟨b_blind G B0 H _, by have h9 := b_recv CX.K hc hP; rw [hq] at h9; exact h9, b_pre _ CX.K hS⟩ rfl hn hls hst (lv_room hw) hdg hf
theorem cx_X1_169_11 {p : Program} {l : Launch} {e : Env} {R : Room} {s : State} {m : MethodId} {args : Array Value} {below : List Frame} {meth : Method} {c : Code} {H : Heap} {locs : List Loc} {cells slots : Nat} {cc : ByteArray} {pc nL a : Nat} {ls : Array Slot} {rest : List Value} {G : b_G} {B0 : Nat} (CX : b_Cx p s m args c cc nL RX1 G B0) (hls : ls.size = nL) {rm : Room} {mc ms : Nat} {As st0 : List Value} {Qc : Array Value → State → Outcome → State → Prop} {XC : String → Addr → State → State → Prop} (hM : vx_Met l yX6_done (ws_ yX6_done cX6_done 1 (Option.some Jvm.ClassFile.FieldType.int)) rm (b_Pc G B0 H (.ref a :: As)) Qc XC mc ms (b_A B0)) (hn : As.length = 0) {fs : List Value} (hP : b_at G a (.inr (11, fs)) H) (hS : va_S (b_A B0) s.heap H locs) (hst : st0 = As.reverse ++ .ref a :: rest) (hr : rm.cells = mc ∧ rm.slots = ms ∧ rm.frames + 1 ≤ R.frames ∧ 8 + (1 + 11) + rm.locals ≤ R.locals) (hw : (rest.map fun v => v.category).sum ≤ 8) (hdg : decode cc pc = .ok (.invokevirtual 169, 3)) (hf : cells + mc ≤ R.cells ∧ slots + ms ≤ R.slots) : vx_Run p l e R s m args below meth c H locs cells slots mc ms (F0 m pc ls st0) rest (Qc (Value.ref a :: As).toArray) XC (b_A B0) := vx_runU CX.fix hM (va_cwU (C := RX14) (owner := RX6) 0 CX.ts (lw_U q1467 q2213 q2216 q1179 q104 q1180) rfl hr.1 hr.2.1 rfl ⟨by decide, by decide, by decide +kernel⟩ ⟨hr.2.2.1, hr.2.2.2⟩) ⟨b_blind G B0 H _, b_recv CX.K (ci := 11) rfl hP, b_pre _ CX.K hS⟩ rfl hn hls hst (lv_room hw) hdg hf
set_option maxHeartbeats 2000000 in
set_option maxRecDepth 100000 in
theorem m_X1_takeBack (l : Launch) {G : b_G} {B0 : Nat} {H : Heap} {τ : b_T} {A : Nat → Nat} {S : b_St} {n : Nat} {L : Nat → b_St} {tn : Nat} {t : Nat → Nat} {x : Int32} {y : Int32} {c_ : Int32} (hlt : l.stackTraces = false) (hXR : XR G B0 τ A H (S, n, L, tn, t)) (hW1 : b_WF (o_take (S, n, L, tn, t) x y c_).2.2.1) : vx_Met l yX1_takeBack (ws_ yX1_takeBack cX1_takeBack 4 (Option.some Jvm.ClassFile.FieldType.int)) ({ frames := 10, cells := 60, slots := 498, locals := 212 } : Room) (b_Pc G B0 H [.ref ((A 0)), .int x, .int y, .int c_]) (b_Qi B0 (fun r H1 => o_ok1 G B0 τ A H (o_take (S, n, L, tn, t) x y c_) r H1)) (b_X B0 (fun E9 q9 H9 => o_px H (S, n, L, tn, t) (o_take (S, n, L, tn, t) x y c_) cl_A E9 H9)) 60 498 (b_A B0) := by
  refine b_ofX (by decide) (Nat.le_of_ble_eq_true rfl) ?_
  intro p e s m below meth c CX hr hlk htb hS ls hl
  have CX : b_Cx p s m _ c cX1_takeBack 4 RX1 G B0 := CX
  have hx := CX.hx
  have hb := CX.hb
  have hl : lv_has ls 4 [(0, .ref ((A 0))), (1, .int x), (2, .int y), (3, .int c_)] := hl
  generalize hQ : vx_MQ below (b_Qi B0 (fun r H1 => o_ok1 G B0 τ A H (o_take (S, n, L, tn, t) x y c_) r H1)) (b_X B0 (fun E9 q9 H9 => o_px H (S, n, L, tn, t) (o_take (S, n, L, tn, t) x y c_) cl_A E9 H9)) ([.ref ((A 0)), .int x, .int y, .int c_] : List Value).toArray s 60 498 (b_A B0) = Q
  have hF : b_Fr τ (fun t => t < 200 ∨ 1000 ≤ t) H H := b_Fr.rf
  have hA : b_Ag τ τ H := b_Ag.rf
  have hX : b_Ext H H := b_Ext.rf
  obtain ⟨d0, c0, ids, P0, F, M, E, Z, sm, rs, se, ml, hs, bt, tk9, hc_X, hc_sv, hsa, hse, hc_tx, hc_tb, hbt, hc_tk, hL, hZ, hW, hV, hd0, hdc, hn, htn, ht⟩ := hXR
  have hc_X : b_tt G B0 τ H ((A 0)) 0 (.inr (0, [.ref ((F 0)), .ref ((A 1)), .ref ((A 3)), .ref ((A 5)), .long hs])) := hc_X
  have hc_sv : b_tt G B0 τ H ((A 1)) 1 (.inr (2, [.int sm, .ref ((if se = true then rs else G.2.2 0)), .int (nI n)])) := hc_sv
  have hsa : (se = true → b_tt G B0 τ H rs 2 (.inl (G.2.1 2, q_refs 10 (fun j => if j < n then some (P0 j) else none)))) := hsa
  have hc_tx : b_tt G B0 τ H ((A 3)) 3 (.inr (3, [.ref ((A 4)), .int (nI 0), .int ml, .int (nI tn)])) := hc_tx
  have hc_tb : b_tt G B0 τ H ((A 4)) 4 (.inl (G.2.1 1, 60, .inl bt)) := hc_tb
  have hc_tk : b_tt G B0 τ H ((A 5)) 5 (.inl (G.2.1 0, 8, .inl tk9)) := hc_tk
  have hL : LR G B0 τ d0 F M E H S Z := hL
  have hV : SV G B0 τ d0 c0 n ids P0 H L := hV
  have hn8 := hL.2.2.2.1
  have hn6 := hL.2.2.2.2
  have hnb : nb S = nb S := rfl
  have hns : ns S = ns S := rfl
  have hn : n ≤ 6 := hn
  have htn : tn ≤ 60 := htn
  have ht : ∀ j, t j < 128 := ht
  have hse : se = true ∨ n = 0 := hse
  have hZ : pZ Z S := hZ
  have hW : b_WF S := hW
  have hbt : ∀ j, j < tn → bt j = nI (t j) := hbt
  refine lv_aload_n hx hb dX1_takeBack_0 rfl (lv_at hl 0 rfl) ?_
  refine lv_iload_n hx hb dX1_takeBack_1 rfl (lv_at hl 1 rfl) ?_
  refine lv_iload_n hx hb dX1_takeBack_2 rfl (lv_at hl 2 rfl) ?_
  refine lv_iload_n hx hb dX1_takeBack_3 rfl (lv_at hl 3 rfl) ?_
  refine b_xv0 (cx_X1_172 (rest := []) CX hl.1 (m_X1_needSale l (a := (A 0)) (asv := (A 1)) (atx := (A 3)) (atk := (A 5)) (hs := hs) (x := x) (y := y) (w_ := c_) hc_X hL hlt hW) rfl rfl rfl hc_X.at hS rfl ⟨rfl, rfl, Nat.le_of_ble_eq_true rfl, Nat.le_of_ble_eq_true rfl⟩ (Nat.le_of_ble_eq_true rfl) dX1_takeBack_4 ⟨Nat.le_of_ble_eq_true rfl, Nat.le_of_ble_eq_true rfl⟩) hS (fun E9 q9 Hx1 locs hx9 hS he9 => ?_) (fun hk_4 locs hS => ?_)
  · obtain ⟨hE9, hor⟩ := hx9
    rcases hor with ⟨h5, h6⟩ | ⟨h5, h6, h8⟩
    · have hx9 : True ∧ _ ∧ _ := ⟨trivial, h6, hE9⟩
      rw [← hQ]
      have ho : o_take (S, n, L, tn, t) x y c_ = f_no 1 (S, n, L, tn, t) := by
        unfold o_take
        try dsimp only
        repeat (first | rw [if_pos (by first | assumption | exact ⟨by assumption, by assumption⟩ | (constructor <;> omega) | omega | exact fun q => absurd q (by assumption) | exact fun q => absurd q.1 (by assumption) | exact fun q => absurd q.2 (by assumption) | exact Int32.not_lt.mpr (by assumption) | exact Int32.not_le.mp (by assumption) | exact fun q => q.2 (by assumption) | exact fun q => absurd q.1 (by omega))] | rw [if_neg (by first | assumption | exact ⟨by assumption, by assumption⟩ | (constructor <;> omega) | omega | exact fun q => absurd q (by assumption) | exact fun q => absurd q.1 (by assumption) | exact fun q => absurd q.2 (by assumption) | exact Int32.not_lt.mpr (by assumption) | exact Int32.not_le.mp (by assumption) | exact fun q => q.2 (by assumption) | exact fun q => absurd q.1 (by omega))])
      exact b_xout htb hlk he9 hS (Nat.le_of_ble_eq_true rfl) (Nat.le_of_ble_eq_true rfl) ⟨hX.tr hx9.2.2, 1, by omega, by rw [ho]; rfl, by rw [ho]; rfl, hx9.2.1⟩
    · obtain ⟨h5a, h5b⟩ := h5
      have hx9 : True ∧ _ ∧ _ := ⟨trivial, h8, hE9⟩
      rw [← hQ]
      have ho : o_take (S, n, L, tn, t) x y c_ = f_no 2 (S, n, L, tn, t) := by
        unfold o_take
        try dsimp only
        repeat (first | rw [if_pos (by first | assumption | exact ⟨by assumption, by assumption⟩ | (constructor <;> omega) | omega | exact fun q => absurd q (by assumption) | exact fun q => absurd q.1 (by assumption) | exact fun q => absurd q.2 (by assumption) | exact Int32.not_lt.mpr (by assumption) | exact Int32.not_le.mp (by assumption) | exact fun q => q.2 (by assumption) | exact fun q => absurd q.1 (by omega))] | rw [if_neg (by first | assumption | exact ⟨by assumption, by assumption⟩ | (constructor <;> omega) | omega | exact fun q => absurd q (by assumption) | exact fun q => absurd q.1 (by assumption) | exact fun q => absurd q.2 (by assumption) | exact Int32.not_lt.mpr (by assumption) | exact Int32.not_le.mp (by assumption) | exact fun q => q.2 (by assumption) | exact fun q => absurd q.1 (by omega))])
      exact b_xout htb hlk he9 hS (Nat.le_of_ble_eq_true rfl) (Nat.le_of_ble_eq_true rfl) ⟨hX.tr hx9.2.2, 2, by omega, by rw [ho]; rfl, by rw [ho]; rfl, hx9.2.1⟩
  obtain ⟨jx, hjx, rfl⟩ := isS_lt hW hk_4.1.1
  have ejx : ix (nI jx) = jx := ix_n (by omega)
  obtain ⟨jy, hjy, rfl⟩ := isB_lt hW hk_4.1.2
  have ejy : ix (nI jy) = jy := ix_n (by omega)
  obtain ⟨⟨h5a, h5b⟩, h5c⟩ := hk_4
  refine lv_aload_n hx hb dX1_takeBack_7 rfl (lv_at hl 0 rfl) ?_
  refine lv_iload_n hx hb dX1_takeBack_8 rfl (lv_at hl 1 rfl) ?_
  refine lv_iload_n hx hb dX1_takeBack_9 rfl (lv_at hl 2 rfl) ?_
  refine lv_iload_n hx hb dX1_takeBack_10 rfl (lv_at hl 3 rfl) ?_
  refine b_cq (cs_X1_179 (rest := []) CX hl.1 (m_X1_taking l (a := (A 0)) (s_ := jx) (b := jy) (w_ := c_) ) rfl rfl rfl hc_X.at hS rfl ⟨rfl, rfl, Nat.le_of_ble_eq_true rfl, Nat.le_of_ble_eq_true rfl⟩ (Nat.le_of_ble_eq_true rfl) dX1_takeBack_11 ⟨Nat.le_of_ble_eq_true rfl, Nat.le_of_ble_eq_true rfl⟩) hS (fun r H2 locs hp hS => ?_)
  obtain ⟨q2, rfl, hE, hz, hB, hat⟩ := hp
  have hc_X := hc_X.ad (tb := 100) hE hz
  have hc_sv := hc_sv.ad (tb := 100) hE hz
  have hsa := fun h9 => (hsa h9).ad (tb := 100) hE hz
  have hc_tx := hc_tx.ad (tb := 100) hE hz
  have hc_tb := hc_tb.ad (tb := 100) hE hz
  have hc_tk := hc_tk.ad (tb := 100) hE hz
  have hL := hL.ad (tb := 100) hE hz
  have hV := hV.ad (tb := 100) hE hz
  have fr_dd : H.size ≤ q2 := Nat.le_trans hF.1 hz
  have hX := hX.tr hE
  have hA := hA.tr (b_Ag.ge (t := 100) hz) hF.1
  have hF := hF.ext hE
  have hc_dd : b_tt G B0 ((upT τ q2 100)) H2 q2 100 (.inr (11, [.ref (((A 0))), .int (nI jy), .int (nI jx), .int c_, .ref (((A 0)))])) := b_tt.mk hat hB
  have hXR : XR G B0 ((upT τ q2 100)) A H2 (S, n, L, tn, t) := ⟨d0, c0, ids, P0, F, M, E, Z, sm, rs, se, ml, hs, bt, tk9, hc_X, hc_sv, hsa, hse, hc_tx, hc_tb, hbt, hc_tk, hL, hZ, hW, hV, hd0, hdc, hn, htn, ht⟩
  refine b_xi (cx_X1_169_11 (rest := []) CX hl.1 (m_X6_done_11 l (da := q2) (b := jy) (s_ := jx) (w_ := c_) hc_dd hlt hXR (by omega) (by omega) (fun h9 => by have h7 := (a_01 a_take_v).mpr (h9); have ho : o_take (S, n, L, tn, t) (nI jx) (nI jy) c_ = f_ok (S 2 jx 0 - c_ * p_dep S jy) (z_save (S, n, L, tn, t) ((s_take S jx jy c_))) := (by unfold o_take; simp only [ejx, ejy]; repeat (first | rw [if_pos (by first | assumption | exact ⟨by assumption, by assumption⟩ | (constructor <;> omega) | omega | exact fun q => absurd q (by assumption) | exact fun q => absurd q.1 (by assumption) | exact fun q => absurd q.2 (by assumption) | exact Int32.not_lt.mpr (by assumption) | exact Int32.not_le.mp (by assumption) | exact fun q => q.2 (by assumption) | exact fun q => absurd q.1 (by omega))] | rw [if_neg (by first | assumption | exact ⟨by assumption, by assumption⟩ | (constructor <;> omega) | omega | exact fun q => absurd q (by assumption) | exact fun q => absurd q.1 (by assumption) | exact fun q => absurd q.2 (by assumption) | exact Int32.not_lt.mpr (by assumption) | exact Int32.not_le.mp (by assumption) | exact fun q => q.2 (by assumption) | exact fun q => absurd q.1 (by omega))])); have h8 := hW1; rw [ho] at h8; exact h8)) rfl hc_dd.at hS rfl ⟨rfl, rfl, Nat.le_of_ble_eq_true rfl, Nat.le_of_ble_eq_true rfl⟩ (Nat.le_of_ble_eq_true rfl) dX1_takeBack_14 ⟨Nat.le_of_ble_eq_true rfl, Nat.le_of_ble_eq_true rfl⟩) hS (fun E9 q9 Hx3 locs hx9 hS he9 => ?_) (fun r H3 locs hp hS => ?_)
  · have h7 := fun q8 => (hx9.1) ((a_01 a_take_v).mp q8)
    rw [← hQ]
    have ho : o_take (S, n, L, tn, t) (nI jx) (nI jy) c_ = f_no 3 (S, n, L, tn, t) := by
      unfold o_take
      simp only [ejx, ejy]
      repeat (first | rw [if_pos (by first | assumption | exact ⟨by assumption, by assumption⟩ | (constructor <;> omega) | omega | exact fun q => absurd q (by assumption) | exact fun q => absurd q.1 (by assumption) | exact fun q => absurd q.2 (by assumption) | exact Int32.not_lt.mpr (by assumption) | exact Int32.not_le.mp (by assumption) | exact fun q => q.2 (by assumption) | exact fun q => absurd q.1 (by omega))] | rw [if_neg (by first | assumption | exact ⟨by assumption, by assumption⟩ | (constructor <;> omega) | omega | exact fun q => absurd q (by assumption) | exact fun q => absurd q.1 (by assumption) | exact fun q => absurd q.2 (by assumption) | exact Int32.not_lt.mpr (by assumption) | exact Int32.not_le.mp (by assumption) | exact fun q => q.2 (by assumption) | exact fun q => absurd q.1 (by omega))])
    exact b_xout htb hlk he9 hS (Nat.le_of_ble_eq_true rfl) (Nat.le_of_ble_eq_true rfl) ⟨hX.tr hx9.2.2, 3, by omega, by rw [ho]; rfl, by rw [ho]; rfl, hx9.2.1⟩
  obtain ⟨hk_14, rfl, τ3, hA9, hF9, hXR⟩ := hp
  have hc_dd := hc_dd.ca hF9 hA9 (show ¬ (100 < 10 ∨ 1000 ≤ 100) by omega)
  have hF0 := hF.tr hA hF9 (fun q9 hq9 x9 => by have x8 : τ q9 < 10 ∨ 1000 ≤ τ q9 := x9; show τ q9 < 200 ∨ 1000 ≤ τ q9; omega)
  have hA := hA.tr hA9 hF.1
  have hF := hF0
  have hXR : XR G B0 τ3 A H3 ((s_take S jx jy c_), (p_sn n), (p_L L S n), tn, t) := hXR
  have h7 := (a_01 a_take_v).mpr (hk_14)
  have ho : o_take (S, n, L, tn, t) (nI jx) (nI jy) c_ = (nI 0, S 2 jx 0 - c_ * p_dep S jy, ((s_take S jx jy c_), (p_sn n), (p_L L S n), tn, t)) := by
    unfold o_take
    simp only [ejx, ejy]
    repeat (first | rw [if_pos (by first | assumption | exact ⟨by assumption, by assumption⟩ | (constructor <;> omega) | omega | exact fun q => absurd q (by assumption) | exact fun q => absurd q.1 (by assumption) | exact fun q => absurd q.2 (by assumption) | exact Int32.not_lt.mpr (by assumption) | exact Int32.not_le.mp (by assumption) | exact fun q => q.2 (by assumption) | exact fun q => absurd q.1 (by omega))] | rw [if_neg (by first | assumption | exact ⟨by assumption, by assumption⟩ | (constructor <;> omega) | omega | exact fun q => absurd q (by assumption) | exact fun q => absurd q.1 (by assumption) | exact fun q => absurd q.2 (by assumption) | exact Int32.not_lt.mpr (by assumption) | exact Int32.not_le.mp (by assumption) | exact fun q => q.2 (by assumption) | exact fun q => absurd q.1 (by omega))])
    first | rfl | (unfold f_ok f_no z_save;  rfl)
  rw [← hQ]
  exact vx_ret (b_iret CX hr hlk hS (Nat.le_of_ble_eq_true rfl) (Nat.le_of_ble_eq_true rfl) dX1_takeBack_17 ((by unfold o_ok1; rw [ho]; exact ⟨rfl, rfl, _, hA, hF, hXR⟩)))
theorem cs_X1_182 {p : Program} {l : Launch} {e : Env} {R : Room} {s : State} {m : MethodId} {args : Array Value} {below : List Frame} {meth : Method} {c : Code} {H : Heap} {locs : List Loc} {cells slots : Nat} {cc : ByteArray} {pc nL a : Nat} {ls : Array Slot} {rest : List Value} {G : b_G} {B0 : Nat} (CX : b_Cx p s m args c cc nL RX1 G B0) (hls : ls.size = nL) {rm : Room} {mc ms : Nat} {As st0 : List Value} {Qc : Array Value → State → Outcome → State → Prop} (hM : Met l yX1_breaking (ws_ yX1_breaking cX1_breaking 4 (Option.some (Jvm.ClassFile.FieldType.object "BottleLoop$Deed"))) rm (b_Pc G B0 H (.ref a :: As)) Qc mc ms (b_A B0)) (hn : As.length = 3) {fs : List Value} {ci : Nat} {qc : vw_C} (hc : b_cl[ci]? = some qc) (hq : qc.1 = RX1) (hP : b_at G a (.inr (ci, fs)) H) (hS : va_S (b_A B0) s.heap H locs) (hst : st0 = As.reverse ++ .ref a :: rest) (hr : rm.cells = mc ∧ rm.slots = ms ∧ rm.frames + 1 ≤ R.frames ∧ 8 + (4 + 11) + rm.locals ≤ R.locals) (hw : (rest.map fun v => v.category).sum ≤ 8) (hdg : decode cc pc = .ok (.invokevirtual 182, 3)) (hf : cells + mc ≤ R.cells ∧ slots + ms ≤ R.slots) : va_Run p l e R s m args below meth c H locs cells slots mc ms (F0 m pc ls st0) rest (Qc (Value.ref a :: As).toArray) (b_A B0) := va_runV CX.fix hM (cwV 3 CX.ts (lw_V q1541 q1543 qs34 q79 q1544) rfl hr.1 hr.2.1 (by decide +kernel) ⟨hr.2.2.1, hr.2.2.2⟩) ⟨b_blind G B0 H _, by have h9 := b_recv CX.K hc hP; rw [hq] at h9; exact h9, b_pre _ CX.K hS⟩ rfl hn hls hst (lv_room hw) hdg hf
theorem cx_X1_169_12 {p : Program} {l : Launch} {e : Env} {R : Room} {s : State} {m : MethodId} {args : Array Value} {below : List Frame} {meth : Method} {c : Code} {H : Heap} {locs : List Loc} {cells slots : Nat} {cc : ByteArray} {pc nL a : Nat} {ls : Array Slot} {rest : List Value} {G : b_G} {B0 : Nat} (CX : b_Cx p s m args c cc nL RX1 G B0) (hls : ls.size = nL) {rm : Room} {mc ms : Nat} {As st0 : List Value} {Qc : Array Value → State → Outcome → State → Prop} {XC : String → Addr → State → State → Prop} (hM : vx_Met l yX6_done (ws_ yX6_done cX6_done 1 (Option.some Jvm.ClassFile.FieldType.int)) rm (b_Pc G B0 H (.ref a :: As)) Qc XC mc ms (b_A B0)) (hn : As.length = 0) {fs : List Value} (hP : b_at G a (.inr (12, fs)) H) (hS : va_S (b_A B0) s.heap H locs) (hst : st0 = As.reverse ++ .ref a :: rest) (hr : rm.cells = mc ∧ rm.slots = ms ∧ rm.frames + 1 ≤ R.frames ∧ 8 + (1 + 11) + rm.locals ≤ R.locals) (hw : (rest.map fun v => v.category).sum ≤ 8) (hdg : decode cc pc = .ok (.invokevirtual 169, 3)) (hf : cells + mc ≤ R.cells ∧ slots + ms ≤ R.slots) : vx_Run p l e R s m args below meth c H locs cells slots mc ms (F0 m pc ls st0) rest (Qc (Value.ref a :: As).toArray) XC (b_A B0) := vx_runU CX.fix hM (va_cwU (C := RX15) (owner := RX6) 0 CX.ts (lw_U q1467 q2213 q2217 q1179 q104 q1180) rfl hr.1 hr.2.1 rfl ⟨by decide, by decide, by decide +kernel⟩ ⟨hr.2.2.1, hr.2.2.2⟩) ⟨b_blind G B0 H _, b_recv CX.K (ci := 12) rfl hP, b_pre _ CX.K hS⟩ rfl hn hls hst (lv_room hw) hdg hf
set_option maxHeartbeats 2000000 in
set_option maxRecDepth 100000 in
theorem m_X1_breaks (l : Launch) {G : b_G} {B0 : Nat} {H : Heap} {τ : b_T} {A : Nat → Nat} {S : b_St} {n : Nat} {L : Nat → b_St} {tn : Nat} {t : Nat → Nat} {x : Int32} {y : Int32} {c_ : Int32} (hlt : l.stackTraces = false) (hXR : XR G B0 τ A H (S, n, L, tn, t)) (hW1 : b_WF (o_break (S, n, L, tn, t) x y c_).2.2.1) : vx_Met l yX1_breaks (ws_ yX1_breaks cX1_breaks 4 (Option.some Jvm.ClassFile.FieldType.int)) ({ frames := 10, cells := 59, slots := 492, locals := 212 } : Room) (b_Pc G B0 H [.ref ((A 0)), .int x, .int y, .int c_]) (b_Qi B0 (fun r H1 => o_ok1 G B0 τ A H (o_break (S, n, L, tn, t) x y c_) r H1)) (b_X B0 (fun E9 q9 H9 => o_px H (S, n, L, tn, t) (o_break (S, n, L, tn, t) x y c_) cl_A E9 H9)) 59 492 (b_A B0) := by
  refine b_ofX (by decide) (Nat.le_of_ble_eq_true rfl) ?_
  intro p e s m below meth c CX hr hlk htb hS ls hl
  have CX : b_Cx p s m _ c cX1_breaks 4 RX1 G B0 := CX
  have hx := CX.hx
  have hb := CX.hb
  have hl : lv_has ls 4 [(0, .ref ((A 0))), (1, .int x), (2, .int y), (3, .int c_)] := hl
  generalize hQ : vx_MQ below (b_Qi B0 (fun r H1 => o_ok1 G B0 τ A H (o_break (S, n, L, tn, t) x y c_) r H1)) (b_X B0 (fun E9 q9 H9 => o_px H (S, n, L, tn, t) (o_break (S, n, L, tn, t) x y c_) cl_A E9 H9)) ([.ref ((A 0)), .int x, .int y, .int c_] : List Value).toArray s 59 492 (b_A B0) = Q
  have hF : b_Fr τ (fun t => t < 200 ∨ 1000 ≤ t) H H := b_Fr.rf
  have hA : b_Ag τ τ H := b_Ag.rf
  have hX : b_Ext H H := b_Ext.rf
  obtain ⟨d0, c0, ids, P0, F, M, E, Z, sm, rs, se, ml, hs, bt, tk9, hc_X, hc_sv, hsa, hse, hc_tx, hc_tb, hbt, hc_tk, hL, hZ, hW, hV, hd0, hdc, hn, htn, ht⟩ := hXR
  have hc_X : b_tt G B0 τ H ((A 0)) 0 (.inr (0, [.ref ((F 0)), .ref ((A 1)), .ref ((A 3)), .ref ((A 5)), .long hs])) := hc_X
  have hc_sv : b_tt G B0 τ H ((A 1)) 1 (.inr (2, [.int sm, .ref ((if se = true then rs else G.2.2 0)), .int (nI n)])) := hc_sv
  have hsa : (se = true → b_tt G B0 τ H rs 2 (.inl (G.2.1 2, q_refs 10 (fun j => if j < n then some (P0 j) else none)))) := hsa
  have hc_tx : b_tt G B0 τ H ((A 3)) 3 (.inr (3, [.ref ((A 4)), .int (nI 0), .int ml, .int (nI tn)])) := hc_tx
  have hc_tb : b_tt G B0 τ H ((A 4)) 4 (.inl (G.2.1 1, 60, .inl bt)) := hc_tb
  have hc_tk : b_tt G B0 τ H ((A 5)) 5 (.inl (G.2.1 0, 8, .inl tk9)) := hc_tk
  have hL : LR G B0 τ d0 F M E H S Z := hL
  have hV : SV G B0 τ d0 c0 n ids P0 H L := hV
  have hn8 := hL.2.2.2.1
  have hn6 := hL.2.2.2.2
  have hnb : nb S = nb S := rfl
  have hns : ns S = ns S := rfl
  have hn : n ≤ 6 := hn
  have htn : tn ≤ 60 := htn
  have ht : ∀ j, t j < 128 := ht
  have hse : se = true ∨ n = 0 := hse
  have hZ : pZ Z S := hZ
  have hW : b_WF S := hW
  have hbt : ∀ j, j < tn → bt j = nI (t j) := hbt
  refine lv_aload_n hx hb dX1_breaks_0 rfl (lv_at hl 0 rfl) ?_
  refine lv_iload_n hx hb dX1_breaks_1 rfl (lv_at hl 1 rfl) ?_
  refine lv_iload_n hx hb dX1_breaks_2 rfl (lv_at hl 2 rfl) ?_
  refine lv_iload_n hx hb dX1_breaks_3 rfl (lv_at hl 3 rfl) ?_
  refine b_xv0 (cx_X1_172 (rest := []) CX hl.1 (m_X1_needSale l (a := (A 0)) (asv := (A 1)) (atx := (A 3)) (atk := (A 5)) (hs := hs) (x := x) (y := y) (w_ := c_) hc_X hL hlt hW) rfl rfl rfl hc_X.at hS rfl ⟨rfl, rfl, Nat.le_of_ble_eq_true rfl, Nat.le_of_ble_eq_true rfl⟩ (Nat.le_of_ble_eq_true rfl) dX1_breaks_4 ⟨Nat.le_of_ble_eq_true rfl, Nat.le_of_ble_eq_true rfl⟩) hS (fun E9 q9 Hx1 locs hx9 hS he9 => ?_) (fun hk_4 locs hS => ?_)
  · obtain ⟨hE9, hor⟩ := hx9
    rcases hor with ⟨h5, h6⟩ | ⟨h5, h6, h8⟩
    · have hx9 : True ∧ _ ∧ _ := ⟨trivial, h6, hE9⟩
      rw [← hQ]
      have ho : o_break (S, n, L, tn, t) x y c_ = f_no 1 (S, n, L, tn, t) := by
        unfold o_break
        try dsimp only
        repeat (first | rw [if_pos (by first | assumption | exact ⟨by assumption, by assumption⟩ | (constructor <;> omega) | omega | exact fun q => absurd q (by assumption) | exact fun q => absurd q.1 (by assumption) | exact fun q => absurd q.2 (by assumption) | exact Int32.not_lt.mpr (by assumption) | exact Int32.not_le.mp (by assumption) | exact fun q => q.2 (by assumption) | exact fun q => absurd q.1 (by omega))] | rw [if_neg (by first | assumption | exact ⟨by assumption, by assumption⟩ | (constructor <;> omega) | omega | exact fun q => absurd q (by assumption) | exact fun q => absurd q.1 (by assumption) | exact fun q => absurd q.2 (by assumption) | exact Int32.not_lt.mpr (by assumption) | exact Int32.not_le.mp (by assumption) | exact fun q => q.2 (by assumption) | exact fun q => absurd q.1 (by omega))])
      exact b_xout htb hlk he9 hS (Nat.le_of_ble_eq_true rfl) (Nat.le_of_ble_eq_true rfl) ⟨hX.tr hx9.2.2, 1, by omega, by rw [ho]; rfl, by rw [ho]; rfl, hx9.2.1⟩
    · obtain ⟨h5a, h5b⟩ := h5
      have hx9 : True ∧ _ ∧ _ := ⟨trivial, h8, hE9⟩
      rw [← hQ]
      have ho : o_break (S, n, L, tn, t) x y c_ = f_no 2 (S, n, L, tn, t) := by
        unfold o_break
        try dsimp only
        repeat (first | rw [if_pos (by first | assumption | exact ⟨by assumption, by assumption⟩ | (constructor <;> omega) | omega | exact fun q => absurd q (by assumption) | exact fun q => absurd q.1 (by assumption) | exact fun q => absurd q.2 (by assumption) | exact Int32.not_lt.mpr (by assumption) | exact Int32.not_le.mp (by assumption) | exact fun q => q.2 (by assumption) | exact fun q => absurd q.1 (by omega))] | rw [if_neg (by first | assumption | exact ⟨by assumption, by assumption⟩ | (constructor <;> omega) | omega | exact fun q => absurd q (by assumption) | exact fun q => absurd q.1 (by assumption) | exact fun q => absurd q.2 (by assumption) | exact Int32.not_lt.mpr (by assumption) | exact Int32.not_le.mp (by assumption) | exact fun q => q.2 (by assumption) | exact fun q => absurd q.1 (by omega))])
      exact b_xout htb hlk he9 hS (Nat.le_of_ble_eq_true rfl) (Nat.le_of_ble_eq_true rfl) ⟨hX.tr hx9.2.2, 2, by omega, by rw [ho]; rfl, by rw [ho]; rfl, hx9.2.1⟩
  obtain ⟨jx, hjx, rfl⟩ := isS_lt hW hk_4.1.1
  have ejx : ix (nI jx) = jx := ix_n (by omega)
  obtain ⟨jy, hjy, rfl⟩ := isB_lt hW hk_4.1.2
  have ejy : ix (nI jy) = jy := ix_n (by omega)
  obtain ⟨⟨h5a, h5b⟩, h5c⟩ := hk_4
  refine lv_aload_n hx hb dX1_breaks_7 rfl (lv_at hl 0 rfl) ?_
  refine lv_iload_n hx hb dX1_breaks_8 rfl (lv_at hl 1 rfl) ?_
  refine lv_iload_n hx hb dX1_breaks_9 rfl (lv_at hl 2 rfl) ?_
  refine lv_iload_n hx hb dX1_breaks_10 rfl (lv_at hl 3 rfl) ?_
  refine b_cq (cs_X1_182 (rest := []) CX hl.1 (m_X1_breaking l (a := (A 0)) (s_ := jx) (b := jy) (w_ := c_) ) rfl rfl rfl hc_X.at hS rfl ⟨rfl, rfl, Nat.le_of_ble_eq_true rfl, Nat.le_of_ble_eq_true rfl⟩ (Nat.le_of_ble_eq_true rfl) dX1_breaks_11 ⟨Nat.le_of_ble_eq_true rfl, Nat.le_of_ble_eq_true rfl⟩) hS (fun r H2 locs hp hS => ?_)
  obtain ⟨q2, rfl, hE, hz, hB, hat⟩ := hp
  have hc_X := hc_X.ad (tb := 100) hE hz
  have hc_sv := hc_sv.ad (tb := 100) hE hz
  have hsa := fun h9 => (hsa h9).ad (tb := 100) hE hz
  have hc_tx := hc_tx.ad (tb := 100) hE hz
  have hc_tb := hc_tb.ad (tb := 100) hE hz
  have hc_tk := hc_tk.ad (tb := 100) hE hz
  have hL := hL.ad (tb := 100) hE hz
  have hV := hV.ad (tb := 100) hE hz
  have fr_dd : H.size ≤ q2 := Nat.le_trans hF.1 hz
  have hX := hX.tr hE
  have hA := hA.tr (b_Ag.ge (t := 100) hz) hF.1
  have hF := hF.ext hE
  have hc_dd : b_tt G B0 ((upT τ q2 100)) H2 q2 100 (.inr (12, [.ref (((A 0))), .int (nI jy), .int (nI jx), .int c_, .ref (((A 0)))])) := b_tt.mk hat hB
  have hXR : XR G B0 ((upT τ q2 100)) A H2 (S, n, L, tn, t) := ⟨d0, c0, ids, P0, F, M, E, Z, sm, rs, se, ml, hs, bt, tk9, hc_X, hc_sv, hsa, hse, hc_tx, hc_tb, hbt, hc_tk, hL, hZ, hW, hV, hd0, hdc, hn, htn, ht⟩
  refine b_xi (cx_X1_169_12 (rest := []) CX hl.1 (m_X6_done_12 l (da := q2) (b := jy) (s_ := jx) (w_ := c_) hc_dd hlt hXR (by omega) (by omega) (fun h9 => by have h7 := (a_01 a_break_v).mpr (h9); have ho : o_break (S, n, L, tn, t) (nI jx) (nI jy) c_ = f_ok (p_paid S jy c_) (z_save (S, n, L, tn, t) ((s_break S jx jy c_))) := (by unfold o_break; simp only [ejx, ejy]; repeat (first | rw [if_pos (by first | assumption | exact ⟨by assumption, by assumption⟩ | (constructor <;> omega) | omega | exact fun q => absurd q (by assumption) | exact fun q => absurd q.1 (by assumption) | exact fun q => absurd q.2 (by assumption) | exact Int32.not_lt.mpr (by assumption) | exact Int32.not_le.mp (by assumption) | exact fun q => q.2 (by assumption) | exact fun q => absurd q.1 (by omega))] | rw [if_neg (by first | assumption | exact ⟨by assumption, by assumption⟩ | (constructor <;> omega) | omega | exact fun q => absurd q (by assumption) | exact fun q => absurd q.1 (by assumption) | exact fun q => absurd q.2 (by assumption) | exact Int32.not_lt.mpr (by assumption) | exact Int32.not_le.mp (by assumption) | exact fun q => q.2 (by assumption) | exact fun q => absurd q.1 (by omega))])); have h8 := hW1; rw [ho] at h8; exact h8)) rfl hc_dd.at hS rfl ⟨rfl, rfl, Nat.le_of_ble_eq_true rfl, Nat.le_of_ble_eq_true rfl⟩ (Nat.le_of_ble_eq_true rfl) dX1_breaks_14 ⟨Nat.le_of_ble_eq_true rfl, Nat.le_of_ble_eq_true rfl⟩) hS (fun E9 q9 Hx3 locs hx9 hS he9 => ?_) (fun r H3 locs hp hS => ?_)
  · have h7 := fun q8 => (hx9.1) ((a_01 a_break_v).mp q8)
    rw [← hQ]
    have ho : o_break (S, n, L, tn, t) (nI jx) (nI jy) c_ = f_no 3 (S, n, L, tn, t) := by
      unfold o_break
      simp only [ejx, ejy]
      repeat (first | rw [if_pos (by first | assumption | exact ⟨by assumption, by assumption⟩ | (constructor <;> omega) | omega | exact fun q => absurd q (by assumption) | exact fun q => absurd q.1 (by assumption) | exact fun q => absurd q.2 (by assumption) | exact Int32.not_lt.mpr (by assumption) | exact Int32.not_le.mp (by assumption) | exact fun q => q.2 (by assumption) | exact fun q => absurd q.1 (by omega))] | rw [if_neg (by first | assumption | exact ⟨by assumption, by assumption⟩ | (constructor <;> omega) | omega | exact fun q => absurd q (by assumption) | exact fun q => absurd q.1 (by assumption) | exact fun q => absurd q.2 (by assumption) | exact Int32.not_lt.mpr (by assumption) | exact Int32.not_le.mp (by assumption) | exact fun q => q.2 (by assumption) | exact fun q => absurd q.1 (by omega))])
    exact b_xout htb hlk he9 hS (Nat.le_of_ble_eq_true rfl) (Nat.le_of_ble_eq_true rfl) ⟨hX.tr hx9.2.2, 3, by omega, by rw [ho]; rfl, by rw [ho]; rfl, hx9.2.1⟩
  obtain ⟨hk_14, rfl, τ3, hA9, hF9, hXR⟩ := hp
  have hc_dd := hc_dd.ca hF9 hA9 (show ¬ (100 < 10 ∨ 1000 ≤ 100) by omega)
  have hF0 := hF.tr hA hF9 (fun q9 hq9 x9 => by have x8 : τ q9 < 10 ∨ 1000 ≤ τ q9 := x9; show τ q9 < 200 ∨ 1000 ≤ τ q9; omega)
  have hA := hA.tr hA9 hF.1
  have hF := hF0
  have hXR : XR G B0 τ3 A H3 ((s_break S jx jy c_), (p_sn n), (p_L L S n), tn, t) := hXR
  have h7 := (a_01 a_break_v).mpr (hk_14)
  have ho : o_break (S, n, L, tn, t) (nI jx) (nI jy) c_ = (nI 0, p_paid S jy c_, ((s_break S jx jy c_), (p_sn n), (p_L L S n), tn, t)) := by
    unfold o_break
    simp only [ejx, ejy]
    repeat (first | rw [if_pos (by first | assumption | exact ⟨by assumption, by assumption⟩ | (constructor <;> omega) | omega | exact fun q => absurd q (by assumption) | exact fun q => absurd q.1 (by assumption) | exact fun q => absurd q.2 (by assumption) | exact Int32.not_lt.mpr (by assumption) | exact Int32.not_le.mp (by assumption) | exact fun q => q.2 (by assumption) | exact fun q => absurd q.1 (by omega))] | rw [if_neg (by first | assumption | exact ⟨by assumption, by assumption⟩ | (constructor <;> omega) | omega | exact fun q => absurd q (by assumption) | exact fun q => absurd q.1 (by assumption) | exact fun q => absurd q.2 (by assumption) | exact Int32.not_lt.mpr (by assumption) | exact Int32.not_le.mp (by assumption) | exact fun q => q.2 (by assumption) | exact fun q => absurd q.1 (by omega))])
    first | rfl | (unfold f_ok f_no z_save;  rfl)
  rw [← hQ]
  exact vx_ret (b_iret CX hr hlk hS (Nat.le_of_ble_eq_true rfl) (Nat.le_of_ble_eq_true rfl) dX1_breaks_17 ((by unfold o_ok1; rw [ho]; exact ⟨rfl, rfl, _, hA, hF, hXR⟩)))
theorem cx_X1_169_13 {p : Program} {l : Launch} {e : Env} {R : Room} {s : State} {m : MethodId} {args : Array Value} {below : List Frame} {meth : Method} {c : Code} {H : Heap} {locs : List Loc} {cells slots : Nat} {cc : ByteArray} {pc nL a : Nat} {ls : Array Slot} {rest : List Value} {G : b_G} {B0 : Nat} (CX : b_Cx p s m args c cc nL RX1 G B0) (hls : ls.size = nL) {rm : Room} {mc ms : Nat} {As st0 : List Value} {Qc : Array Value → State → Outcome → State → Prop} {XC : String → Addr → State → State → Prop} (hM : vx_Met l yX6_done (ws_ yX6_done cX6_done 1 (Option.some Jvm.ClassFile.FieldType.int)) rm (b_Pc G B0 H (.ref a :: As)) Qc XC mc ms (b_A B0)) (hn : As.length = 0) {fs : List Value} (hP : b_at G a (.inr (13, fs)) H) (hS : va_S (b_A B0) s.heap H locs) (hst : st0 = As.reverse ++ .ref a :: rest) (hr : rm.cells = mc ∧ rm.slots = ms ∧ rm.frames + 1 ≤ R.frames ∧ 8 + (1 + 11) + rm.locals ≤ R.locals) (hw : (rest.map fun v => v.category).sum ≤ 8) (hdg : decode cc pc = .ok (.invokevirtual 169, 3)) (hf : cells + mc ≤ R.cells ∧ slots + ms ≤ R.slots) : vx_Run p l e R s m args below meth c H locs cells slots mc ms (F0 m pc ls st0) rest (Qc (Value.ref a :: As).toArray) XC (b_A B0) := vx_runU CX.fix hM (va_cwU (C := RX17) (owner := RX6) 0 CX.ts (lw_U q1467 q2213 q2218 q1179 q104 q1180) rfl hr.1 hr.2.1 rfl ⟨by decide, by decide, by decide +kernel⟩ ⟨hr.2.2.1, hr.2.2.2⟩) ⟨b_blind G B0 H _, b_recv CX.K (ci := 13) rfl hP, b_pre _ CX.K hS⟩ rfl hn hls hst (lv_room hw) hdg hf
set_option maxHeartbeats 2000000 in
set_option maxRecDepth 100000 in
theorem m_X1_collect (l : Launch) {G : b_G} {B0 : Nat} {H : Heap} {τ : b_T} {A : Nat → Nat} {S : b_St} {n : Nat} {L : Nat → b_St} {tn : Nat} {t : Nat → Nat} {x : Int32} {k : Int32} {c_ : Int32} (hlt : l.stackTraces = false) (hXR : XR G B0 τ A H (S, n, L, tn, t)) (hW1 : b_WF (o_collect (S, n, L, tn, t) x k c_).2.2.1) (hpk : ∀ s k c, s < ns S → k < 3 → c ≤ 50 → a_collect S s k (nI c) = nI 0 → p_picks S s k c) : vx_Met l yX1_collect (ws_ yX1_collect cX1_collect 4 (Option.some Jvm.ClassFile.FieldType.int)) ({ frames := 10, cells := 60, slots := 498, locals := 212 } : Room) (b_Pc G B0 H [.ref ((A 0)), .int x, .int k, .int c_]) (b_Qi B0 (fun r H1 => o_ok1 G B0 τ A H (o_collect (S, n, L, tn, t) x k c_) r H1)) (b_X B0 (fun E9 q9 H9 => o_px H (S, n, L, tn, t) (o_collect (S, n, L, tn, t) x k c_) cl_A E9 H9)) 60 498 (b_A B0) := by
  refine b_ofX (by decide) (Nat.le_of_ble_eq_true rfl) ?_
  intro p e s m below meth c CX hr hlk htb hS ls hl
  have CX : b_Cx p s m _ c cX1_collect 4 RX1 G B0 := CX
  have hx := CX.hx
  have hb := CX.hb
  have hl : lv_has ls 4 [(0, .ref ((A 0))), (1, .int x), (2, .int k), (3, .int c_)] := hl
  generalize hQ : vx_MQ below (b_Qi B0 (fun r H1 => o_ok1 G B0 τ A H (o_collect (S, n, L, tn, t) x k c_) r H1)) (b_X B0 (fun E9 q9 H9 => o_px H (S, n, L, tn, t) (o_collect (S, n, L, tn, t) x k c_) cl_A E9 H9)) ([.ref ((A 0)), .int x, .int k, .int c_] : List Value).toArray s 60 498 (b_A B0) = Q
  have hF : b_Fr τ (fun t => t < 200 ∨ 1000 ≤ t) H H := b_Fr.rf
  have hA : b_Ag τ τ H := b_Ag.rf
  have hX : b_Ext H H := b_Ext.rf
  obtain ⟨d0, c0, ids, P0, F, M, E, Z, sm, rs, se, ml, hs, bt, tk9, hc_X, hc_sv, hsa, hse, hc_tx, hc_tb, hbt, hc_tk, hL, hZ, hW, hV, hd0, hdc, hn, htn, ht⟩ := hXR
  have hc_X : b_tt G B0 τ H ((A 0)) 0 (.inr (0, [.ref ((F 0)), .ref ((A 1)), .ref ((A 3)), .ref ((A 5)), .long hs])) := hc_X
  have hc_sv : b_tt G B0 τ H ((A 1)) 1 (.inr (2, [.int sm, .ref ((if se = true then rs else G.2.2 0)), .int (nI n)])) := hc_sv
  have hsa : (se = true → b_tt G B0 τ H rs 2 (.inl (G.2.1 2, q_refs 10 (fun j => if j < n then some (P0 j) else none)))) := hsa
  have hc_tx : b_tt G B0 τ H ((A 3)) 3 (.inr (3, [.ref ((A 4)), .int (nI 0), .int ml, .int (nI tn)])) := hc_tx
  have hc_tb : b_tt G B0 τ H ((A 4)) 4 (.inl (G.2.1 1, 60, .inl bt)) := hc_tb
  have hc_tk : b_tt G B0 τ H ((A 5)) 5 (.inl (G.2.1 0, 8, .inl tk9)) := hc_tk
  have hL : LR G B0 τ d0 F M E H S Z := hL
  have hV : SV G B0 τ d0 c0 n ids P0 H L := hV
  have hn8 := hL.2.2.2.1
  have hn6 := hL.2.2.2.2
  have hnb : nb S = nb S := rfl
  have hns : ns S = ns S := rfl
  have hn : n ≤ 6 := hn
  have htn : tn ≤ 60 := htn
  have ht : ∀ j, t j < 128 := ht
  have hse : se = true ∨ n = 0 := hse
  have hZ : pZ Z S := hZ
  have hW : b_WF S := hW
  have hbt : ∀ j, j < tn → bt j = nI (t j) := hbt
  refine lv_aload_n hx hb dX1_collect_0 rfl (lv_at hl 0 rfl) ?_
  refine lv_iload_n hx hb dX1_collect_1 rfl (lv_at hl 1 rfl) ?_
  refine b_ci0 (cs_X1_162 (rest := []) CX hl.1 (m_X1_isShop l (a := (A 0)) (asv := (A 1)) (atx := (A 3)) (atk := (A 5)) (hs := hs) (x := x) hc_X hL hW) rfl rfl rfl hc_X.at hS rfl ⟨rfl, rfl, Nat.le_of_ble_eq_true rfl, Nat.le_of_ble_eq_true rfl⟩ (Nat.le_of_ble_eq_true rfl) dX1_collect_2 ⟨Nat.le_of_ble_eq_true rfl, Nat.le_of_ble_eq_true rfl⟩) hS (fun locs hS => ?_)
  refine b_xv0 (cx_X1_119 (rest := []) CX hl.1 (m_X1_needIndex l (x := bI (nI 0 ≤ x ∧ x ≤ nI (ns S) - nI 1)) hlt) rfl hS rfl ⟨rfl, rfl, Nat.le_of_ble_eq_true rfl, Nat.le_of_ble_eq_true rfl⟩ (Nat.le_of_ble_eq_true rfl) dX1_collect_5 ⟨Nat.le_of_ble_eq_true rfl, Nat.le_of_ble_eq_true rfl⟩) hS (fun E9 q9 Hx2 locs hx9 hS he9 => ?_) (fun hk_5 locs hS => ?_)
  · have hk_5 := bI_0.mp hx9.1
    rw [← hQ]
    have ho : o_collect (S, n, L, tn, t) x k c_ = f_no 1 (S, n, L, tn, t) := by
      unfold o_collect
      try dsimp only
      repeat (first | rw [if_pos (by first | assumption | exact ⟨by assumption, by assumption⟩ | (constructor <;> omega) | omega | exact fun q => absurd q (by assumption) | exact fun q => absurd q.1 (by assumption) | exact fun q => absurd q.2 (by assumption) | exact Int32.not_lt.mpr (by assumption) | exact Int32.not_le.mp (by assumption) | exact fun q => q.2 (by assumption) | exact fun q => absurd q.1 (by omega))] | rw [if_neg (by first | assumption | exact ⟨by assumption, by assumption⟩ | (constructor <;> omega) | omega | exact fun q => absurd q (by assumption) | exact fun q => absurd q.1 (by assumption) | exact fun q => absurd q.2 (by assumption) | exact Int32.not_lt.mpr (by assumption) | exact Int32.not_le.mp (by assumption) | exact fun q => q.2 (by assumption) | exact fun q => absurd q.1 (by omega))])
    exact b_xout htb hlk he9 hS (Nat.le_of_ble_eq_true rfl) (Nat.le_of_ble_eq_true rfl) ⟨hX.tr hx9.2.2, 1, by omega, by rw [ho]; rfl, by rw [ho]; rfl, hx9.2.1⟩
  have hk_5 := bI_n0.mp hk_5
  obtain ⟨jx, hjx, rfl⟩ := isS_lt hW hk_5
  have ejx : ix (nI jx) = jx := ix_n (by omega)
  refine lv_iload_n hx hb dX1_collect_8 rfl (lv_at hl 2 rfl) ?_
  refine b_ci0 (cs_X1_80 (rest := []) CX hl.1 (m_X1_isKind l (x := k) ) rfl hS rfl ⟨rfl, rfl, Nat.le_of_ble_eq_true rfl, Nat.le_of_ble_eq_true rfl⟩ (Nat.le_of_ble_eq_true rfl) dX1_collect_9 ⟨Nat.le_of_ble_eq_true rfl, Nat.le_of_ble_eq_true rfl⟩) hS (fun locs hS => ?_)
  refine b_ifeq (tgt := 29) CX dX1_collect_12 (by decide) (fun c_12 => ?_) (fun c_12 => ?_)
  · refine lv_iconst (v := nI 0) hx hb dX1_collect_29 rfl ?_
    refine b_xv0 (cx_X1_84 (rest := []) CX hl.1 (m_X1_need l (x := nI 0) hlt) rfl hS rfl ⟨rfl, rfl, Nat.le_of_ble_eq_true rfl, Nat.le_of_ble_eq_true rfl⟩ (Nat.le_of_ble_eq_true rfl) dX1_collect_30 ⟨Nat.le_of_ble_eq_true rfl, Nat.le_of_ble_eq_true rfl⟩) hS (fun E9 q9 Hx4 locs hx9 hS he9 => ?_) (fun hk_30 locs hS => ?_)
    · rw [← hQ]
      have ho : o_collect (S, n, L, tn, t) (nI jx) k c_ = f_no 2 (S, n, L, tn, t) := by
        unfold o_collect
        simp only [ejx]
        repeat (first | rw [if_pos (by first | assumption | exact ⟨by assumption, by assumption⟩ | (constructor <;> omega) | omega | exact fun q => absurd q (by assumption) | exact fun q => absurd q.1 (by assumption) | exact fun q => absurd q.2 (by assumption) | exact Int32.not_lt.mpr (by assumption) | exact Int32.not_le.mp (by assumption) | exact fun q => q.2 (by assumption) | exact fun q => absurd q.1 (by omega))] | rw [if_neg (by first | assumption | exact ⟨by assumption, by assumption⟩ | (constructor <;> omega) | omega | exact fun q => absurd q (by assumption) | exact fun q => absurd q.1 (by assumption) | exact fun q => absurd q.2 (by assumption) | exact Int32.not_lt.mpr (by assumption) | exact Int32.not_le.mp (by assumption) | exact fun q => q.2 (by assumption) | exact fun q => absurd q.1 (by omega))])
      exact b_xout htb hlk he9 hS (Nat.le_of_ble_eq_true rfl) (Nat.le_of_ble_eq_true rfl) ⟨hX.tr hx9.2.2, 2, by omega, by rw [ho]; rfl, by rw [ho]; rfl, hx9.2.1⟩
    exact absurd (by decide) hk_30
  · refine lv_iload_n hx hb dX1_collect_15 rfl (lv_at hl 3 rfl) ?_
    refine lv_iconst (v := nI 1) hx hb dX1_collect_16 rfl ?_
    refine lv_bipush (v := nI 50) hx hb dX1_collect_17 rfl ?_
    refine b_ci0 (cs_X1_73 (rest := []) CX hl.1 (m_X1_in l (x := c_) (lo := nI 1) (hi := nI 50) ) rfl hS rfl ⟨rfl, rfl, Nat.le_of_ble_eq_true rfl, Nat.le_of_ble_eq_true rfl⟩ (Nat.le_of_ble_eq_true rfl) dX1_collect_19 ⟨Nat.le_of_ble_eq_true rfl, Nat.le_of_ble_eq_true rfl⟩) hS (fun locs hS => ?_)
    refine b_ifeq (tgt := 29) CX dX1_collect_22 (by decide) (fun c_22 => ?_) (fun c_22 => ?_)
    · refine lv_iconst (v := nI 0) hx hb dX1_collect_29 rfl ?_
      refine b_xv0 (cx_X1_84 (rest := []) CX hl.1 (m_X1_need l (x := nI 0) hlt) rfl hS rfl ⟨rfl, rfl, Nat.le_of_ble_eq_true rfl, Nat.le_of_ble_eq_true rfl⟩ (Nat.le_of_ble_eq_true rfl) dX1_collect_30 ⟨Nat.le_of_ble_eq_true rfl, Nat.le_of_ble_eq_true rfl⟩) hS (fun E9 q9 Hx6 locs hx9 hS he9 => ?_) (fun hk_30 locs hS => ?_)
      · rw [← hQ]
        have ho : o_collect (S, n, L, tn, t) (nI jx) k c_ = f_no 2 (S, n, L, tn, t) := by
          unfold o_collect
          simp only [ejx]
          repeat (first | rw [if_pos (by first | assumption | exact ⟨by assumption, by assumption⟩ | (constructor <;> omega) | omega | exact fun q => absurd q (by assumption) | exact fun q => absurd q.1 (by assumption) | exact fun q => absurd q.2 (by assumption) | exact Int32.not_lt.mpr (by assumption) | exact Int32.not_le.mp (by assumption) | exact fun q => q.2 (by assumption) | exact fun q => absurd q.1 (by omega))] | rw [if_neg (by first | assumption | exact ⟨by assumption, by assumption⟩ | (constructor <;> omega) | omega | exact fun q => absurd q (by assumption) | exact fun q => absurd q.1 (by assumption) | exact fun q => absurd q.2 (by assumption) | exact Int32.not_lt.mpr (by assumption) | exact Int32.not_le.mp (by assumption) | exact fun q => q.2 (by assumption) | exact fun q => absurd q.1 (by omega))])
        exact b_xout htb hlk he9 hS (Nat.le_of_ble_eq_true rfl) (Nat.le_of_ble_eq_true rfl) ⟨hX.tr hx9.2.2, 2, by omega, by rw [ho]; rfl, by rw [ho]; rfl, hx9.2.1⟩
      exact absurd (by decide) hk_30
    · obtain ⟨jk, hjka, hjkb, rfl⟩ := p_rg (by decide) c_12 (by decide)
      have ejk : ix (nI jk) = jk := ix_n (by omega)
      obtain ⟨jc, hjca, hjcb, rfl⟩ := p_rg (by decide) c_22 (by decide)
      have ejc : ix (nI jc) = jc := ix_n (by omega)
      refine lv_iconst (v := nI 1) hx hb dX1_collect_25 rfl ?_
      refine lv_goto (tgt := 30) hx hb dX1_collect_26 (by decide) ?_
      refine b_xv0 (cx_X1_84 (rest := []) CX hl.1 (m_X1_need l (x := nI 1) hlt) rfl hS rfl ⟨rfl, rfl, Nat.le_of_ble_eq_true rfl, Nat.le_of_ble_eq_true rfl⟩ (Nat.le_of_ble_eq_true rfl) dX1_collect_30 ⟨Nat.le_of_ble_eq_true rfl, Nat.le_of_ble_eq_true rfl⟩) hS (fun E9 q9 Hx7 locs hx9 hS he9 => ?_) (fun hk_30 locs hS => ?_)
      · exact absurd hx9.1 (by decide)
      refine lv_aload_n hx hb dX1_collect_33 rfl (lv_at hl 0 rfl) ?_
      refine lv_iload_n hx hb dX1_collect_34 rfl (lv_at hl 1 rfl) ?_
      refine lv_iload_n hx hb dX1_collect_35 rfl (lv_at hl 2 rfl) ?_
      refine lv_iload_n hx hb dX1_collect_36 rfl (lv_at hl 3 rfl) ?_
      refine b_cq (cs_X1_189 (rest := []) CX hl.1 (m_X1_collecting l (a := (A 0)) (s_ := jx) (k := jk) (c_ := jc) ) rfl rfl rfl hc_X.at hS rfl ⟨rfl, rfl, Nat.le_of_ble_eq_true rfl, Nat.le_of_ble_eq_true rfl⟩ (Nat.le_of_ble_eq_true rfl) dX1_collect_37 ⟨Nat.le_of_ble_eq_true rfl, Nat.le_of_ble_eq_true rfl⟩) hS (fun r H8 locs hp hS => ?_)
      obtain ⟨q8, rfl, hE, hz, hB, hat⟩ := hp
      have hc_X := hc_X.ad (tb := 100) hE hz
      have hc_sv := hc_sv.ad (tb := 100) hE hz
      have hsa := fun h9 => (hsa h9).ad (tb := 100) hE hz
      have hc_tx := hc_tx.ad (tb := 100) hE hz
      have hc_tb := hc_tb.ad (tb := 100) hE hz
      have hc_tk := hc_tk.ad (tb := 100) hE hz
      have hL := hL.ad (tb := 100) hE hz
      have hV := hV.ad (tb := 100) hE hz
      have fr_dd : H.size ≤ q8 := Nat.le_trans hF.1 hz
      have hX := hX.tr hE
      have hA := hA.tr (b_Ag.ge (t := 100) hz) hF.1
      have hF := hF.ext hE
      have hc_dd : b_tt G B0 ((upT τ q8 100)) H8 q8 100 (.inr (13, [.ref (((A 0))), .int (nI jx), .int (nI jk), .int (nI jc), .ref (((A 0)))])) := b_tt.mk hat hB
      have hXR : XR G B0 ((upT τ q8 100)) A H8 (S, n, L, tn, t) := ⟨d0, c0, ids, P0, F, M, E, Z, sm, rs, se, ml, hs, bt, tk9, hc_X, hc_sv, hsa, hse, hc_tx, hc_tb, hbt, hc_tk, hL, hZ, hW, hV, hd0, hdc, hn, htn, ht⟩
      refine b_xi (cx_X1_169_13 (rest := []) CX hl.1 (m_X6_done_13 l (da := q8) (s_ := jx) (k := jk) (c_ := jc) hc_dd hlt hXR (by omega) (by omega) (fun h9 => by have h7 := (a_01 a_collect_v).mpr (h9); have ho : o_collect (S, n, L, tn, t) (nI jx) (nI jk) (nI jc) = f_ok (p_deps S jk (nI jc)) (z_save (S, n, L, tn, t) ((s_collect S jx jk jc))) := (by unfold o_collect; simp only [ejx, ejk, ejc]; repeat (first | rw [if_pos (by first | assumption | exact ⟨by assumption, by assumption⟩ | (constructor <;> omega) | omega | exact fun q => absurd q (by assumption) | exact fun q => absurd q.1 (by assumption) | exact fun q => absurd q.2 (by assumption) | exact Int32.not_lt.mpr (by assumption) | exact Int32.not_le.mp (by assumption) | exact fun q => q.2 (by assumption) | exact fun q => absurd q.1 (by omega))] | rw [if_neg (by first | assumption | exact ⟨by assumption, by assumption⟩ | (constructor <;> omega) | omega | exact fun q => absurd q (by assumption) | exact fun q => absurd q.1 (by assumption) | exact fun q => absurd q.2 (by assumption) | exact Int32.not_lt.mpr (by assumption) | exact Int32.not_le.mp (by assumption) | exact fun q => q.2 (by assumption) | exact fun q => absurd q.1 (by omega))])); have h8 := hW1; rw [ho] at h8; exact h8) (by omega) (fun h9 => hpk _ _ _ (by omega) (by omega) (by omega) h9)) rfl hc_dd.at hS rfl ⟨rfl, rfl, Nat.le_of_ble_eq_true rfl, Nat.le_of_ble_eq_true rfl⟩ (Nat.le_of_ble_eq_true rfl) dX1_collect_40 ⟨Nat.le_of_ble_eq_true rfl, Nat.le_of_ble_eq_true rfl⟩) hS (fun E9 q9 Hx9 locs hx9 hS he9 => ?_) (fun r H9 locs hp hS => ?_)
      · have h7 := fun q8 => (hx9.1) ((a_01 a_collect_v).mp q8)
        rw [← hQ]
        have ho : o_collect (S, n, L, tn, t) (nI jx) (nI jk) (nI jc) = f_no 3 (S, n, L, tn, t) := by
          unfold o_collect
          simp only [ejx, ejk, ejc]
          repeat (first | rw [if_pos (by first | assumption | exact ⟨by assumption, by assumption⟩ | (constructor <;> omega) | omega | exact fun q => absurd q (by assumption) | exact fun q => absurd q.1 (by assumption) | exact fun q => absurd q.2 (by assumption) | exact Int32.not_lt.mpr (by assumption) | exact Int32.not_le.mp (by assumption) | exact fun q => q.2 (by assumption) | exact fun q => absurd q.1 (by omega))] | rw [if_neg (by first | assumption | exact ⟨by assumption, by assumption⟩ | (constructor <;> omega) | omega | exact fun q => absurd q (by assumption) | exact fun q => absurd q.1 (by assumption) | exact fun q => absurd q.2 (by assumption) | exact Int32.not_lt.mpr (by assumption) | exact Int32.not_le.mp (by assumption) | exact fun q => q.2 (by assumption) | exact fun q => absurd q.1 (by omega))])
        exact b_xout htb hlk he9 hS (Nat.le_of_ble_eq_true rfl) (Nat.le_of_ble_eq_true rfl) ⟨hX.tr hx9.2.2, 3, by omega, by rw [ho]; rfl, by rw [ho]; rfl, hx9.2.1⟩
      obtain ⟨hk_40, rfl, τ9, hA9, hF9, hXR⟩ := hp
      have hc_dd := hc_dd.ca hF9 hA9 (show ¬ (100 < 10 ∨ 1000 ≤ 100) by omega)
      have hF0 := hF.tr hA hF9 (fun q9 hq9 x9 => by have x8 : τ q9 < 10 ∨ 1000 ≤ τ q9 := x9; show τ q9 < 200 ∨ 1000 ≤ τ q9; omega)
      have hA := hA.tr hA9 hF.1
      have hF := hF0
      have hXR : XR G B0 τ9 A H9 ((s_collect S jx jk jc), (p_sn n), (p_L L S n), tn, t) := hXR
      have h7 := (a_01 a_collect_v).mpr (hk_40)
      have ho : o_collect (S, n, L, tn, t) (nI jx) (nI jk) (nI jc) = (nI 0, p_deps S jk (nI jc), ((s_collect S jx jk jc), (p_sn n), (p_L L S n), tn, t)) := by
        unfold o_collect
        simp only [ejx, ejk, ejc]
        repeat (first | rw [if_pos (by first | assumption | exact ⟨by assumption, by assumption⟩ | (constructor <;> omega) | omega | exact fun q => absurd q (by assumption) | exact fun q => absurd q.1 (by assumption) | exact fun q => absurd q.2 (by assumption) | exact Int32.not_lt.mpr (by assumption) | exact Int32.not_le.mp (by assumption) | exact fun q => q.2 (by assumption) | exact fun q => absurd q.1 (by omega))] | rw [if_neg (by first | assumption | exact ⟨by assumption, by assumption⟩ | (constructor <;> omega) | omega | exact fun q => absurd q (by assumption) | exact fun q => absurd q.1 (by assumption) | exact fun q => absurd q.2 (by assumption) | exact Int32.not_lt.mpr (by assumption) | exact Int32.not_le.mp (by assumption) | exact fun q => q.2 (by assumption) | exact fun q => absurd q.1 (by omega))])
        first | rfl | (unfold f_ok f_no z_save;  rfl)
      rw [← hQ]
      exact vx_ret (b_iret CX hr hlk hS (Nat.le_of_ble_eq_true rfl) (Nat.le_of_ble_eq_true rfl) dX1_collect_43 ((by unfold o_ok1; rw [ho]; exact ⟨rfl, rfl, _, hA, hF, hXR⟩)))
theorem cs_X1_194 {p : Program} {l : Launch} {e : Env} {R : Room} {s : State} {m : MethodId} {args : Array Value} {below : List Frame} {meth : Method} {c : Code} {H : Heap} {locs : List Loc} {cells slots : Nat} {cc : ByteArray} {pc nL a : Nat} {ls : Array Slot} {rest : List Value} {G : b_G} {B0 : Nat} (CX : b_Cx p s m args c cc nL RX1 G B0) (hls : ls.size = nL) {rm : Room} {mc ms : Nat} {As st0 : List Value} {Qc : Array Value → State → Outcome → State → Prop} (hM : Met l yX18_init (ws_ yX18_init cX18_init 4 (Option.none)) rm (b_Pc G B0 H (.ref a :: As)) Qc mc ms (b_A B0)) (hn : As.length = 3) (hS : va_S (b_A B0) s.heap H locs) (hst : st0 = As.reverse ++ .ref a :: rest) (hr : rm.cells = mc ∧ rm.slots = ms ∧ rm.frames + 1 ≤ R.frames ∧ 8 + (4 + 11) + rm.locals ≤ R.locals) (hw : (rest.map fun v => v.category).sum ≤ 8) (hdg : decode cc pc = .ok (.invokespecial 194, 3)) (hf : cells + mc ≤ R.cells ∧ slots + ms ≤ R.slots) : va_Run p l e R s m args below meth c H locs cells slots mc ms (F0 m pc ls st0) rest (Qc (Value.ref a :: As).toArray) (b_A B0) := va_runI CX.fix hM (cwI 3 CX.ts (lw_meth q1634) rfl hr.1 hr.2.1 (CX.ts _ q116) (CX.ts _ q1632) (CX.ts _ q1633) rfl (by decide +kernel) ⟨hr.2.2.1, hr.2.2.2⟩) ⟨b_blind G B0 H _, b_pre _ CX.K hS⟩ rfl hn hls hst (lv_room hw) hdg hf
theorem cx_X1_195_16 {p : Program} {l : Launch} {e : Env} {R : Room} {s : State} {m : MethodId} {args : Array Value} {below : List Frame} {meth : Method} {c : Code} {H : Heap} {locs : List Loc} {cells slots : Nat} {cc : ByteArray} {pc nL a : Nat} {ls : Array Slot} {rest : List Value} {G : b_G} {B0 : Nat} (CX : b_Cx p s m args c cc nL RX1 G B0) (hls : ls.size = nL) {rm : Room} {mc ms : Nat} {As st0 : List Value} {Qc : Array Value → State → Outcome → State → Prop} {XC : String → Addr → State → State → Prop} (hM : vx_Met l yX6_done (ws_ yX6_done cX6_done 1 (Option.some Jvm.ClassFile.FieldType.int)) rm (b_Pc G B0 H (.ref a :: As)) Qc XC mc ms (b_A B0)) (hn : As.length = 0) {fs : List Value} (hP : b_at G a (.inr (16, fs)) H) (hS : va_S (b_A B0) s.heap H locs) (hst : st0 = As.reverse ++ .ref a :: rest) (hr : rm.cells = mc ∧ rm.slots = ms ∧ rm.frames + 1 ≤ R.frames ∧ 8 + (1 + 11) + rm.locals ≤ R.locals) (hw : (rest.map fun v => v.category).sum ≤ 8) (hdg : decode cc pc = .ok (.invokevirtual 195, 3)) (hf : cells + mc ≤ R.cells ∧ slots + ms ≤ R.slots) : vx_Run p l e R s m args below meth c H locs cells slots mc ms (F0 m pc ls st0) rest (Qc (Value.ref a :: As).toArray) XC (b_A B0) := vx_runU CX.fix hM (va_cwU (C := RX18) (owner := RX6) 0 CX.ts (lw_U q1647 q1648 q1649 q1179 q104 q1180) rfl hr.1 hr.2.1 rfl ⟨by decide, by decide, by decide +kernel⟩ ⟨hr.2.2.1, hr.2.2.2⟩) ⟨b_blind G B0 H _, b_recv CX.K (ci := 16) rfl hP, b_pre _ CX.K hS⟩ rfl hn hls hst (lv_room hw) hdg hf
set_option maxHeartbeats 2000000 in
set_option maxRecDepth 100000 in
theorem m_X1_sort (l : Launch) {G : b_G} {B0 : Nat} {H : Heap} {τ : b_T} {A : Nat → Nat} {S : b_St} {n : Nat} {L : Nat → b_St} {tn : Nat} {t : Nat → Nat} {k : Int32} {b : Int32} (hlt : l.stackTraces = false) (hXR : XR G B0 τ A H (S, n, L, tn, t)) (hW1 : b_WF (o_sort (S, n, L, tn, t) k b).2.2.1) : vx_Met l yX1_sort (ws_ yX1_sort cX1_sort 3 (Option.some Jvm.ClassFile.FieldType.int)) ({ frames := 10, cells := 59, slots := 492, locals := 211 } : Room) (b_Pc G B0 H [.ref ((A 0)), .int k, .int b]) (b_Qi B0 (fun r H1 => o_ok1 G B0 τ A H (o_sort (S, n, L, tn, t) k b) r H1)) (b_X B0 (fun E9 q9 H9 => o_px H (S, n, L, tn, t) (o_sort (S, n, L, tn, t) k b) cl_B E9 H9)) 59 492 (b_A B0) := by
  refine b_ofX (by decide) (Nat.le_of_ble_eq_true rfl) ?_
  intro p e s m below meth c CX hr hlk htb hS ls hl
  have CX : b_Cx p s m _ c cX1_sort 3 RX1 G B0 := CX
  have hx := CX.hx
  have hb := CX.hb
  have hl : lv_has ls 3 [(0, .ref ((A 0))), (1, .int k), (2, .int b)] := hl
  generalize hQ : vx_MQ below (b_Qi B0 (fun r H1 => o_ok1 G B0 τ A H (o_sort (S, n, L, tn, t) k b) r H1)) (b_X B0 (fun E9 q9 H9 => o_px H (S, n, L, tn, t) (o_sort (S, n, L, tn, t) k b) cl_B E9 H9)) ([.ref ((A 0)), .int k, .int b] : List Value).toArray s 59 492 (b_A B0) = Q
  have hF : b_Fr τ (fun t => t < 200 ∨ 1000 ≤ t) H H := b_Fr.rf
  have hA : b_Ag τ τ H := b_Ag.rf
  have hX : b_Ext H H := b_Ext.rf
  obtain ⟨d0, c0, ids, P0, F, M, E, Z, sm, rs, se, ml, hs, bt, tk9, hc_X, hc_sv, hsa, hse, hc_tx, hc_tb, hbt, hc_tk, hL, hZ, hW, hV, hd0, hdc, hn, htn, ht⟩ := hXR
  have hc_X : b_tt G B0 τ H ((A 0)) 0 (.inr (0, [.ref ((F 0)), .ref ((A 1)), .ref ((A 3)), .ref ((A 5)), .long hs])) := hc_X
  have hc_sv : b_tt G B0 τ H ((A 1)) 1 (.inr (2, [.int sm, .ref ((if se = true then rs else G.2.2 0)), .int (nI n)])) := hc_sv
  have hsa : (se = true → b_tt G B0 τ H rs 2 (.inl (G.2.1 2, q_refs 10 (fun j => if j < n then some (P0 j) else none)))) := hsa
  have hc_tx : b_tt G B0 τ H ((A 3)) 3 (.inr (3, [.ref ((A 4)), .int (nI 0), .int ml, .int (nI tn)])) := hc_tx
  have hc_tb : b_tt G B0 τ H ((A 4)) 4 (.inl (G.2.1 1, 60, .inl bt)) := hc_tb
  have hc_tk : b_tt G B0 τ H ((A 5)) 5 (.inl (G.2.1 0, 8, .inl tk9)) := hc_tk
  have hL : LR G B0 τ d0 F M E H S Z := hL
  have hV : SV G B0 τ d0 c0 n ids P0 H L := hV
  have hn8 := hL.2.2.2.1
  have hn6 := hL.2.2.2.2
  have hnb : nb S = nb S := rfl
  have hns : ns S = ns S := rfl
  have hn : n ≤ 6 := hn
  have htn : tn ≤ 60 := htn
  have ht : ∀ j, t j < 128 := ht
  have hse : se = true ∨ n = 0 := hse
  have hZ : pZ Z S := hZ
  have hW : b_WF S := hW
  have hbt : ∀ j, j < tn → bt j = nI (t j) := hbt
  refine lv_iload_n hx hb dX1_sort_0 rfl (lv_at hl 1 rfl) ?_
  refine b_ci0 (cs_X1_80 (rest := []) CX hl.1 (m_X1_isKind l (x := k) ) rfl hS rfl ⟨rfl, rfl, Nat.le_of_ble_eq_true rfl, Nat.le_of_ble_eq_true rfl⟩ (Nat.le_of_ble_eq_true rfl) dX1_sort_1 ⟨Nat.le_of_ble_eq_true rfl, Nat.le_of_ble_eq_true rfl⟩) hS (fun locs hS => ?_)
  refine b_ifeq (tgt := 22) CX dX1_sort_4 (by decide) (fun c_4 => ?_) (fun c_4 => ?_)
  · refine lv_iconst (v := nI 0) hx hb dX1_sort_22 rfl ?_
    refine b_xv0 (cx_X1_84 (rest := []) CX hl.1 (m_X1_need l (x := nI 0) hlt) rfl hS rfl ⟨rfl, rfl, Nat.le_of_ble_eq_true rfl, Nat.le_of_ble_eq_true rfl⟩ (Nat.le_of_ble_eq_true rfl) dX1_sort_23 ⟨Nat.le_of_ble_eq_true rfl, Nat.le_of_ble_eq_true rfl⟩) hS (fun E9 q9 Hx2 locs hx9 hS he9 => ?_) (fun hk_23 locs hS => ?_)
    · rw [← hQ]
      have ho : o_sort (S, n, L, tn, t) k b = f_no 1 (S, n, L, tn, t) := by
        unfold o_sort
        try dsimp only
        repeat (first | rw [if_pos (by first | assumption | exact ⟨by assumption, by assumption⟩ | (constructor <;> omega) | omega | exact fun q => absurd q (by assumption) | exact fun q => absurd q.1 (by assumption) | exact fun q => absurd q.2 (by assumption) | exact Int32.not_lt.mpr (by assumption) | exact Int32.not_le.mp (by assumption) | exact fun q => q.2 (by assumption) | exact fun q => absurd q.1 (by omega))] | rw [if_neg (by first | assumption | exact ⟨by assumption, by assumption⟩ | (constructor <;> omega) | omega | exact fun q => absurd q (by assumption) | exact fun q => absurd q.1 (by assumption) | exact fun q => absurd q.2 (by assumption) | exact Int32.not_lt.mpr (by assumption) | exact Int32.not_le.mp (by assumption) | exact fun q => q.2 (by assumption) | exact fun q => absurd q.1 (by omega))])
      exact b_xout htb hlk he9 hS (Nat.le_of_ble_eq_true rfl) (Nat.le_of_ble_eq_true rfl) ⟨hX.tr hx9.2.2, 1, by omega, by rw [ho]; rfl, by rw [ho]; rfl, hx9.2.1⟩
    exact absurd (by decide) hk_23
  · refine lv_iload_n hx hb dX1_sort_7 rfl (lv_at hl 2 rfl) ?_
    refine lv_iconst (v := nI 1) hx hb dX1_sort_8 rfl ?_
    refine lv_sipush (v := nI 5000) hx hb dX1_sort_9 rfl ?_
    refine b_ci0 (cs_X1_73 (rest := []) CX hl.1 (m_X1_in l (x := b) (lo := nI 1) (hi := nI 5000) ) rfl hS rfl ⟨rfl, rfl, Nat.le_of_ble_eq_true rfl, Nat.le_of_ble_eq_true rfl⟩ (Nat.le_of_ble_eq_true rfl) dX1_sort_12 ⟨Nat.le_of_ble_eq_true rfl, Nat.le_of_ble_eq_true rfl⟩) hS (fun locs hS => ?_)
    refine b_ifeq (tgt := 22) CX dX1_sort_15 (by decide) (fun c_15 => ?_) (fun c_15 => ?_)
    · refine lv_iconst (v := nI 0) hx hb dX1_sort_22 rfl ?_
      refine b_xv0 (cx_X1_84 (rest := []) CX hl.1 (m_X1_need l (x := nI 0) hlt) rfl hS rfl ⟨rfl, rfl, Nat.le_of_ble_eq_true rfl, Nat.le_of_ble_eq_true rfl⟩ (Nat.le_of_ble_eq_true rfl) dX1_sort_23 ⟨Nat.le_of_ble_eq_true rfl, Nat.le_of_ble_eq_true rfl⟩) hS (fun E9 q9 Hx4 locs hx9 hS he9 => ?_) (fun hk_23 locs hS => ?_)
      · rw [← hQ]
        have ho : o_sort (S, n, L, tn, t) k b = f_no 1 (S, n, L, tn, t) := by
          unfold o_sort
          try dsimp only
          repeat (first | rw [if_pos (by first | assumption | exact ⟨by assumption, by assumption⟩ | (constructor <;> omega) | omega | exact fun q => absurd q (by assumption) | exact fun q => absurd q.1 (by assumption) | exact fun q => absurd q.2 (by assumption) | exact Int32.not_lt.mpr (by assumption) | exact Int32.not_le.mp (by assumption) | exact fun q => q.2 (by assumption) | exact fun q => absurd q.1 (by omega))] | rw [if_neg (by first | assumption | exact ⟨by assumption, by assumption⟩ | (constructor <;> omega) | omega | exact fun q => absurd q (by assumption) | exact fun q => absurd q.1 (by assumption) | exact fun q => absurd q.2 (by assumption) | exact Int32.not_lt.mpr (by assumption) | exact Int32.not_le.mp (by assumption) | exact fun q => q.2 (by assumption) | exact fun q => absurd q.1 (by omega))])
        exact b_xout htb hlk he9 hS (Nat.le_of_ble_eq_true rfl) (Nat.le_of_ble_eq_true rfl) ⟨hX.tr hx9.2.2, 1, by omega, by rw [ho]; rfl, by rw [ho]; rfl, hx9.2.1⟩
      exact absurd (by decide) hk_23
    · obtain ⟨jk, hjka, hjkb, rfl⟩ := p_rg (by decide) c_4 (by decide)
      have ejk : ix (nI jk) = jk := ix_n (by omega)
      refine lv_iconst (v := nI 1) hx hb dX1_sort_18 rfl ?_
      refine lv_goto (tgt := 23) hx hb dX1_sort_19 (by decide) ?_
      refine b_xv0 (cx_X1_84 (rest := []) CX hl.1 (m_X1_need l (x := nI 1) hlt) rfl hS rfl ⟨rfl, rfl, Nat.le_of_ble_eq_true rfl, Nat.le_of_ble_eq_true rfl⟩ (Nat.le_of_ble_eq_true rfl) dX1_sort_23 ⟨Nat.le_of_ble_eq_true rfl, Nat.le_of_ble_eq_true rfl⟩) hS (fun E9 q9 Hx5 locs hx9 hS he9 => ?_) (fun hk_23 locs hS => ?_)
      · exact absurd hx9.1 (by decide)
      refine b_new CX in_X18 tyX18 tyX18_ok (ci := 16) rfl q1630 q1631 q116 (fs := [.null, .int (nI 0), .int (nI 0), .null]) (nofn_X18) hS (Nat.le_of_ble_eq_true rfl) (Nat.le_of_ble_eq_true rfl) dX1_sort_26 (fun q6 H6 hq hB hat hsz hE hS => ?_)
      have hc_X := hc_X.new (tb := 100) hE hq
      have hc_sv := hc_sv.new (tb := 100) hE hq
      have hsa := fun h9 => (hsa h9).new (tb := 100) hE hq
      have hc_tx := hc_tx.new (tb := 100) hE hq
      have hc_tb := hc_tb.new (tb := 100) hE hq
      have hc_tk := hc_tk.new (tb := 100) hE hq
      have hL := hL.new (tb := 100) hE hq
      have hV := hV.new (tb := 100) hE hq
      have fr_dd : H.size ≤ q6 := by rw [hq]; exact hF.1
      have hX := hX.tr hE
      have hA := hA.tr (b_Ag.new (t := 100) hq) hF.1
      have hF := hF.ext hE
      have hc_dd : b_tt G B0 ((upT τ q6 100)) H6 q6 100 (.inr (16, [.null, .int (nI 0), .int (nI 0), .null])) := b_tt.mk hat hB
      refine lv_dup hx hb dX1_sort_29 rfl ?_
      refine lv_aload_n hx hb dX1_sort_30 rfl (lv_at hl 0 rfl) ?_
      refine lv_iload_n hx hb dX1_sort_31 rfl (lv_at hl 1 rfl) ?_
      refine lv_iload_n hx hb dX1_sort_32 rfl (lv_at hl 2 rfl) ?_
      refine b_cv (cs_X1_194 (rest := [.ref q6]) CX hl.1 (m_X18_init l (a := q6) (ta := 100) (ax := (A 0)) (k := jk) (w_ := b) hc_dd) rfl hS rfl ⟨rfl, rfl, Nat.le_of_ble_eq_true rfl, Nat.le_of_ble_eq_true rfl⟩ (Nat.le_of_ble_eq_true rfl) dX1_sort_33 ⟨Nat.le_of_ble_eq_true rfl, Nat.le_of_ble_eq_true rfl⟩) hS (fun H7 locs hp hS => ?_)
      obtain ⟨hu, hx0⟩ := hp
      have hc_X := hc_X.up hu hc_dd.tag (by decide)
      have hc_sv := hc_sv.up hu hc_dd.tag (by decide)
      have hsa := fun h9 => (hsa h9).up hu hc_dd.tag (by omega)
      have hc_tx := hc_tx.up hu hc_dd.tag (by decide)
      have hc_tb := hc_tb.up hu hc_dd.tag (by decide)
      have hc_tk := hc_tk.up hu hc_dd.tag (by decide)
      have hL := hL.up hu hc_dd.tag (by omega)
      have hV := hV.up hu hc_dd.tag (fun k9 h1 h2 h3 => by omega)
      have hX := hX.up hu fr_dd
      have hF := hF.up hA hu hc_dd.tag (fun q9 => absurd q9 (Nat.not_lt.mpr fr_dd))
      have hc_dd : b_tt G B0 ((upT τ q6 100)) H7 q6 100 (.inr (16, [.ref ((A 0)), .int (nI jk), .int b, .ref ((A 0))])) := hx0
      have hXR : XR G B0 ((upT τ q6 100)) A H7 (S, n, L, tn, t) := ⟨d0, c0, ids, P0, F, M, E, Z, sm, rs, se, ml, hs, bt, tk9, hc_X, hc_sv, hsa, hse, hc_tx, hc_tb, hbt, hc_tk, hL, hZ, hW, hV, hd0, hdc, hn, htn, ht⟩
      refine b_xi (cx_X1_195_16 (rest := []) CX hl.1 (m_X6_done_16 l (da := q6) (k := jk) (w_ := b) hc_dd hlt hXR (by omega) (fun h9 => by have h7 := c_lt0 (h9); have ho : o_sort (S, n, L, tn, t) (nI jk) b = f_ok (p_yard (s_sort S jk b) jk) (z_save (S, n, L, tn, t) ((s_sort S jk b))) := (by unfold o_sort; simp only [ejk]; repeat (first | rw [if_pos (by first | assumption | exact ⟨by assumption, by assumption⟩ | (constructor <;> omega) | omega | exact fun q => absurd q (by assumption) | exact fun q => absurd q.1 (by assumption) | exact fun q => absurd q.2 (by assumption) | exact Int32.not_lt.mpr (by assumption) | exact Int32.not_le.mp (by assumption) | exact fun q => q.2 (by assumption) | exact fun q => absurd q.1 (by omega))] | rw [if_neg (by first | assumption | exact ⟨by assumption, by assumption⟩ | (constructor <;> omega) | omega | exact fun q => absurd q (by assumption) | exact fun q => absurd q.1 (by assumption) | exact fun q => absurd q.2 (by assumption) | exact Int32.not_lt.mpr (by assumption) | exact Int32.not_le.mp (by assumption) | exact fun q => q.2 (by assumption) | exact fun q => absurd q.1 (by omega))])); have h8 := hW1; rw [ho] at h8; exact h8)) rfl hc_dd.at hS rfl ⟨rfl, rfl, Nat.le_of_ble_eq_true rfl, Nat.le_of_ble_eq_true rfl⟩ (Nat.le_of_ble_eq_true rfl) dX1_sort_36 ⟨Nat.le_of_ble_eq_true rfl, Nat.le_of_ble_eq_true rfl⟩) hS (fun E9 q9 Hx8 locs hx9 hS he9 => ?_) (fun r H8 locs hp hS => ?_)
      · have h7 := c_lt1 (hx9.1)
        rw [← hQ]
        have ho : o_sort (S, n, L, tn, t) (nI jk) b = f_no 2 (S, n, L, tn, t) := by
          unfold o_sort
          simp only [ejk]
          repeat (first | rw [if_pos (by first | assumption | exact ⟨by assumption, by assumption⟩ | (constructor <;> omega) | omega | exact fun q => absurd q (by assumption) | exact fun q => absurd q.1 (by assumption) | exact fun q => absurd q.2 (by assumption) | exact Int32.not_lt.mpr (by assumption) | exact Int32.not_le.mp (by assumption) | exact fun q => q.2 (by assumption) | exact fun q => absurd q.1 (by omega))] | rw [if_neg (by first | assumption | exact ⟨by assumption, by assumption⟩ | (constructor <;> omega) | omega | exact fun q => absurd q (by assumption) | exact fun q => absurd q.1 (by assumption) | exact fun q => absurd q.2 (by assumption) | exact Int32.not_lt.mpr (by assumption) | exact Int32.not_le.mp (by assumption) | exact fun q => q.2 (by assumption) | exact fun q => absurd q.1 (by omega))])
        exact b_xout htb hlk he9 hS (Nat.le_of_ble_eq_true rfl) (Nat.le_of_ble_eq_true rfl) ⟨hX.tr hx9.2.2, 2, by omega, by rw [ho]; rfl, by rw [ho]; rfl, hx9.2.1⟩
      obtain ⟨hk_36, rfl, τ8, hA9, hF9, hXR⟩ := hp
      have hc_dd := hc_dd.ca hF9 hA9 (show ¬ (100 < 10 ∨ 1000 ≤ 100) by omega)
      have hF0 := hF.tr hA hF9 (fun q9 hq9 x9 => by have x8 : τ q9 < 10 ∨ 1000 ≤ τ q9 := x9; show τ q9 < 200 ∨ 1000 ≤ τ q9; omega)
      have hA := hA.tr hA9 hF.1
      have hF := hF0
      have hXR : XR G B0 τ8 A H8 ((s_sort S jk b), (p_sn n), (p_L L S n), tn, t) := hXR
      have h7 := c_lt0 (hk_36)
      have ho : o_sort (S, n, L, tn, t) (nI jk) b = (nI 0, p_yard (s_sort S jk b) jk, ((s_sort S jk b), (p_sn n), (p_L L S n), tn, t)) := by
        unfold o_sort
        simp only [ejk]
        repeat (first | rw [if_pos (by first | assumption | exact ⟨by assumption, by assumption⟩ | (constructor <;> omega) | omega | exact fun q => absurd q (by assumption) | exact fun q => absurd q.1 (by assumption) | exact fun q => absurd q.2 (by assumption) | exact Int32.not_lt.mpr (by assumption) | exact Int32.not_le.mp (by assumption) | exact fun q => q.2 (by assumption) | exact fun q => absurd q.1 (by omega))] | rw [if_neg (by first | assumption | exact ⟨by assumption, by assumption⟩ | (constructor <;> omega) | omega | exact fun q => absurd q (by assumption) | exact fun q => absurd q.1 (by assumption) | exact fun q => absurd q.2 (by assumption) | exact Int32.not_lt.mpr (by assumption) | exact Int32.not_le.mp (by assumption) | exact fun q => q.2 (by assumption) | exact fun q => absurd q.1 (by omega))])
        first | rfl | (unfold f_ok f_no z_save;  rfl)
      rw [← hQ]
      exact vx_ret (b_iret CX hr hlk hS (Nat.le_of_ble_eq_true rfl) (Nat.le_of_ble_eq_true rfl) dX1_sort_39 ((by unfold o_ok1; rw [ho]; exact ⟨rfl, rfl, _, hA, hF, hXR⟩)))
