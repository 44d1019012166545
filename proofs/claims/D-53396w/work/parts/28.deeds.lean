/-! tries and deeds -/
set_option maxRecDepth 100000
/-- one more than there are: 1, else 0 -/
def c_lt (x n : Int32) : Int32 := if x < n then nI 1 else nI 0
/-- an order refused: why, and the shortage that is its cause -/
def r_px (G : b_G) (B0 : Nat) (H : Heap) (code : Int32) (E : String) (q : Nat) (H1 : Heap) : Prop := b_Ext H H1 ∧ E = RX22 ∧ B0 ≤ q ∧ b_fm H1 q ∧ ((code = nI 4 ∧ b_at G q (e_cell 21 .null) H1) ∨ ∃ v qc, (v = 1 ∨ v = 2 ∨ v = 3) ∧ code = nI v ∧ B0 ≤ qc ∧ ¬ qc = q ∧ b_at G q (e_cell 21 (.ref qc)) H1 ∧ b_at G qc (e_cell (17 + v) .null) H1)
theorem r_px.mv {G : b_G} {B0 : Nat} {H0 H H1 : Heap} {code : Int32} {E : String} {q : Nat} (h : r_px G B0 H code E q H1) (hE : b_Ext H0 H) : r_px G B0 H0 code E q H1 := ⟨hE.tr h.1, h.2⟩
theorem r_px.cd {G : b_G} {B0 : Nat} {H H1 : Heap} {code code1 : Int32} {E : String} {q : Nat} (h : r_px G B0 H code E q H1) (he : code = code1) : r_px G B0 H code1 E q H1 := he ▸ h
theorem cx_X2_85 {p : Program} {l : Launch} {e : Env} {R : Room} {s : State} {m : MethodId} {args : Array Value} {below : List Frame} {meth : Method} {c : Code} {H : Heap} {locs : List Loc} {cells slots : Nat} {cc : ByteArray} {pc nL : Nat} {ls : Array Slot} {rest : List Value} {G : b_G} {B0 : Nat} (CX : b_Cx p s m args c cc nL RX2 G B0) (hls : ls.size = nL) {rm : Room} {mc ms : Nat} {As st0 : List Value} {Qc : Array Value → State → Outcome → State → Prop} {XC : String → Addr → State → State → Prop} (hM : vx_Met l yX1_needBottles (ws_ yX1_needBottles cX1_needBottles 1 (Option.none)) rm (b_Pc G B0 H As) Qc XC mc ms (b_A B0)) (hn : As.length = 1) (hS : va_S (b_A B0) s.heap H locs) (hst : st0 = As.reverse ++ rest) (hr : rm.cells = mc ∧ rm.slots = ms ∧ rm.frames + 1 ≤ R.frames ∧ 8 + (1 + 11) + rm.locals ≤ R.locals) (hw : (rest.map fun v => v.category).sum ≤ 8) (hdg : decode cc pc = .ok (.invokestatic 85, 3)) (hf : cells + mc ≤ R.cells ∧ slots + ms ≤ R.slots) : vx_Run p l e R s m args below meth c H locs cells slots mc ms (F0 m pc ls st0) rest (Qc As.toArray) XC (b_A B0) := vx_runSN CX.fix hM (⟨va_cnB 1 CX.ts (lw_meth q1212) rfl hr.1 hr.2.1 (CX.K.2.1 _ q1210 rfl) (CX.ts _ q79) (by decide +kernel) ⟨hr.2.2.1, hr.2.2.2⟩, CX.ts _ q1211, trivial⟩) ⟨b_blind G B0 H _, b_pre _ CX.K hS⟩ rfl hn hls hst (lv_room hw) hdg hf
set_option maxHeartbeats 2000000 in
set_option maxRecDepth 100000 in
theorem m_X2_tryFill (l : Launch) {G : b_G} {B0 : Nat} {H : Heap} {τ : b_T} {id : Nat} {F : Nat → Nat} {M : Nat → Int32} {E : Nat → Bool} {S : b_St} {Z : Nat → Nat → Int32} {b : Nat} {w_ : Int32} (hL : LR G B0 τ id F M E H S Z) (hW : b_WF S) (hBb : b < nb S) : vx_Met l yX2_tryFill (ws_ yX2_tryFill cX2_tryFill 3 (Option.none)) ({ frames := 6, cells := 1, slots := 6, locals := 128 } : Room) (b_Pc G B0 H [.ref ((F 0)), .ref ((F (20 + b))), .int w_]) (b_Qv B0 (fun H1 => ((c_lt (S 1 b 1) w_) = nI 0) ∧ H1 = H)) (b_X B0 (fun E9 q9 H9 => e_px G B0 H (c_lt (S 1 b 1) w_) E9 q9 H9)) 1 6 (b_A B0) := by
  refine b_ofX (by decide) (Nat.le_of_ble_eq_true rfl) ?_
  intro p e s m below meth c CX hr hlk htb hS ls hl
  have CX : b_Cx p s m _ c cX2_tryFill 3 RX2 G B0 := CX
  have hx := CX.hx
  have hb := CX.hb
  have hl : lv_has ls 3 [(0, .ref ((F 0))), (1, .ref ((F (20 + b)))), (2, .int w_)] := hl
  generalize hQ : vx_MQ below (b_Qv B0 (fun H1 => ((c_lt (S 1 b 1) w_) = nI 0) ∧ H1 = H)) (b_X B0 (fun E9 q9 H9 => e_px G B0 H (c_lt (S 1 b 1) w_) E9 q9 H9)) ([.ref ((F 0)), .ref ((F (20 + b))), .int w_] : List Value).toArray s 1 6 (b_A B0) = Q
  have hX : b_Ext H H := b_Ext.rf
  have hnb : nb S = nb S := rfl
  have hns : ns S = ns S := rfl
  have hn8 := hL.2.2.2.1
  have hn6 := hL.2.2.2.2
  refine lv_aload_n hx hb dX2_tryFill_0 rfl (lv_at hl 1 rfl) ?_
  refine gf_X2_82_4 CX (hL.brand (k := b) (by omega)).at rfl dX2_tryFill_1 ?_
  refine lv_iload_n hx hb dX2_tryFill_4 rfl (lv_at hl 2 rfl) ?_
  refine lv_icmp_lt (tgt := 12) hx hb dX2_tryFill_5 (by decide) (fun c_5 => ?_) (fun c_5 => ?_)
  · refine lv_iconst (v := nI 0) hx hb dX2_tryFill_12 rfl ?_
    refine b_xv0 (cx_X2_85 (rest := []) CX hl.1 (m_X1_needBottles l (x := nI 0) ) rfl hS rfl ⟨rfl, rfl, Nat.le_of_ble_eq_true rfl, Nat.le_of_ble_eq_true rfl⟩ (Nat.le_of_ble_eq_true rfl) dX2_tryFill_13 ⟨Nat.le_of_ble_eq_true rfl, Nat.le_of_ble_eq_true rfl⟩) hS (fun E9 q9 Hx1 locs hx9 hS he9 => ?_) (fun hk_13 locs hS => ?_)
    · rw [← hQ]
      exact b_xout htb hlk he9 hS (Nat.le_of_ble_eq_true rfl) (Nat.le_of_ble_eq_true rfl) (hx9.2.cd (by unfold c_lt; rw [if_pos c_5]))
    exact absurd (by decide) hk_13
  · refine lv_iconst (v := nI 1) hx hb dX2_tryFill_8 rfl ?_
    refine lv_goto (tgt := 13) hx hb dX2_tryFill_9 (by decide) ?_
    refine b_xv0 (cx_X2_85 (rest := []) CX hl.1 (m_X1_needBottles l (x := nI 1) ) rfl hS rfl ⟨rfl, rfl, Nat.le_of_ble_eq_true rfl, Nat.le_of_ble_eq_true rfl⟩ (Nat.le_of_ble_eq_true rfl) dX2_tryFill_13 ⟨Nat.le_of_ble_eq_true rfl, Nat.le_of_ble_eq_true rfl⟩) hS (fun E9 q9 Hx2 locs hx9 hS he9 => ?_) (fun hk_13 locs hS => ?_)
    · exact absurd hx9.1 (by decide)
    rw [← hQ]
    exact vx_ret (b_vret CX hr hlk hS (Nat.le_of_ble_eq_true rfl) (Nat.le_of_ble_eq_true rfl) dX2_tryFill_16 (⟨(by unfold c_lt; rw [if_neg c_5]), rfl⟩))
set_option maxHeartbeats 2000000 in
set_option maxRecDepth 100000 in
theorem m_X2_tryLose (l : Launch) {G : b_G} {B0 : Nat} {H : Heap} {τ : b_T} {id : Nat} {F : Nat → Nat} {M : Nat → Int32} {E : Nat → Bool} {S : b_St} {Z : Nat → Nat → Int32} {b : Nat} {w_ : Int32} (hL : LR G B0 τ id F M E H S Z) (hW : b_WF S) (hBb : b < nb S) : vx_Met l yX2_tryLose (ws_ yX2_tryLose cX2_tryLose 3 (Option.none)) ({ frames := 6, cells := 1, slots := 6, locals := 128 } : Room) (b_Pc G B0 H [.ref ((F 0)), .ref ((F (20 + b))), .int w_]) (b_Qv B0 (fun H1 => ((c_lt (S 1 b 3) w_) = nI 0) ∧ H1 = H)) (b_X B0 (fun E9 q9 H9 => e_px G B0 H (c_lt (S 1 b 3) w_) E9 q9 H9)) 1 6 (b_A B0) := by
  refine b_ofX (by decide) (Nat.le_of_ble_eq_true rfl) ?_
  intro p e s m below meth c CX hr hlk htb hS ls hl
  have CX : b_Cx p s m _ c cX2_tryLose 3 RX2 G B0 := CX
  have hx := CX.hx
  have hb := CX.hb
  have hl : lv_has ls 3 [(0, .ref ((F 0))), (1, .ref ((F (20 + b)))), (2, .int w_)] := hl
  generalize hQ : vx_MQ below (b_Qv B0 (fun H1 => ((c_lt (S 1 b 3) w_) = nI 0) ∧ H1 = H)) (b_X B0 (fun E9 q9 H9 => e_px G B0 H (c_lt (S 1 b 3) w_) E9 q9 H9)) ([.ref ((F 0)), .ref ((F (20 + b))), .int w_] : List Value).toArray s 1 6 (b_A B0) = Q
  have hX : b_Ext H H := b_Ext.rf
  have hnb : nb S = nb S := rfl
  have hns : ns S = ns S := rfl
  have hn8 := hL.2.2.2.1
  have hn6 := hL.2.2.2.2
  refine lv_aload_n hx hb dX2_tryLose_0 rfl (lv_at hl 1 rfl) ?_
  refine gf_X2_129_4 CX (hL.brand (k := b) (by omega)).at rfl dX2_tryLose_1 ?_
  refine lv_iload_n hx hb dX2_tryLose_4 rfl (lv_at hl 2 rfl) ?_
  refine lv_icmp_lt (tgt := 12) hx hb dX2_tryLose_5 (by decide) (fun c_5 => ?_) (fun c_5 => ?_)
  · refine lv_iconst (v := nI 0) hx hb dX2_tryLose_12 rfl ?_
    refine b_xv0 (cx_X2_85 (rest := []) CX hl.1 (m_X1_needBottles l (x := nI 0) ) rfl hS rfl ⟨rfl, rfl, Nat.le_of_ble_eq_true rfl, Nat.le_of_ble_eq_true rfl⟩ (Nat.le_of_ble_eq_true rfl) dX2_tryLose_13 ⟨Nat.le_of_ble_eq_true rfl, Nat.le_of_ble_eq_true rfl⟩) hS (fun E9 q9 Hx1 locs hx9 hS he9 => ?_) (fun hk_13 locs hS => ?_)
    · rw [← hQ]
      exact b_xout htb hlk he9 hS (Nat.le_of_ble_eq_true rfl) (Nat.le_of_ble_eq_true rfl) (hx9.2.cd (by unfold c_lt; rw [if_pos c_5]))
    exact absurd (by decide) hk_13
  · refine lv_iconst (v := nI 1) hx hb dX2_tryLose_8 rfl ?_
    refine lv_goto (tgt := 13) hx hb dX2_tryLose_9 (by decide) ?_
    refine b_xv0 (cx_X2_85 (rest := []) CX hl.1 (m_X1_needBottles l (x := nI 1) ) rfl hS rfl ⟨rfl, rfl, Nat.le_of_ble_eq_true rfl, Nat.le_of_ble_eq_true rfl⟩ (Nat.le_of_ble_eq_true rfl) dX2_tryLose_13 ⟨Nat.le_of_ble_eq_true rfl, Nat.le_of_ble_eq_true rfl⟩) hS (fun E9 q9 Hx2 locs hx9 hS he9 => ?_) (fun hk_13 locs hS => ?_)
    · exact absurd hx9.1 (by decide)
    rw [← hQ]
    exact vx_ret (b_vret CX hr hlk hS (Nat.le_of_ble_eq_true rfl) (Nat.le_of_ble_eq_true rfl) dX2_tryLose_16 (⟨(by unfold c_lt; rw [if_neg c_5]), rfl⟩))
set_option maxHeartbeats 2000000 in
set_option maxRecDepth 100000 in
theorem m_X2_trySwap (l : Launch) {G : b_G} {B0 : Nat} {H : Heap} {τ : b_T} {id : Nat} {F : Nat → Nat} {M : Nat → Int32} {E : Nat → Bool} {S : b_St} {Z : Nat → Nat → Int32} {b : Nat} {w_ : Int32} (hL : LR G B0 τ id F M E H S Z) (hW : b_WF S) (hBb : b < nb S) : vx_Met l yX2_trySwap (ws_ yX2_trySwap cX2_trySwap 3 (Option.none)) ({ frames := 6, cells := 1, slots := 6, locals := 128 } : Room) (b_Pc G B0 H [.ref ((F 0)), .ref ((F (20 + b))), .int w_]) (b_Qv B0 (fun H1 => ((c_lt (S 1 b 1) w_) = nI 0) ∧ H1 = H)) (b_X B0 (fun E9 q9 H9 => e_px G B0 H (c_lt (S 1 b 1) w_) E9 q9 H9)) 1 6 (b_A B0) := by
  refine b_ofX (by decide) (Nat.le_of_ble_eq_true rfl) ?_
  intro p e s m below meth c CX hr hlk htb hS ls hl
  have CX : b_Cx p s m _ c cX2_trySwap 3 RX2 G B0 := CX
  have hx := CX.hx
  have hb := CX.hb
  have hl : lv_has ls 3 [(0, .ref ((F 0))), (1, .ref ((F (20 + b)))), (2, .int w_)] := hl
  generalize hQ : vx_MQ below (b_Qv B0 (fun H1 => ((c_lt (S 1 b 1) w_) = nI 0) ∧ H1 = H)) (b_X B0 (fun E9 q9 H9 => e_px G B0 H (c_lt (S 1 b 1) w_) E9 q9 H9)) ([.ref ((F 0)), .ref ((F (20 + b))), .int w_] : List Value).toArray s 1 6 (b_A B0) = Q
  have hX : b_Ext H H := b_Ext.rf
  have hnb : nb S = nb S := rfl
  have hns : ns S = ns S := rfl
  have hn8 := hL.2.2.2.1
  have hn6 := hL.2.2.2.2
  refine lv_aload_n hx hb dX2_trySwap_0 rfl (lv_at hl 1 rfl) ?_
  refine gf_X2_82_4 CX (hL.brand (k := b) (by omega)).at rfl dX2_trySwap_1 ?_
  refine lv_iload_n hx hb dX2_trySwap_4 rfl (lv_at hl 2 rfl) ?_
  refine lv_icmp_lt (tgt := 12) hx hb dX2_trySwap_5 (by decide) (fun c_5 => ?_) (fun c_5 => ?_)
  · refine lv_iconst (v := nI 0) hx hb dX2_trySwap_12 rfl ?_
    refine b_xv0 (cx_X2_85 (rest := []) CX hl.1 (m_X1_needBottles l (x := nI 0) ) rfl hS rfl ⟨rfl, rfl, Nat.le_of_ble_eq_true rfl, Nat.le_of_ble_eq_true rfl⟩ (Nat.le_of_ble_eq_true rfl) dX2_trySwap_13 ⟨Nat.le_of_ble_eq_true rfl, Nat.le_of_ble_eq_true rfl⟩) hS (fun E9 q9 Hx1 locs hx9 hS he9 => ?_) (fun hk_13 locs hS => ?_)
    · rw [← hQ]
      exact b_xout htb hlk he9 hS (Nat.le_of_ble_eq_true rfl) (Nat.le_of_ble_eq_true rfl) (hx9.2.cd (by unfold c_lt; rw [if_pos c_5]))
    exact absurd (by decide) hk_13
  · refine lv_iconst (v := nI 1) hx hb dX2_trySwap_8 rfl ?_
    refine lv_goto (tgt := 13) hx hb dX2_trySwap_9 (by decide) ?_
    refine b_xv0 (cx_X2_85 (rest := []) CX hl.1 (m_X1_needBottles l (x := nI 1) ) rfl hS rfl ⟨rfl, rfl, Nat.le_of_ble_eq_true rfl, Nat.le_of_ble_eq_true rfl⟩ (Nat.le_of_ble_eq_true rfl) dX2_trySwap_13 ⟨Nat.le_of_ble_eq_true rfl, Nat.le_of_ble_eq_true rfl⟩) hS (fun E9 q9 Hx2 locs hx9 hS he9 => ?_) (fun hk_13 locs hS => ?_)
    · exact absurd hx9.1 (by decide)
    rw [← hQ]
    exact vx_ret (b_vret CX hr hlk hS (Nat.le_of_ble_eq_true rfl) (Nat.le_of_ble_eq_true rfl) dX2_trySwap_16 (⟨(by unfold c_lt; rw [if_neg c_5]), rfl⟩))
set_option maxHeartbeats 2000000 in
set_option maxRecDepth 100000 in
theorem m_X2_trySort (l : Launch) {G : b_G} {B0 : Nat} {H : Heap} {τ : b_T} {id : Nat} {F : Nat → Nat} {M : Nat → Int32} {E : Nat → Bool} {S : b_St} {Z : Nat → Nat → Int32} {k : Nat} {w_ : Int32} (hL : LR G B0 τ id F M E H S Z) (hW : b_WF S) (hk : k < 3) : vx_Met l yX2_trySort (ws_ yX2_trySort cX2_trySort 3 (Option.none)) ({ frames := 6, cells := 1, slots := 6, locals := 128 } : Room) (b_Pc G B0 H [.ref ((F 0)), .int (nI k), .int w_]) (b_Qv B0 (fun H1 => ((c_lt (p_yard S k) w_) = nI 0) ∧ H1 = H)) (b_X B0 (fun E9 q9 H9 => e_px G B0 H (c_lt (p_yard S k) w_) E9 q9 H9)) 1 6 (b_A B0) := by
  refine b_ofX (by decide) (Nat.le_of_ble_eq_true rfl) ?_
  intro p e s m below meth c CX hr hlk htb hS ls hl
  have CX : b_Cx p s m _ c cX2_trySort 3 RX2 G B0 := CX
  have hx := CX.hx
  have hb := CX.hb
  have hl : lv_has ls 3 [(0, .ref ((F 0))), (1, .int (nI k)), (2, .int w_)] := hl
  generalize hQ : vx_MQ below (b_Qv B0 (fun H1 => ((c_lt (p_yard S k) w_) = nI 0) ∧ H1 = H)) (b_X B0 (fun E9 q9 H9 => e_px G B0 H (c_lt (p_yard S k) w_) E9 q9 H9)) ([.ref ((F 0)), .int (nI k), .int w_] : List Value).toArray s 1 6 (b_A B0) = Q
  have hX : b_Ext H H := b_Ext.rf
  have hnb : nb S = nb S := rfl
  have hns : ns S = ns S := rfl
  have hn8 := hL.2.2.2.1
  have hn6 := hL.2.2.2.2
  refine lv_aload_n hx hb dX2_trySort_0 rfl (lv_at hl 0 rfl) ?_
  refine lv_iload_n hx hb dX2_trySort_1 rfl (lv_at hl 1 rfl) ?_
  refine b_ci0 (cs_X2_160 (rest := []) CX hl.1 (m_X2_inYard l (k := k) hL hW (by omega)) rfl rfl rfl hL.loop.at hS rfl ⟨rfl, rfl, Nat.le_of_ble_eq_true rfl, Nat.le_of_ble_eq_true rfl⟩ (Nat.le_of_ble_eq_true rfl) dX2_trySort_2 ⟨Nat.le_of_ble_eq_true rfl, Nat.le_of_ble_eq_true rfl⟩) hS (fun locs hS => ?_)
  refine lv_iload_n hx hb dX2_trySort_5 rfl (lv_at hl 2 rfl) ?_
  refine lv_icmp_lt (tgt := 13) hx hb dX2_trySort_6 (by decide) (fun c_6 => ?_) (fun c_6 => ?_)
  · refine lv_iconst (v := nI 0) hx hb dX2_trySort_13 rfl ?_
    refine b_xv0 (cx_X2_85 (rest := []) CX hl.1 (m_X1_needBottles l (x := nI 0) ) rfl hS rfl ⟨rfl, rfl, Nat.le_of_ble_eq_true rfl, Nat.le_of_ble_eq_true rfl⟩ (Nat.le_of_ble_eq_true rfl) dX2_trySort_14 ⟨Nat.le_of_ble_eq_true rfl, Nat.le_of_ble_eq_true rfl⟩) hS (fun E9 q9 Hx1 locs hx9 hS he9 => ?_) (fun hk_14 locs hS => ?_)
    · rw [← hQ]
      exact b_xout htb hlk he9 hS (Nat.le_of_ble_eq_true rfl) (Nat.le_of_ble_eq_true rfl) (hx9.2.cd (by unfold c_lt; rw [if_pos c_6]))
    exact absurd (by decide) hk_14
  · refine lv_iconst (v := nI 1) hx hb dX2_trySort_9 rfl ?_
    refine lv_goto (tgt := 14) hx hb dX2_trySort_10 (by decide) ?_
    refine b_xv0 (cx_X2_85 (rest := []) CX hl.1 (m_X1_needBottles l (x := nI 1) ) rfl hS rfl ⟨rfl, rfl, Nat.le_of_ble_eq_true rfl, Nat.le_of_ble_eq_true rfl⟩ (Nat.le_of_ble_eq_true rfl) dX2_trySort_14 ⟨Nat.le_of_ble_eq_true rfl, Nat.le_of_ble_eq_true rfl⟩) hS (fun E9 q9 Hx2 locs hx9 hS he9 => ?_) (fun hk_14 locs hS => ?_)
    · exact absurd hx9.1 (by decide)
    rw [← hQ]
    exact vx_ret (b_vret CX hr hlk hS (Nat.le_of_ble_eq_true rfl) (Nat.le_of_ble_eq_true rfl) dX2_trySort_17 (⟨(by unfold c_lt; rw [if_neg c_6]), rfl⟩))
set_option maxHeartbeats 2000000 in
set_option maxRecDepth 100000 in
theorem m_X2_trySell (l : Launch) {G : b_G} {B0 : Nat} {H : Heap} {τ : b_T} {id : Nat} {F : Nat → Nat} {M : Nat → Int32} {E : Nat → Bool} {S : b_St} {Z : Nat → Nat → Int32} {b : Nat} {s_ : Nat} {w_ : Int32} (hL : LR G B0 τ id F M E H S Z) (hW : b_WF S) (hBb : b < nb S) (hSs_ : s_ < ns S) : vx_Met l yX2_trySell (ws_ yX2_trySell cX2_trySell 4 (Option.none)) ({ frames := 6, cells := 1, slots := 6, locals := 128 } : Room) (b_Pc G B0 H [.ref ((F 0)), .int (nI b), .ref ((F (30 + s_))), .int w_]) (b_Qv B0 (fun H1 => ((a_sell S s_ b w_) = nI 0) ∧ H1 = H)) (b_X B0 (fun E9 q9 H9 => e_px G B0 H (a_sell S s_ b w_) E9 q9 H9)) 1 6 (b_A B0) := by
  refine b_ofX (by decide) (Nat.le_of_ble_eq_true rfl) ?_
  intro p e s m below meth c CX hr hlk htb hS ls hl
  have CX : b_Cx p s m _ c cX2_trySell 4 RX2 G B0 := CX
  have hx := CX.hx
  have hb := CX.hb
  have hl : lv_has ls 4 [(0, .ref ((F 0))), (1, .int (nI b)), (2, .ref ((F (30 + s_)))), (3, .int w_)] := hl
  generalize hQ : vx_MQ below (b_Qv B0 (fun H1 => ((a_sell S s_ b w_) = nI 0) ∧ H1 = H)) (b_X B0 (fun E9 q9 H9 => e_px G B0 H (a_sell S s_ b w_) E9 q9 H9)) ([.ref ((F 0)), .int (nI b), .ref ((F (30 + s_))), .int w_] : List Value).toArray s 1 6 (b_A B0) = Q
  have hX : b_Ext H H := b_Ext.rf
  have hnb : nb S = nb S := rfl
  have hns : ns S = ns S := rfl
  have hn8 := hL.2.2.2.1
  have hn6 := hL.2.2.2.2
  refine lv_aload_n hx hb dX2_trySell_0 rfl (lv_at hl 2 rfl) ?_
  refine gf_X2_118_5 CX (hL.shop (k := s_) (by omega)).at rfl dX2_trySell_1 ?_
  refine lv_iload_n hx hb dX2_trySell_4 rfl (lv_at hl 1 rfl) ?_
  refine b_ild CX (hL.full (k := s_) (by omega)).at (x := S 4 s_ b) (vp_in_nI (by omega) (by omega)) (b_at_nI (f := (fun j => S 4 s_ j)) (n := b) (by omega) rfl) dX2_trySell_5 ?_
  refine lv_iload_n hx hb dX2_trySell_6 rfl (lv_at hl 3 rfl) ?_
  refine lv_icmp_lt (tgt := 14) hx hb dX2_trySell_7 (by decide) (fun c_7 => ?_) (fun c_7 => ?_)
  · refine lv_iconst (v := nI 0) hx hb dX2_trySell_14 rfl ?_
    refine b_xv0 (cx_X2_85 (rest := []) CX hl.1 (m_X1_needBottles l (x := nI 0) ) rfl hS rfl ⟨rfl, rfl, Nat.le_of_ble_eq_true rfl, Nat.le_of_ble_eq_true rfl⟩ (Nat.le_of_ble_eq_true rfl) dX2_trySell_15 ⟨Nat.le_of_ble_eq_true rfl, Nat.le_of_ble_eq_true rfl⟩) hS (fun E9 q9 Hx1 locs hx9 hS he9 => ?_) (fun hk_15 locs hS => ?_)
    · rw [← hQ]
      exact b_xout htb hlk he9 hS (Nat.le_of_ble_eq_true rfl) (Nat.le_of_ble_eq_true rfl) (hx9.2.cd (by unfold a_sell; rw [if_pos c_7]))
    exact absurd (by decide) hk_15
  · refine lv_iconst (v := nI 1) hx hb dX2_trySell_10 rfl ?_
    refine lv_goto (tgt := 15) hx hb dX2_trySell_11 (by decide) ?_
    refine b_xv0 (cx_X2_85 (rest := []) CX hl.1 (m_X1_needBottles l (x := nI 1) ) rfl hS rfl ⟨rfl, rfl, Nat.le_of_ble_eq_true rfl, Nat.le_of_ble_eq_true rfl⟩ (Nat.le_of_ble_eq_true rfl) dX2_trySell_15 ⟨Nat.le_of_ble_eq_true rfl, Nat.le_of_ble_eq_true rfl⟩) hS (fun E9 q9 Hx2 locs hx9 hS he9 => ?_) (fun hk_15 locs hS => ?_)
    · exact absurd hx9.1 (by decide)
    rw [← hQ]
    exact vx_ret (b_vret CX hr hlk hS (Nat.le_of_ble_eq_true rfl) (Nat.le_of_ble_eq_true rfl) dX2_trySell_18 (⟨(by unfold a_sell; rw [if_neg c_7]), rfl⟩))
set_option maxHeartbeats 2000000 in
set_option maxRecDepth 100000 in
theorem m_X2_tryBreak (l : Launch) {G : b_G} {B0 : Nat} {H : Heap} {τ : b_T} {id : Nat} {F : Nat → Nat} {M : Nat → Int32} {E : Nat → Bool} {S : b_St} {Z : Nat → Nat → Int32} {b : Nat} {s_ : Nat} {w_ : Int32} (hL : LR G B0 τ id F M E H S Z) (hW : b_WF S) (hBb : b < nb S) (hSs_ : s_ < ns S) : vx_Met l yX2_tryBreak (ws_ yX2_tryBreak cX2_tryBreak 4 (Option.none)) ({ frames := 6, cells := 1, slots := 6, locals := 128 } : Room) (b_Pc G B0 H [.ref ((F 0)), .int (nI b), .ref ((F (30 + s_))), .int w_]) (b_Qv B0 (fun H1 => ((a_break S s_ b w_) = nI 0) ∧ H1 = H)) (b_X B0 (fun E9 q9 H9 => e_px G B0 H (a_break S s_ b w_) E9 q9 H9)) 1 6 (b_A B0) := by
  refine b_ofX (by decide) (Nat.le_of_ble_eq_true rfl) ?_
  intro p e s m below meth c CX hr hlk htb hS ls hl
  have CX : b_Cx p s m _ c cX2_tryBreak 4 RX2 G B0 := CX
  have hx := CX.hx
  have hb := CX.hb
  have hl : lv_has ls 4 [(0, .ref ((F 0))), (1, .int (nI b)), (2, .ref ((F (30 + s_)))), (3, .int w_)] := hl
  generalize hQ : vx_MQ below (b_Qv B0 (fun H1 => ((a_break S s_ b w_) = nI 0) ∧ H1 = H)) (b_X B0 (fun E9 q9 H9 => e_px G B0 H (a_break S s_ b w_) E9 q9 H9)) ([.ref ((F 0)), .int (nI b), .ref ((F (30 + s_))), .int w_] : List Value).toArray s 1 6 (b_A B0) = Q
  have hX : b_Ext H H := b_Ext.rf
  have hnb : nb S = nb S := rfl
  have hns : ns S = ns S := rfl
  have hn8 := hL.2.2.2.1
  have hn6 := hL.2.2.2.2
  refine lv_aload_n hx hb dX2_tryBreak_0 rfl (lv_at hl 2 rfl) ?_
  refine gf_X2_135_5 CX (hL.shop (k := s_) (by omega)).at rfl dX2_tryBreak_1 ?_
  refine lv_iload_n hx hb dX2_tryBreak_4 rfl (lv_at hl 1 rfl) ?_
  refine b_ild CX (hL.empt (k := s_) (by omega)).at (x := S 5 s_ b) (vp_in_nI (by omega) (by omega)) (b_at_nI (f := (fun j => S 5 s_ j)) (n := b) (by omega) rfl) dX2_tryBreak_5 ?_
  refine lv_iload_n hx hb dX2_tryBreak_6 rfl (lv_at hl 3 rfl) ?_
  refine lv_icmp_lt (tgt := 14) hx hb dX2_tryBreak_7 (by decide) (fun c_7 => ?_) (fun c_7 => ?_)
  · refine lv_iconst (v := nI 0) hx hb dX2_tryBreak_14 rfl ?_
    refine b_xv0 (cx_X2_85 (rest := []) CX hl.1 (m_X1_needBottles l (x := nI 0) ) rfl hS rfl ⟨rfl, rfl, Nat.le_of_ble_eq_true rfl, Nat.le_of_ble_eq_true rfl⟩ (Nat.le_of_ble_eq_true rfl) dX2_tryBreak_15 ⟨Nat.le_of_ble_eq_true rfl, Nat.le_of_ble_eq_true rfl⟩) hS (fun E9 q9 Hx1 locs hx9 hS he9 => ?_) (fun hk_15 locs hS => ?_)
    · rw [← hQ]
      exact b_xout htb hlk he9 hS (Nat.le_of_ble_eq_true rfl) (Nat.le_of_ble_eq_true rfl) (hx9.2.cd (by unfold a_break; rw [if_pos c_7]))
    exact absurd (by decide) hk_15
  · refine lv_iconst (v := nI 1) hx hb dX2_tryBreak_10 rfl ?_
    refine lv_goto (tgt := 15) hx hb dX2_tryBreak_11 (by decide) ?_
    refine b_xv0 (cx_X2_85 (rest := []) CX hl.1 (m_X1_needBottles l (x := nI 1) ) rfl hS rfl ⟨rfl, rfl, Nat.le_of_ble_eq_true rfl, Nat.le_of_ble_eq_true rfl⟩ (Nat.le_of_ble_eq_true rfl) dX2_tryBreak_15 ⟨Nat.le_of_ble_eq_true rfl, Nat.le_of_ble_eq_true rfl⟩) hS (fun E9 q9 Hx2 locs hx9 hS he9 => ?_) (fun hk_15 locs hS => ?_)
    · exact absurd hx9.1 (by decide)
    rw [← hQ]
    exact vx_ret (b_vret CX hr hlk hS (Nat.le_of_ble_eq_true rfl) (Nat.le_of_ble_eq_true rfl) dX2_tryBreak_18 (⟨(by unfold a_break; rw [if_neg c_7]), rfl⟩))
theorem cx_X2_115 {p : Program} {l : Launch} {e : Env} {R : Room} {s : State} {m : MethodId} {args : Array Value} {below : List Frame} {meth : Method} {c : Code} {H : Heap} {locs : List Loc} {cells slots : Nat} {cc : ByteArray} {pc nL : Nat} {ls : Array Slot} {rest : List Value} {G : b_G} {B0 : Nat} (CX : b_Cx p s m args c cc nL RX2 G B0) (hls : ls.size = nL) {rm : Room} {mc ms : Nat} {As st0 : List Value} {Qc : Array Value → State → Outcome → State → Prop} {XC : String → Addr → State → State → Prop} (hM : vx_Met l yX1_needMoney (ws_ yX1_needMoney cX1_needMoney 1 (Option.none)) rm (b_Pc G B0 H As) Qc XC mc ms (b_A B0)) (hn : As.length = 1) (hS : va_S (b_A B0) s.heap H locs) (hst : st0 = As.reverse ++ rest) (hr : rm.cells = mc ∧ rm.slots = ms ∧ rm.frames + 1 ≤ R.frames ∧ 8 + (1 + 11) + rm.locals ≤ R.locals) (hw : (rest.map fun v => v.category).sum ≤ 8) (hdg : decode cc pc = .ok (.invokestatic 115, 3)) (hf : cells + mc ≤ R.cells ∧ slots + ms ≤ R.slots) : vx_Run p l e R s m args below meth c H locs cells slots mc ms (F0 m pc ls st0) rest (Qc As.toArray) XC (b_A B0) := vx_runSN CX.fix hM (⟨va_cnB 1 CX.ts (lw_meth q1258) rfl hr.1 hr.2.1 (CX.K.2.1 _ q1256 rfl) (CX.ts _ q79) (by decide +kernel) ⟨hr.2.2.1, hr.2.2.2⟩, CX.ts _ q1257, trivial⟩) ⟨b_blind G B0 H _, b_pre _ CX.K hS⟩ rfl hn hls hst (lv_room hw) hdg hf
set_option maxHeartbeats 2000000 in
set_option maxRecDepth 100000 in
theorem m_X2_tryTake (l : Launch) {G : b_G} {B0 : Nat} {H : Heap} {τ : b_T} {id : Nat} {F : Nat → Nat} {M : Nat → Int32} {E : Nat → Bool} {S : b_St} {Z : Nat → Nat → Int32} {b : Nat} {s_ : Nat} {w_ : Int32} (hL : LR G B0 τ id F M E H S Z) (hW : b_WF S) (hBb : b < nb S) (hSs_ : s_ < ns S) : vx_Met l yX2_tryTake (ws_ yX2_tryTake cX2_tryTake 4 (Option.none)) ({ frames := 6, cells := 2, slots := 12, locals := 128 } : Room) (b_Pc G B0 H [.ref ((F 0)), .int (nI b), .ref ((F (30 + s_))), .int w_]) (b_Qv B0 (fun H1 => ((a_take S s_ b w_) = nI 0) ∧ H1 = H)) (b_X B0 (fun E9 q9 H9 => e_px G B0 H (a_take S s_ b w_) E9 q9 H9)) 2 12 (b_A B0) := by
  refine b_ofX (by decide) (Nat.le_of_ble_eq_true rfl) ?_
  intro p e s m below meth c CX hr hlk htb hS ls hl
  have CX : b_Cx p s m _ c cX2_tryTake 4 RX2 G B0 := CX
  have hx := CX.hx
  have hb := CX.hb
  have hl : lv_has ls 4 [(0, .ref ((F 0))), (1, .int (nI b)), (2, .ref ((F (30 + s_)))), (3, .int w_)] := hl
  generalize hQ : vx_MQ below (b_Qv B0 (fun H1 => ((a_take S s_ b w_) = nI 0) ∧ H1 = H)) (b_X B0 (fun E9 q9 H9 => e_px G B0 H (a_take S s_ b w_) E9 q9 H9)) ([.ref ((F 0)), .int (nI b), .ref ((F (30 + s_))), .int w_] : List Value).toArray s 2 12 (b_A B0) = Q
  have hX : b_Ext H H := b_Ext.rf
  have hnb : nb S = nb S := rfl
  have hns : ns S = ns S := rfl
  have hn8 := hL.2.2.2.1
  have hn6 := hL.2.2.2.2
  refine lv_aload_n hx hb dX2_tryTake_0 rfl (lv_at hl 0 rfl) ?_
  refine gf_X2_12_1 CX hL.loop.at rfl dX2_tryTake_1 ?_
  refine lv_iload_n hx hb dX2_tryTake_4 rfl (lv_at hl 1 rfl) ?_
  refine b_cq0 (cs_X2_35 (rest := []) CX hl.1 (m_J2_get l (a := (F 1)) (ta := 1000 * id + 1) (mc := M 1) (ra := (F 2)) (tr := 1000 * id + 2) (f := (fun j => F (20 + j))) (n := nb S) (i := b) (hL.alg1 hW (by omega)) (hL.arg2 (by omega)) (by omega) (by omega)) rfl rfl rfl (hL.alg1 hW (by omega)).at hS rfl ⟨rfl, rfl, Nat.le_of_ble_eq_true rfl, Nat.le_of_ble_eq_true rfl⟩ (Nat.le_of_ble_eq_true rfl) dX2_tryTake_5 ⟨Nat.le_of_ble_eq_true rfl, Nat.le_of_ble_eq_true rfl⟩) hS (fun locs hS => ?_)
  refine b_cast CX (ci := 4) rfl (hL.brand (k := b) (by omega)).at q897 dX2_tryTake_8 ?_
  refine gf_X2_129_4 CX (hL.brand (k := b) (by omega)).at rfl dX2_tryTake_11 ?_
  refine lv_iload_n hx hb dX2_tryTake_14 rfl (lv_at hl 3 rfl) ?_
  refine lv_icmp_lt (tgt := 22) hx hb dX2_tryTake_15 (by decide) (fun c_15 => ?_) (fun c_15 => ?_)
  · refine lv_iconst (v := nI 0) hx hb dX2_tryTake_22 rfl ?_
    refine b_xv0 (cx_X2_85 (rest := []) CX hl.1 (m_X1_needBottles l (x := nI 0) ) rfl hS rfl ⟨rfl, rfl, Nat.le_of_ble_eq_true rfl, Nat.le_of_ble_eq_true rfl⟩ (Nat.le_of_ble_eq_true rfl) dX2_tryTake_23 ⟨Nat.le_of_ble_eq_true rfl, Nat.le_of_ble_eq_true rfl⟩) hS (fun E9 q9 Hx1 locs hx9 hS he9 => ?_) (fun hk_23 locs hS => ?_)
    · rw [← hQ]
      exact b_xout htb hlk he9 hS (Nat.le_of_ble_eq_true rfl) (Nat.le_of_ble_eq_true rfl) (hx9.2.cd (by unfold a_take; rw [if_pos c_15]))
    exact absurd (by decide) hk_23
  · refine lv_iconst (v := nI 1) hx hb dX2_tryTake_18 rfl ?_
    refine lv_goto (tgt := 23) hx hb dX2_tryTake_19 (by decide) ?_
    refine b_xv0 (cx_X2_85 (rest := []) CX hl.1 (m_X1_needBottles l (x := nI 1) ) rfl hS rfl ⟨rfl, rfl, Nat.le_of_ble_eq_true rfl, Nat.le_of_ble_eq_true rfl⟩ (Nat.le_of_ble_eq_true rfl) dX2_tryTake_23 ⟨Nat.le_of_ble_eq_true rfl, Nat.le_of_ble_eq_true rfl⟩) hS (fun E9 q9 Hx2 locs hx9 hS he9 => ?_) (fun hk_23 locs hS => ?_)
    · exact absurd hx9.1 (by decide)
    refine lv_aload_n hx hb dX2_tryTake_26 rfl (lv_at hl 2 rfl) ?_
    refine gf_X2_109_5 CX (hL.shop (k := s_) (by omega)).at rfl dX2_tryTake_27 ?_
    refine lv_iload_n hx hb dX2_tryTake_30 rfl (lv_at hl 3 rfl) ?_
    refine lv_aload_n hx hb dX2_tryTake_31 rfl (lv_at hl 0 rfl) ?_
    refine lv_aload_n hx hb dX2_tryTake_32 rfl (lv_at hl 0 rfl) ?_
    refine gf_X2_12_1 CX hL.loop.at rfl dX2_tryTake_33 ?_
    refine lv_iload_n hx hb dX2_tryTake_36 rfl (lv_at hl 1 rfl) ?_
    refine b_cq0 (cs_X2_35 (rest := [.ref ((F 0)), .int w_, .int (S 2 s_ 0)]) CX hl.1 (m_J2_get l (a := (F 1)) (ta := 1000 * id + 1) (mc := M 1) (ra := (F 2)) (tr := 1000 * id + 2) (f := (fun j => F (20 + j))) (n := nb S) (i := b) (hL.alg1 hW (by omega)) (hL.arg2 (by omega)) (by omega) (by omega)) rfl rfl rfl (hL.alg1 hW (by omega)).at hS rfl ⟨rfl, rfl, Nat.le_of_ble_eq_true rfl, Nat.le_of_ble_eq_true rfl⟩ (Nat.le_of_ble_eq_true rfl) dX2_tryTake_37 ⟨Nat.le_of_ble_eq_true rfl, Nat.le_of_ble_eq_true rfl⟩) hS (fun locs hS => ?_)
    refine b_cast CX (ci := 4) rfl (hL.brand (k := b) (by omega)).at q897 dX2_tryTake_40 ?_
    refine b_ci0 (cs_X2_99 (rest := [.int w_, .int (S 2 s_ 0)]) CX hl.1 (m_X2_deposit l (b := b) hL hW (by omega)) rfl rfl rfl hL.loop.at hS rfl ⟨rfl, rfl, Nat.le_of_ble_eq_true rfl, Nat.le_of_ble_eq_true rfl⟩ (Nat.le_of_ble_eq_true rfl) dX2_tryTake_43 ⟨Nat.le_of_ble_eq_true rfl, Nat.le_of_ble_eq_true rfl⟩) hS (fun locs hS => ?_)
    refine lv_imul hx hb dX2_tryTake_46 ?_
    refine lv_icmp_lt (tgt := 54) hx hb dX2_tryTake_47 (by decide) (fun c_47 => ?_) (fun c_47 => ?_)
    · refine lv_iconst (v := nI 0) hx hb dX2_tryTake_54 rfl ?_
      refine b_xv0 (cx_X2_115 (rest := []) CX hl.1 (m_X1_needMoney l (x := nI 0) ) rfl hS rfl ⟨rfl, rfl, Nat.le_of_ble_eq_true rfl, Nat.le_of_ble_eq_true rfl⟩ (Nat.le_of_ble_eq_true rfl) dX2_tryTake_55 ⟨Nat.le_of_ble_eq_true rfl, Nat.le_of_ble_eq_true rfl⟩) hS (fun E9 q9 Hx3 locs hx9 hS he9 => ?_) (fun hk_55 locs hS => ?_)
      · rw [← hQ]
        exact b_xout htb hlk he9 hS (Nat.le_of_ble_eq_true rfl) (Nat.le_of_ble_eq_true rfl) (hx9.2.cd (by unfold a_take; rw [if_neg c_15, if_pos c_47]))
      exact absurd (by decide) hk_55
    · refine lv_iconst (v := nI 1) hx hb dX2_tryTake_50 rfl ?_
      refine lv_goto (tgt := 55) hx hb dX2_tryTake_51 (by decide) ?_
      refine b_xv0 (cx_X2_115 (rest := []) CX hl.1 (m_X1_needMoney l (x := nI 1) ) rfl hS rfl ⟨rfl, rfl, Nat.le_of_ble_eq_true rfl, Nat.le_of_ble_eq_true rfl⟩ (Nat.le_of_ble_eq_true rfl) dX2_tryTake_55 ⟨Nat.le_of_ble_eq_true rfl, Nat.le_of_ble_eq_true rfl⟩) hS (fun E9 q9 Hx4 locs hx9 hS he9 => ?_) (fun hk_55 locs hS => ?_)
      · exact absurd hx9.1 (by decide)
      rw [← hQ]
      exact vx_ret (b_vret CX hr hlk hS (Nat.le_of_ble_eq_true rfl) (Nat.le_of_ble_eq_true rfl) dX2_tryTake_58 (⟨(by unfold a_take; rw [if_neg c_15, if_neg c_47]), rfl⟩))
theorem cx_X2_106 {p : Program} {l : Launch} {e : Env} {R : Room} {s : State} {m : MethodId} {args : Array Value} {below : List Frame} {meth : Method} {c : Code} {H : Heap} {locs : List Loc} {cells slots : Nat} {cc : ByteArray} {pc nL : Nat} {ls : Array Slot} {rest : List Value} {G : b_G} {B0 : Nat} (CX : b_Cx p s m args c cc nL RX2 G B0) (hls : ls.size = nL) {rm : Room} {mc ms : Nat} {As st0 : List Value} {Qc : Array Value → State → Outcome → State → Prop} {XC : String → Addr → State → State → Prop} (hM : vx_Met l yX1_needCrates (ws_ yX1_needCrates cX1_needCrates 1 (Option.none)) rm (b_Pc G B0 H As) Qc XC mc ms (b_A B0)) (hn : As.length = 1) (hS : va_S (b_A B0) s.heap H locs) (hst : st0 = As.reverse ++ rest) (hr : rm.cells = mc ∧ rm.slots = ms ∧ rm.frames + 1 ≤ R.frames ∧ 8 + (1 + 11) + rm.locals ≤ R.locals) (hw : (rest.map fun v => v.category).sum ≤ 8) (hdg : decode cc pc = .ok (.invokestatic 106, 3)) (hf : cells + mc ≤ R.cells ∧ slots + ms ≤ R.slots) : vx_Run p l e R s m args below meth c H locs cells slots mc ms (F0 m pc ls st0) rest (Qc As.toArray) XC (b_A B0) := vx_runSN CX.fix hM (⟨va_cnB 1 CX.ts (lw_meth q1239) rfl hr.1 hr.2.1 (CX.K.2.1 _ q1237 rfl) (CX.ts _ q79) (by decide +kernel) ⟨hr.2.2.1, hr.2.2.2⟩, CX.ts _ q1238, trivial⟩) ⟨b_blind G B0 H _, b_pre _ CX.K hS⟩ rfl hn hls hst (lv_room hw) hdg hf
theorem cs_X2_112 {p : Program} {l : Launch} {e : Env} {R : Room} {s : State} {m : MethodId} {args : Array Value} {below : List Frame} {meth : Method} {c : Code} {H : Heap} {locs : List Loc} {cells slots : Nat} {cc : ByteArray} {pc nL a : Nat} {ls : Array Slot} {rest : List Value} {G : b_G} {B0 : Nat} (CX : b_Cx p s m args c cc nL RX2 G B0) (hls : ls.size = nL) {rm : Room} {mc ms : Nat} {As st0 : List Value} {Qc : Array Value → State → Outcome → State → Prop} (hM : Met l yX2_priceOf (ws_ yX2_priceOf cX2_priceOf 3 (Option.some Jvm.ClassFile.FieldType.int)) rm (b_Pc G B0 H (.ref a :: As)) Qc mc ms (b_A B0)) (hn : As.length = 2) {fs : List Value} {ci : Nat} {qc : vw_C} (hc : b_cl[ci]? = some qc) (hq : qc.1 = RX2) (hP : b_at G a (.inr (ci, fs)) H) (hS : va_S (b_A B0) s.heap H locs) (hst : st0 = As.reverse ++ .ref a :: rest) (hr : rm.cells = mc ∧ rm.slots = ms ∧ rm.frames + 1 ≤ R.frames ∧ 8 + (3 + 11) + rm.locals ≤ R.locals) (hw : (rest.map fun v => v.category).sum ≤ 8) (hdg : decode cc pc = .ok (.invokevirtual 112, 3)) (hf : cells + mc ≤ R.cells ∧ slots + ms ≤ R.slots) : va_Run p l e R s m args below meth c H locs cells slots mc ms (F0 m pc ls st0) rest (Qc (Value.ref a :: As).toArray) (b_A B0) := va_runV CX.fix hM (cwV 2 CX.ts (lw_V q1255 q861 q862 q80 q863) rfl hr.1 hr.2.1 (by decide +kernel) ⟨hr.2.2.1, hr.2.2.2⟩) ⟨b_blind G B0 H _, by have h9 := b_recv CX.K hc hP; rw [hq] at h9; exact h9, b_pre _ CX.K hS⟩ rfl hn hls hst (lv_room hw) hdg hf
set_option maxHeartbeats 2000000 in
set_option maxRecDepth 100000 in
theorem m_X2_tryDeliver (l : Launch) {G : b_G} {B0 : Nat} {H : Heap} {τ : b_T} {id : Nat} {F : Nat → Nat} {M : Nat → Int32} {E : Nat → Bool} {S : b_St} {Z : Nat → Nat → Int32} {b : Nat} {s_ : Nat} {c_ : Int32} (hL : LR G B0 τ id F M E H S Z) (hW : b_WF S) (hBb : b < nb S) (hSs_ : s_ < ns S) : vx_Met l yX2_tryDeliver (ws_ yX2_tryDeliver cX2_tryDeliver 5 (Option.none)) ({ frames := 6, cells := 3, slots := 18, locals := 128 } : Room) (b_Pc G B0 H [.ref ((F 0)), .int (nI b), .ref ((F (30 + s_))), .int c_]) (b_Qv B0 (fun H1 => ((a_deliver S b s_ c_) = nI 0) ∧ H1 = H)) (b_X B0 (fun E9 q9 H9 => e_px G B0 H (a_deliver S b s_ c_) E9 q9 H9)) 3 18 (b_A B0) := by
  refine b_ofX (by decide) (Nat.le_of_ble_eq_true rfl) ?_
  intro p e s m below meth c CX hr hlk htb hS ls hl
  have CX : b_Cx p s m _ c cX2_tryDeliver 5 RX2 G B0 := CX
  have hx := CX.hx
  have hb := CX.hb
  have hl : lv_has ls 5 [(0, .ref ((F 0))), (1, .int (nI b)), (2, .ref ((F (30 + s_)))), (3, .int c_)] := hl
  generalize hQ : vx_MQ below (b_Qv B0 (fun H1 => ((a_deliver S b s_ c_) = nI 0) ∧ H1 = H)) (b_X B0 (fun E9 q9 H9 => e_px G B0 H (a_deliver S b s_ c_) E9 q9 H9)) ([.ref ((F 0)), .int (nI b), .ref ((F (30 + s_))), .int c_] : List Value).toArray s 3 18 (b_A B0) = Q
  have hX : b_Ext H H := b_Ext.rf
  have hnb : nb S = nb S := rfl
  have hns : ns S = ns S := rfl
  have hn8 := hL.2.2.2.1
  have hn6 := hL.2.2.2.2
  refine lv_aload_n hx hb dX2_tryDeliver_0 rfl (lv_at hl 0 rfl) ?_
  refine gf_X2_12_1 CX hL.loop.at rfl dX2_tryDeliver_1 ?_
  refine lv_iload_n hx hb dX2_tryDeliver_4 rfl (lv_at hl 1 rfl) ?_
  refine b_cq0 (cs_X2_35 (rest := []) CX hl.1 (m_J2_get l (a := (F 1)) (ta := 1000 * id + 1) (mc := M 1) (ra := (F 2)) (tr := 1000 * id + 2) (f := (fun j => F (20 + j))) (n := nb S) (i := b) (hL.alg1 hW (by omega)) (hL.arg2 (by omega)) (by omega) (by omega)) rfl rfl rfl (hL.alg1 hW (by omega)).at hS rfl ⟨rfl, rfl, Nat.le_of_ble_eq_true rfl, Nat.le_of_ble_eq_true rfl⟩ (Nat.le_of_ble_eq_true rfl) dX2_tryDeliver_5 ⟨Nat.le_of_ble_eq_true rfl, Nat.le_of_ble_eq_true rfl⟩) hS (fun locs hS => ?_)
  refine b_cast CX (ci := 4) rfl (hL.brand (k := b) (by omega)).at q897 dX2_tryDeliver_8 ?_
  refine lv_astore (lv' := [(4, .ref ((F (20 + b)))), (0, .ref ((F 0))), (1, .int (nI b)), (2, .ref ((F (30 + s_)))), (3, .int c_)]) hx hb dX2_tryDeliver_11 hl (Nat.le_of_ble_eq_true rfl) rfl (fun ls hl => ?_)
  refine lv_aload hx hb dX2_tryDeliver_13 (lv_at hl 0 rfl) ?_
  refine gf_X2_93_4 CX (hL.brand (k := b) (by omega)).at rfl dX2_tryDeliver_15 ?_
  refine lv_bipush (v := nI 12) hx hb dX2_tryDeliver_18 rfl ?_
  refine lv_iload_n hx hb dX2_tryDeliver_20 rfl (lv_at hl 4 rfl) ?_
  refine lv_imul hx hb dX2_tryDeliver_21 ?_
  refine lv_icmp_lt (tgt := 29) hx hb dX2_tryDeliver_22 (by decide) (fun c_22 => ?_) (fun c_22 => ?_)
  · refine lv_iconst (v := nI 0) hx hb dX2_tryDeliver_29 rfl ?_
    refine b_xv0 (cx_X2_85 (rest := []) CX hl.1 (m_X1_needBottles l (x := nI 0) ) rfl hS rfl ⟨rfl, rfl, Nat.le_of_ble_eq_true rfl, Nat.le_of_ble_eq_true rfl⟩ (Nat.le_of_ble_eq_true rfl) dX2_tryDeliver_30 ⟨Nat.le_of_ble_eq_true rfl, Nat.le_of_ble_eq_true rfl⟩) hS (fun E9 q9 Hx1 locs hx9 hS he9 => ?_) (fun hk_30 locs hS => ?_)
    · rw [← hQ]
      exact b_xout htb hlk he9 hS (Nat.le_of_ble_eq_true rfl) (Nat.le_of_ble_eq_true rfl) (hx9.2.cd (by unfold a_deliver; rw [if_pos c_22]))
    exact absurd (by decide) hk_30
  · refine lv_iconst (v := nI 1) hx hb dX2_tryDeliver_25 rfl ?_
    refine lv_goto (tgt := 30) hx hb dX2_tryDeliver_26 (by decide) ?_
    refine b_xv0 (cx_X2_85 (rest := []) CX hl.1 (m_X1_needBottles l (x := nI 1) ) rfl hS rfl ⟨rfl, rfl, Nat.le_of_ble_eq_true rfl, Nat.le_of_ble_eq_true rfl⟩ (Nat.le_of_ble_eq_true rfl) dX2_tryDeliver_30 ⟨Nat.le_of_ble_eq_true rfl, Nat.le_of_ble_eq_true rfl⟩) hS (fun E9 q9 Hx2 locs hx9 hS he9 => ?_) (fun hk_30 locs hS => ?_)
    · exact absurd hx9.1 (by decide)
    refine lv_aload_n hx hb dX2_tryDeliver_33 rfl (lv_at hl 1 rfl) ?_
    refine gf_X2_60_1 CX hL.loop.at rfl dX2_tryDeliver_34 ?_
    refine lv_iload_n hx hb dX2_tryDeliver_37 rfl (lv_at hl 4 rfl) ?_
    refine lv_icmp_lt (tgt := 45) hx hb dX2_tryDeliver_38 (by decide) (fun c_38 => ?_) (fun c_38 => ?_)
    · refine lv_iconst (v := nI 0) hx hb dX2_tryDeliver_45 rfl ?_
      refine b_xv0 (cx_X2_106 (rest := []) CX hl.1 (m_X1_needCrates l (x := nI 0) ) rfl hS rfl ⟨rfl, rfl, Nat.le_of_ble_eq_true rfl, Nat.le_of_ble_eq_true rfl⟩ (Nat.le_of_ble_eq_true rfl) dX2_tryDeliver_46 ⟨Nat.le_of_ble_eq_true rfl, Nat.le_of_ble_eq_true rfl⟩) hS (fun E9 q9 Hx3 locs hx9 hS he9 => ?_) (fun hk_46 locs hS => ?_)
      · rw [← hQ]
        exact b_xout htb hlk he9 hS (Nat.le_of_ble_eq_true rfl) (Nat.le_of_ble_eq_true rfl) (hx9.2.cd (by unfold a_deliver; rw [if_neg c_22, if_pos c_38]))
      exact absurd (by decide) hk_46
    · refine lv_iconst (v := nI 1) hx hb dX2_tryDeliver_41 rfl ?_
      refine lv_goto (tgt := 46) hx hb dX2_tryDeliver_42 (by decide) ?_
      refine b_xv0 (cx_X2_106 (rest := []) CX hl.1 (m_X1_needCrates l (x := nI 1) ) rfl hS rfl ⟨rfl, rfl, Nat.le_of_ble_eq_true rfl, Nat.le_of_ble_eq_true rfl⟩ (Nat.le_of_ble_eq_true rfl) dX2_tryDeliver_46 ⟨Nat.le_of_ble_eq_true rfl, Nat.le_of_ble_eq_true rfl⟩) hS (fun E9 q9 Hx4 locs hx9 hS he9 => ?_) (fun hk_46 locs hS => ?_)
      · exact absurd hx9.1 (by decide)
      refine lv_aload_n hx hb dX2_tryDeliver_49 rfl (lv_at hl 3 rfl) ?_
      refine gf_X2_109_5 CX (hL.shop (k := s_) (by omega)).at rfl dX2_tryDeliver_50 ?_
      refine lv_aload_n hx hb dX2_tryDeliver_53 rfl (lv_at hl 1 rfl) ?_
      refine lv_aload hx hb dX2_tryDeliver_54 (lv_at hl 0 rfl) ?_
      refine lv_iload_n hx hb dX2_tryDeliver_56 rfl (lv_at hl 4 rfl) ?_
      refine b_ci0 (cs_X2_112 (rest := [.int (S 2 s_ 0)]) CX hl.1 (m_X2_priceOf l (b := b) (c_ := c_) hL hW (by omega)) rfl rfl rfl hL.loop.at hS rfl ⟨rfl, rfl, Nat.le_of_ble_eq_true rfl, Nat.le_of_ble_eq_true rfl⟩ (Nat.le_of_ble_eq_true rfl) dX2_tryDeliver_57 ⟨Nat.le_of_ble_eq_true rfl, Nat.le_of_ble_eq_true rfl⟩) hS (fun locs hS => ?_)
      refine lv_icmp_lt (tgt := 67) hx hb dX2_tryDeliver_60 (by decide) (fun c_60 => ?_) (fun c_60 => ?_)
      · refine lv_iconst (v := nI 0) hx hb dX2_tryDeliver_67 rfl ?_
        refine b_xv0 (cx_X2_115 (rest := []) CX hl.1 (m_X1_needMoney l (x := nI 0) ) rfl hS rfl ⟨rfl, rfl, Nat.le_of_ble_eq_true rfl, Nat.le_of_ble_eq_true rfl⟩ (Nat.le_of_ble_eq_true rfl) dX2_tryDeliver_68 ⟨Nat.le_of_ble_eq_true rfl, Nat.le_of_ble_eq_true rfl⟩) hS (fun E9 q9 Hx5 locs hx9 hS he9 => ?_) (fun hk_68 locs hS => ?_)
        · rw [← hQ]
          exact b_xout htb hlk he9 hS (Nat.le_of_ble_eq_true rfl) (Nat.le_of_ble_eq_true rfl) (hx9.2.cd (by unfold a_deliver; rw [if_neg c_22, if_neg c_38, if_pos c_60]))
        exact absurd (by decide) hk_68
      · refine lv_iconst (v := nI 1) hx hb dX2_tryDeliver_63 rfl ?_
        refine lv_goto (tgt := 68) hx hb dX2_tryDeliver_64 (by decide) ?_
        refine b_xv0 (cx_X2_115 (rest := []) CX hl.1 (m_X1_needMoney l (x := nI 1) ) rfl hS rfl ⟨rfl, rfl, Nat.le_of_ble_eq_true rfl, Nat.le_of_ble_eq_true rfl⟩ (Nat.le_of_ble_eq_true rfl) dX2_tryDeliver_68 ⟨Nat.le_of_ble_eq_true rfl, Nat.le_of_ble_eq_true rfl⟩) hS (fun E9 q9 Hx6 locs hx9 hS he9 => ?_) (fun hk_68 locs hS => ?_)
        · exact absurd hx9.1 (by decide)
        rw [← hQ]
        exact vx_ret (b_vret CX hr hlk hS (Nat.le_of_ble_eq_true rfl) (Nat.le_of_ble_eq_true rfl) dX2_tryDeliver_71 (⟨(by unfold a_deliver; rw [if_neg c_22, if_neg c_38, if_neg c_60]), rfl⟩))
theorem cs_X2_149 {p : Program} {l : Launch} {e : Env} {R : Room} {s : State} {m : MethodId} {args : Array Value} {below : List Frame} {meth : Method} {c : Code} {H : Heap} {locs : List Loc} {cells slots : Nat} {cc : ByteArray} {pc nL a : Nat} {ls : Array Slot} {rest : List Value} {G : b_G} {B0 : Nat} (CX : b_Cx p s m args c cc nL RX2 G B0) (hls : ls.size = nL) {rm : Room} {mc ms : Nat} {As st0 : List Value} {Qc : Array Value → State → Outcome → State → Prop} (hM : Met l yX2_emptyOf (ws_ yX2_emptyOf cX2_emptyOf 5 (Option.some Jvm.ClassFile.FieldType.int)) rm (b_Pc G B0 H (.ref a :: As)) Qc mc ms (b_A B0)) (hn : As.length = 2) {fs : List Value} {ci : Nat} {qc : vw_C} (hc : b_cl[ci]? = some qc) (hq : qc.1 = RX2) (hP : b_at G a (.inr (ci, fs)) H) (hS : va_S (b_A B0) s.heap H locs) (hst : st0 = As.reverse ++ .ref a :: rest) (hr : rm.cells = mc ∧ rm.slots = ms ∧ rm.frames + 1 ≤ R.frames ∧ 8 + (5 + 11) + rm.locals ≤ R.locals) (hw : (rest.map fun v => v.category).sum ≤ 8) (hdg : decode cc pc = .ok (.invokevirtual 149, 3)) (hf : cells + mc ≤ R.cells ∧ slots + ms ≤ R.slots) : va_Run p l e R s m args below meth c H locs cells slots mc ms (F0 m pc ls st0) rest (Qc (Value.ref a :: As).toArray) (b_A B0) := va_runV CX.fix hM (cwV 2 CX.ts (lw_V q1310 q892 q893 q80 q894) rfl hr.1 hr.2.1 (by decide +kernel) ⟨hr.2.2.1, hr.2.2.2⟩) ⟨b_blind G B0 H _, by have h9 := b_recv CX.K hc hP; rw [hq] at h9; exact h9, b_pre _ CX.K hS⟩ rfl hn hls hst (lv_room hw) hdg hf
set_option maxHeartbeats 2000000 in
set_option maxRecDepth 100000 in
theorem m_X2_tryCollect (l : Launch) {G : b_G} {B0 : Nat} {H : Heap} {τ : b_T} {id : Nat} {F : Nat → Nat} {M : Nat → Int32} {E : Nat → Bool} {S : b_St} {Z : Nat → Nat → Int32} {s_ : Nat} {k : Nat} {c_ : Int32} (hL : LR G B0 τ id F M E H S Z) (hW : b_WF S) (hSs_ : s_ < ns S) (hk : k < 3) : vx_Met l yX2_tryCollect (ws_ yX2_tryCollect cX2_tryCollect 4 (Option.none)) ({ frames := 6, cells := 2, slots := 12, locals := 128 } : Room) (b_Pc G B0 H [.ref ((F 0)), .ref ((F (30 + s_))), .int (nI k), .int c_]) (b_Qv B0 (fun H1 => ((a_collect S s_ k c_) = nI 0) ∧ H1 = H)) (b_X B0 (fun E9 q9 H9 => e_px G B0 H (a_collect S s_ k c_) E9 q9 H9)) 2 12 (b_A B0) := by
  refine b_ofX (by decide) (Nat.le_of_ble_eq_true rfl) ?_
  intro p e s m below meth c CX hr hlk htb hS ls hl
  have CX : b_Cx p s m _ c cX2_tryCollect 4 RX2 G B0 := CX
  have hx := CX.hx
  have hb := CX.hb
  have hl : lv_has ls 4 [(0, .ref ((F 0))), (1, .ref ((F (30 + s_)))), (2, .int (nI k)), (3, .int c_)] := hl
  generalize hQ : vx_MQ below (b_Qv B0 (fun H1 => ((a_collect S s_ k c_) = nI 0) ∧ H1 = H)) (b_X B0 (fun E9 q9 H9 => e_px G B0 H (a_collect S s_ k c_) E9 q9 H9)) ([.ref ((F 0)), .ref ((F (30 + s_))), .int (nI k), .int c_] : List Value).toArray s 2 12 (b_A B0) = Q
  have hX : b_Ext H H := b_Ext.rf
  have hnb : nb S = nb S := rfl
  have hns : ns S = ns S := rfl
  have hn8 := hL.2.2.2.1
  have hn6 := hL.2.2.2.2
  refine lv_aload_n hx hb dX2_tryCollect_0 rfl (lv_at hl 0 rfl) ?_
  refine lv_aload_n hx hb dX2_tryCollect_1 rfl (lv_at hl 1 rfl) ?_
  refine lv_iload_n hx hb dX2_tryCollect_2 rfl (lv_at hl 2 rfl) ?_
  refine b_ci0 (cs_X2_149 (rest := []) CX hl.1 (m_X2_emptyOf l (s_ := s_) (k := k) hL hW (by omega) (by omega)) rfl rfl rfl hL.loop.at hS rfl ⟨rfl, rfl, Nat.le_of_ble_eq_true rfl, Nat.le_of_ble_eq_true rfl⟩ (Nat.le_of_ble_eq_true rfl) dX2_tryCollect_3 ⟨Nat.le_of_ble_eq_true rfl, Nat.le_of_ble_eq_true rfl⟩) hS (fun locs hS => ?_)
  refine lv_bipush (v := nI 12) hx hb dX2_tryCollect_6 rfl ?_
  refine lv_iload_n hx hb dX2_tryCollect_8 rfl (lv_at hl 3 rfl) ?_
  refine lv_imul hx hb dX2_tryCollect_9 ?_
  refine lv_icmp_lt (tgt := 17) hx hb dX2_tryCollect_10 (by decide) (fun c_10 => ?_) (fun c_10 => ?_)
  · refine lv_iconst (v := nI 0) hx hb dX2_tryCollect_17 rfl ?_
    refine b_xv0 (cx_X2_85 (rest := []) CX hl.1 (m_X1_needBottles l (x := nI 0) ) rfl hS rfl ⟨rfl, rfl, Nat.le_of_ble_eq_true rfl, Nat.le_of_ble_eq_true rfl⟩ (Nat.le_of_ble_eq_true rfl) dX2_tryCollect_18 ⟨Nat.le_of_ble_eq_true rfl, Nat.le_of_ble_eq_true rfl⟩) hS (fun E9 q9 Hx1 locs hx9 hS he9 => ?_) (fun hk_18 locs hS => ?_)
    · rw [← hQ]
      exact b_xout htb hlk he9 hS (Nat.le_of_ble_eq_true rfl) (Nat.le_of_ble_eq_true rfl) (hx9.2.cd (by unfold a_collect; rw [if_pos c_10]))
    exact absurd (by decide) hk_18
  · refine lv_iconst (v := nI 1) hx hb dX2_tryCollect_13 rfl ?_
    refine lv_goto (tgt := 18) hx hb dX2_tryCollect_14 (by decide) ?_
    refine b_xv0 (cx_X2_85 (rest := []) CX hl.1 (m_X1_needBottles l (x := nI 1) ) rfl hS rfl ⟨rfl, rfl, Nat.le_of_ble_eq_true rfl, Nat.le_of_ble_eq_true rfl⟩ (Nat.le_of_ble_eq_true rfl) dX2_tryCollect_18 ⟨Nat.le_of_ble_eq_true rfl, Nat.le_of_ble_eq_true rfl⟩) hS (fun E9 q9 Hx2 locs hx9 hS he9 => ?_) (fun hk_18 locs hS => ?_)
    · exact absurd hx9.1 (by decide)
    refine lv_aload_n hx hb dX2_tryCollect_21 rfl (lv_at hl 1 rfl) ?_
    refine gf_X2_120_5 CX (hL.shop (k := s_) (by omega)).at rfl dX2_tryCollect_22 ?_
    refine lv_iload_n hx hb dX2_tryCollect_25 rfl (lv_at hl 3 rfl) ?_
    refine lv_icmp_lt (tgt := 33) hx hb dX2_tryCollect_26 (by decide) (fun c_26 => ?_) (fun c_26 => ?_)
    · refine lv_iconst (v := nI 0) hx hb dX2_tryCollect_33 rfl ?_
      refine b_xv0 (cx_X2_106 (rest := []) CX hl.1 (m_X1_needCrates l (x := nI 0) ) rfl hS rfl ⟨rfl, rfl, Nat.le_of_ble_eq_true rfl, Nat.le_of_ble_eq_true rfl⟩ (Nat.le_of_ble_eq_true rfl) dX2_tryCollect_34 ⟨Nat.le_of_ble_eq_true rfl, Nat.le_of_ble_eq_true rfl⟩) hS (fun E9 q9 Hx3 locs hx9 hS he9 => ?_) (fun hk_34 locs hS => ?_)
      · rw [← hQ]
        exact b_xout htb hlk he9 hS (Nat.le_of_ble_eq_true rfl) (Nat.le_of_ble_eq_true rfl) (hx9.2.cd (by unfold a_collect; rw [if_neg c_10, if_pos c_26]))
      exact absurd (by decide) hk_34
    · refine lv_iconst (v := nI 1) hx hb dX2_tryCollect_29 rfl ?_
      refine lv_goto (tgt := 34) hx hb dX2_tryCollect_30 (by decide) ?_
      refine b_xv0 (cx_X2_106 (rest := []) CX hl.1 (m_X1_needCrates l (x := nI 1) ) rfl hS rfl ⟨rfl, rfl, Nat.le_of_ble_eq_true rfl, Nat.le_of_ble_eq_true rfl⟩ (Nat.le_of_ble_eq_true rfl) dX2_tryCollect_34 ⟨Nat.le_of_ble_eq_true rfl, Nat.le_of_ble_eq_true rfl⟩) hS (fun E9 q9 Hx4 locs hx9 hS he9 => ?_) (fun hk_34 locs hS => ?_)
      · exact absurd hx9.1 (by decide)
      rw [← hQ]
      exact vx_ret (b_vret CX hr hlk hS (Nat.le_of_ble_eq_true rfl) (Nat.le_of_ble_eq_true rfl) dX2_tryCollect_37 (⟨(by unfold a_collect; rw [if_neg c_10, if_neg c_26]), rfl⟩))
theorem pa_X6_3_9 {p : Program} {l : Launch} {e : Env} {R : Room} {s : State} {m : MethodId} {args : Array Value} {below : List Frame} {meth : Method} {c : Code} {H : Heap} {locs : List Loc} {cells slots : Nat} {Q : State → Prop} {cc : ByteArray} {pc nL a : Nat} {ls : Array Slot} {rest : List Value} {G : b_G} {B0 : Nat} (CX : b_Cx p s m args c cc nL RX6 G B0) (hin2 : meth.name = "<init>") {fs : List Value} (hP : b_at G a (.inr (9, fs)) H) (hS : va_S (b_A B0) s.heap H locs) (ha : B0 ≤ a) {v : Value} (hn : narrow (tyX12 0) v = v) (hfit : fits (tyX12 0) v = true) (hl : 0 < fs.length) (hl2 : 4 < fs.length) (hdg : decode cc pc = .ok (.putfield 3, 3)) (kk : ∀ (w : Value) (H1 : Heap) (locs1 : List Loc), (w = v ∨ fs[4]? = some w) → b_at G a (.inr (9, (fs.set 0 v).set 4 w)) H1 → b_Up a H H1 → va_S (b_A B0) s.heap H1 locs1 → W p l e R s m args below meth c H1 locs1 cells slots Q (F0 m (pc + 3) ls rest)) : W p l e R s m args below meth c H locs cells slots Q (F0 m pc ls (v :: .ref a :: rest)) := b_putFA CX in_X12 tyX12 tyX12_ok rfl 0 4 (by decide) (by decide +kernel) q1165 (Or.inl rfl) rfl hin2 rfl hP hS ha hn hfit hl hl2 (by decide) hdg kk
set_option maxHeartbeats 2000000 in
set_option maxRecDepth 100000 in
theorem m_X6_init_9 (l : Launch) {G : b_G} {B0 : Nat} {H : Heap} {τ : b_T} {a : Nat} {ta : Nat} {ax : Nat} {u0 : Value} {u1 : Value} {u2 : Value} {u3 : Value} (hc_th : b_tt G B0 τ H a (ta) (.inr (9, [u0, u1, u2, u3, .ref ax]))) : Met l yX6_init (ws_ yX6_init cX6_init 2 (Option.none)) ({ frames := 1, cells := 0, slots := 0, locals := 20 } : Room) (b_Pc G B0 H [.ref a, .ref ax]) (b_Qv B0 (fun H1 => b_Up a H H1 ∧ b_tt G B0 τ H1 a (ta) (.inr (9, [.ref ax, u1, u2, u3, .ref ax])))) 0 0 (b_A B0) := by
  refine b_of (by decide) (Nat.le_of_ble_eq_true rfl) ?_
  intro p e s m below meth c CX hr hlk hnm hS ls hl
  have CX : b_Cx p s m _ c cX6_init 2 RX6 G B0 := CX
  have hx := CX.hx
  have hb := CX.hb
  have hl : lv_has ls 2 [(0, .ref a), (1, .ref ax)] := hl
  generalize hQ : MQ below (b_Qv B0 (fun H1 => b_Up a H H1 ∧ b_tt G B0 τ H1 a (ta) (.inr (9, [.ref ax, u1, u2, u3, .ref ax])))) ([.ref a, .ref ax] : List Value).toArray s 0 0 (b_A B0) = Q
  have hU : b_Up a H H := b_Up.rf
  refine lv_aload_n hx hb dX6_init_0 rfl (lv_at hl 0 rfl) ?_
  refine lv_aload_n hx hb dX6_init_1 rfl (lv_at hl 1 rfl) ?_
  refine pa_X6_3_9 CX hnm hc_th.at hS hc_th.B rfl rfl (Nat.le_of_ble_eq_true rfl) (Nat.le_of_ble_eq_true rfl) dX6_init_2 (fun w1 H1 locs hw hat hu hS => ?_)
  obtain rfl := hw.elim (fun h9 => h9) (fun h9 => (Option.some.inj h9).symm)
  have hU := hU.tr hu
  have hc_th : b_tt G B0 τ H1 a (ta) (.inr (9, [.ref ax, u1, u2, u3, .ref ax])) := hc_th.set hat
  refine lv_aload_n hx hb dX6_init_5 rfl (lv_at hl 0 rfl) ?_
  refine W.objInit hx hb CX.ow (CX.ts _ q1161) (CX.ts _ q132) (CX.ts _ q133) rfl (by rw [CX.ml]; exact hl.1) rfl dX6_init_6 (Nat.le_of_ble_eq_true rfl) (Nat.le_of_ble_eq_true rfl) ?_
  refine W.eq (g2 := F0 m 9 ls []) rfl ?_
  rw [← hQ]
  exact b_vret CX hr hlk hS (Nat.le_of_ble_eq_true rfl) (Nat.le_of_ble_eq_true rfl) dX6_init_9 (⟨hU, hc_th⟩)
theorem pa_X12_1_9 {p : Program} {l : Launch} {e : Env} {R : Room} {s : State} {m : MethodId} {args : Array Value} {below : List Frame} {meth : Method} {c : Code} {H : Heap} {locs : List Loc} {cells slots : Nat} {Q : State → Prop} {cc : ByteArray} {pc nL a : Nat} {ls : Array Slot} {rest : List Value} {G : b_G} {B0 : Nat} (CX : b_Cx p s m args c cc nL RX12 G B0) (hin2 : meth.name = "<init>") {fs : List Value} (hP : b_at G a (.inr (9, fs)) H) (hS : va_S (b_A B0) s.heap H locs) (ha : B0 ≤ a) {v : Value} (hn : narrow (tyX12 4) v = v) (hfit : fits (tyX12 4) v = true) (hl : 4 < fs.length) (hl2 : 0 < fs.length) (hdg : decode cc pc = .ok (.putfield 1, 3)) (kk : ∀ (w : Value) (H1 : Heap) (locs1 : List Loc), (w = v ∨ fs[0]? = some w) → b_at G a (.inr (9, (fs.set 4 v).set 0 w)) H1 → b_Up a H H1 → va_S (b_A B0) s.heap H1 locs1 → W p l e R s m args below meth c H1 locs1 cells slots Q (F0 m (pc + 3) ls rest)) : W p l e R s m args below meth c H locs cells slots Q (F0 m pc ls (v :: .ref a :: rest)) := b_putFA CX in_X12 tyX12 tyX12_ok rfl 4 0 (by decide) (by decide +kernel) q1456 (Or.inl rfl) rfl hin2 rfl hP hS ha hn hfit hl hl2 (by decide) hdg kk
theorem pf_X12_7_9 {p : Program} {l : Launch} {e : Env} {R : Room} {s : State} {m : MethodId} {args : Array Value} {below : List Frame} {meth : Method} {c : Code} {H : Heap} {locs : List Loc} {cells slots : Nat} {Q : State → Prop} {cc : ByteArray} {pc nL a : Nat} {ls : Array Slot} {rest : List Value} {G : b_G} {B0 : Nat} (CX : b_Cx p s m args c cc nL RX12 G B0) (hin2 : meth.name = "<init>") {fs : List Value} (hP : b_at G a (.inr (9, fs)) H) (hS : va_S (b_A B0) s.heap H locs) (ha : B0 ≤ a) {v : Value} (hn : narrow (tyX12 1) v = v) (hfit : fits (tyX12 1) v = true) (hl : 1 < fs.length) (hdg : decode cc pc = .ok (.putfield 7, 3)) (kk : ∀ (H1 : Heap) (locs1 : List Loc), b_at G a (.inr (9, fs.set 1 v)) H1 → b_Up a H H1 → va_S (b_A B0) s.heap H1 locs1 → W p l e R s m args below meth c H1 locs1 cells slots Q (F0 m (pc + 3) ls rest)) : W p l e R s m args below meth c H locs cells slots Q (F0 m pc ls (v :: .ref a :: rest)) := b_putF CX in_X12 tyX12 tyX12_ok rfl 1 (by decide) (by decide +kernel) q1453 (Or.inl rfl) rfl hin2 rfl hP hS ha hn hfit hl hdg kk
theorem pf_X12_11_9 {p : Program} {l : Launch} {e : Env} {R : Room} {s : State} {m : MethodId} {args : Array Value} {below : List Frame} {meth : Method} {c : Code} {H : Heap} {locs : List Loc} {cells slots : Nat} {Q : State → Prop} {cc : ByteArray} {pc nL a : Nat} {ls : Array Slot} {rest : List Value} {G : b_G} {B0 : Nat} (CX : b_Cx p s m args c cc nL RX12 G B0) (hin2 : meth.name = "<init>") {fs : List Value} (hP : b_at G a (.inr (9, fs)) H) (hS : va_S (b_A B0) s.heap H locs) (ha : B0 ≤ a) {v : Value} (hn : narrow (tyX12 2) v = v) (hfit : fits (tyX12 2) v = true) (hl : 2 < fs.length) (hdg : decode cc pc = .ok (.putfield 11, 3)) (kk : ∀ (H1 : Heap) (locs1 : List Loc), b_at G a (.inr (9, fs.set 2 v)) H1 → b_Up a H H1 → va_S (b_A B0) s.heap H1 locs1 → W p l e R s m args below meth c H1 locs1 cells slots Q (F0 m (pc + 3) ls rest)) : W p l e R s m args below meth c H locs cells slots Q (F0 m pc ls (v :: .ref a :: rest)) := b_putF CX in_X12 tyX12 tyX12_ok rfl 2 (by decide) (by decide +kernel) q1454 (Or.inl rfl) rfl hin2 rfl hP hS ha hn hfit hl hdg kk
theorem pf_X12_14_9 {p : Program} {l : Launch} {e : Env} {R : Room} {s : State} {m : MethodId} {args : Array Value} {below : List Frame} {meth : Method} {c : Code} {H : Heap} {locs : List Loc} {cells slots : Nat} {Q : State → Prop} {cc : ByteArray} {pc nL a : Nat} {ls : Array Slot} {rest : List Value} {G : b_G} {B0 : Nat} (CX : b_Cx p s m args c cc nL RX12 G B0) (hin2 : meth.name = "<init>") {fs : List Value} (hP : b_at G a (.inr (9, fs)) H) (hS : va_S (b_A B0) s.heap H locs) (ha : B0 ≤ a) {v : Value} (hn : narrow (tyX12 3) v = v) (hfit : fits (tyX12 3) v = true) (hl : 3 < fs.length) (hdg : decode cc pc = .ok (.putfield 14, 3)) (kk : ∀ (H1 : Heap) (locs1 : List Loc), b_at G a (.inr (9, fs.set 3 v)) H1 → b_Up a H H1 → va_S (b_A B0) s.heap H1 locs1 → W p l e R s m args below meth c H1 locs1 cells slots Q (F0 m (pc + 3) ls rest)) : W p l e R s m args below meth c H locs cells slots Q (F0 m pc ls (v :: .ref a :: rest)) := b_putF CX in_X12 tyX12 tyX12_ok rfl 3 (by decide) (by decide +kernel) q1455 (Or.inl rfl) rfl hin2 rfl hP hS ha hn hfit hl hdg kk
theorem cs_X12_17 {p : Program} {l : Launch} {e : Env} {R : Room} {s : State} {m : MethodId} {args : Array Value} {below : List Frame} {meth : Method} {c : Code} {H : Heap} {locs : List Loc} {cells slots : Nat} {cc : ByteArray} {pc nL a : Nat} {ls : Array Slot} {rest : List Value} {G : b_G} {B0 : Nat} (CX : b_Cx p s m args c cc nL RX12 G B0) (hls : ls.size = nL) {rm : Room} {mc ms : Nat} {As st0 : List Value} {Qc : Array Value → State → Outcome → State → Prop} (hM : Met l yX6_init (ws_ yX6_init cX6_init 2 (Option.none)) rm (b_Pc G B0 H (.ref a :: As)) Qc mc ms (b_A B0)) (hn : As.length = 1) (hS : va_S (b_A B0) s.heap H locs) (hst : st0 = As.reverse ++ .ref a :: rest) (hr : rm.cells = mc ∧ rm.slots = ms ∧ rm.frames + 1 ≤ R.frames ∧ 8 + (2 + 11) + rm.locals ≤ R.locals) (hw : (rest.map fun v => v.category).sum ≤ 8) (hdg : decode cc pc = .ok (.invokespecial 17, 3)) (hf : cells + mc ≤ R.cells ∧ slots + ms ≤ R.slots) : va_Run p l e R s m args below meth c H locs cells slots mc ms (F0 m pc ls st0) rest (Qc (Value.ref a :: As).toArray) (b_A B0) := va_runIN CX.fix hM (⟨va_cnB 1 CX.ts (lw_meth q1160) rfl hr.1 hr.2.1 (CX.K.2.1 _ q1452 rfl) (CX.ts _ q104) (by decide +kernel) ⟨hr.2.2.1, hr.2.2.2⟩, rfl, CX.ts _ q1159⟩) ⟨b_blind G B0 H _, b_pre _ CX.K hS⟩ rfl hn hls hst (lv_room hw) hdg hf
set_option maxHeartbeats 2000000 in
set_option maxRecDepth 100000 in
theorem m_X12_init (l : Launch) {G : b_G} {B0 : Nat} {H : Heap} {τ : b_T} {a : Nat} {ta : Nat} {ax : Nat} {b : Nat} {s_ : Nat} {c_ : Int32} (hc_th : b_tt G B0 τ H a (ta) (.inr (9, [.null, .int (nI 0), .int (nI 0), .int (nI 0), .null]))) : Met l yX12_init (ws_ yX12_init cX12_init 5 (Option.none)) ({ frames := 2, cells := 0, slots := 0, locals := 41 } : Room) (b_Pc G B0 H [.ref a, .ref ax, .int (nI b), .int (nI s_), .int c_]) (b_Qv B0 (fun H1 => b_Up a H H1 ∧ b_tt G B0 τ H1 a (ta) (.inr (9, [.ref ax, .int (nI b), .int (nI s_), .int c_, .ref ax])))) 0 0 (b_A B0) := by
  refine b_of (by decide) (Nat.le_of_ble_eq_true rfl) ?_
  intro p e s m below meth c CX hr hlk hnm hS ls hl
  have CX : b_Cx p s m _ c cX12_init 5 RX12 G B0 := CX
  have hx := CX.hx
  have hb := CX.hb
  have hl : lv_has ls 5 [(0, .ref a), (1, .ref ax), (2, .int (nI b)), (3, .int (nI s_)), (4, .int c_)] := hl
  generalize hQ : MQ below (b_Qv B0 (fun H1 => b_Up a H H1 ∧ b_tt G B0 τ H1 a (ta) (.inr (9, [.ref ax, .int (nI b), .int (nI s_), .int c_, .ref ax])))) ([.ref a, .ref ax, .int (nI b), .int (nI s_), .int c_] : List Value).toArray s 0 0 (b_A B0) = Q
  have hU : b_Up a H H := b_Up.rf
  refine lv_aload_n hx hb dX12_init_0 rfl (lv_at hl 0 rfl) ?_
  refine lv_aload_n hx hb dX12_init_1 rfl (lv_at hl 1 rfl) ?_
  refine pa_X12_1_9 CX hnm hc_th.at hS hc_th.B rfl rfl (Nat.le_of_ble_eq_true rfl) (Nat.le_of_ble_eq_true rfl) dX12_init_2 (fun w1 H1 locs hw hat hu hS => ?_)
  have hU := hU.tr hu
  have hc_th : b_tt G B0 τ H1 a (ta) (.inr (9, [w1, .int (nI 0), .int (nI 0), .int (nI 0), .ref ax])) := hc_th.set hat
  refine lv_aload_n hx hb dX12_init_5 rfl (lv_at hl 0 rfl) ?_
  refine lv_iload_n hx hb dX12_init_6 rfl (lv_at hl 2 rfl) ?_
  refine pf_X12_7_9 CX hnm hc_th.at hS hc_th.B rfl rfl (Nat.le_of_ble_eq_true rfl) dX12_init_7 (fun H2 locs hat hu hS => ?_)
  have hU := hU.tr hu
  have hc_th : b_tt G B0 τ H2 a (ta) (.inr (9, [w1, .int (nI b), .int (nI 0), .int (nI 0), .ref ax])) := hc_th.set hat
  refine lv_aload_n hx hb dX12_init_10 rfl (lv_at hl 0 rfl) ?_
  refine lv_iload_n hx hb dX12_init_11 rfl (lv_at hl 3 rfl) ?_
  refine pf_X12_11_9 CX hnm hc_th.at hS hc_th.B rfl rfl (Nat.le_of_ble_eq_true rfl) dX12_init_12 (fun H3 locs hat hu hS => ?_)
  have hU := hU.tr hu
  have hc_th : b_tt G B0 τ H3 a (ta) (.inr (9, [w1, .int (nI b), .int (nI s_), .int (nI 0), .ref ax])) := hc_th.set hat
  refine lv_aload_n hx hb dX12_init_15 rfl (lv_at hl 0 rfl) ?_
  refine lv_iload hx hb dX12_init_16 (lv_at hl 4 rfl) ?_
  refine pf_X12_14_9 CX hnm hc_th.at hS hc_th.B rfl rfl (Nat.le_of_ble_eq_true rfl) dX12_init_18 (fun H4 locs hat hu hS => ?_)
  have hU := hU.tr hu
  have hc_th : b_tt G B0 τ H4 a (ta) (.inr (9, [w1, .int (nI b), .int (nI s_), .int c_, .ref ax])) := hc_th.set hat
  refine lv_aload_n hx hb dX12_init_21 rfl (lv_at hl 0 rfl) ?_
  refine lv_aload_n hx hb dX12_init_22 rfl (lv_at hl 1 rfl) ?_
  refine b_cv (cs_X12_17 (rest := []) CX hl.1 (m_X6_init_9 l (a := a) (ta := ta) (u0 := w1) (u1 := .int (nI b)) (u2 := .int (nI s_)) (u3 := .int c_) (ax := ax) hc_th) rfl hS rfl ⟨rfl, rfl, Nat.le_of_ble_eq_true rfl, Nat.le_of_ble_eq_true rfl⟩ (Nat.le_of_ble_eq_true rfl) dX12_init_23 ⟨Nat.le_of_ble_eq_true rfl, Nat.le_of_ble_eq_true rfl⟩) hS (fun H5 locs hp hS => ?_)
  obtain ⟨hu, hx0⟩ := hp
  have hU := hU.tr hu
  have hc_th : b_tt G B0 τ H5 a (ta) (.inr (9, [.ref ax, (.int (nI b)), (.int (nI s_)), (.int c_), .ref ax])) := hx0
  rw [← hQ]
  exact b_vret CX hr hlk hS (Nat.le_of_ble_eq_true rfl) (Nat.le_of_ble_eq_true rfl) dX12_init_26 (⟨hU, hc_th⟩)
theorem gf_X12_1_9 {p : Program} {l : Launch} {e : Env} {R : Room} {s : State} {m : MethodId} {args : Array Value} {below : List Frame} {meth : Method} {c : Code} {H : Heap} {locs : List Loc} {cells slots : Nat} {Q : State → Prop} {cc : ByteArray} {pc nL a : Nat} {ls : Array Slot} {rest : List Value} {G : b_G} {B0 : Nat} (CX : b_Cx p s m args c cc nL RX12 G B0) {fs : List Value} (hP : b_at G a (.inr (9, fs)) H) {v : Value} (hv : fs[4]? = some v) (hdg : decode cc pc = .ok (.getfield 1, 3)) (kk : W p l e R s m args below meth c H locs cells slots Q (F0 m (pc + 3) ls (v :: rest))) : W p l e R s m args below meth c H locs cells slots Q (F0 m pc ls (.ref a :: rest)) := b_get CX in_X12 rfl 4 (by decide) q1456 (Or.inl rfl) hP hv hdg kk
theorem gf_X12_23_0 {p : Program} {l : Launch} {e : Env} {R : Room} {s : State} {m : MethodId} {args : Array Value} {below : List Frame} {meth : Method} {c : Code} {H : Heap} {locs : List Loc} {cells slots : Nat} {Q : State → Prop} {cc : ByteArray} {pc nL a : Nat} {ls : Array Slot} {rest : List Value} {G : b_G} {B0 : Nat} (CX : b_Cx p s m args c cc nL RX12 G B0) {fs : List Value} (hP : b_at G a (.inr (0, fs)) H) {v : Value} (hv : fs[0]? = some v) (hdg : decode cc pc = .ok (.getfield 23, 3)) (kk : W p l e R s m args below meth c H locs cells slots Q (F0 m (pc + 3) ls (v :: rest))) : W p l e R s m args below meth c H locs cells slots Q (F0 m pc ls (.ref a :: rest)) := b_getN CX in_X1 rfl 0 (by decide) q248 (Or.inl rfl) hP hv hdg kk
theorem gf_X12_7_9 {p : Program} {l : Launch} {e : Env} {R : Room} {s : State} {m : MethodId} {args : Array Value} {below : List Frame} {meth : Method} {c : Code} {H : Heap} {locs : List Loc} {cells slots : Nat} {Q : State → Prop} {cc : ByteArray} {pc nL a : Nat} {ls : Array Slot} {rest : List Value} {G : b_G} {B0 : Nat} (CX : b_Cx p s m args c cc nL RX12 G B0) {fs : List Value} (hP : b_at G a (.inr (9, fs)) H) {v : Value} (hv : fs[1]? = some v) (hdg : decode cc pc = .ok (.getfield 7, 3)) (kk : W p l e R s m args below meth c H locs cells slots Q (F0 m (pc + 3) ls (v :: rest))) : W p l e R s m args below meth c H locs cells slots Q (F0 m pc ls (.ref a :: rest)) := b_get CX in_X12 rfl 1 (by decide) q1453 (Or.inl rfl) hP hv hdg kk
theorem gf_X12_29_1 {p : Program} {l : Launch} {e : Env} {R : Room} {s : State} {m : MethodId} {args : Array Value} {below : List Frame} {meth : Method} {c : Code} {H : Heap} {locs : List Loc} {cells slots : Nat} {Q : State → Prop} {cc : ByteArray} {pc nL a : Nat} {ls : Array Slot} {rest : List Value} {G : b_G} {B0 : Nat} (CX : b_Cx p s m args c cc nL RX12 G B0) {fs : List Value} (hP : b_at G a (.inr (1, fs)) H) {v : Value} (hv : fs[1]? = some v) (hdg : decode cc pc = .ok (.getfield 29, 3)) (kk : W p l e R s m args below meth c H locs cells slots Q (F0 m (pc + 3) ls (v :: rest))) : W p l e R s m args below meth c H locs cells slots Q (F0 m pc ls (.ref a :: rest)) := b_getN CX in_X2 rfl 1 (by decide) q175 (Or.inl rfl) hP hv hdg kk
theorem gf_X12_11_9 {p : Program} {l : Launch} {e : Env} {R : Room} {s : State} {m : MethodId} {args : Array Value} {below : List Frame} {meth : Method} {c : Code} {H : Heap} {locs : List Loc} {cells slots : Nat} {Q : State → Prop} {cc : ByteArray} {pc nL a : Nat} {ls : Array Slot} {rest : List Value} {G : b_G} {B0 : Nat} (CX : b_Cx p s m args c cc nL RX12 G B0) {fs : List Value} (hP : b_at G a (.inr (9, fs)) H) {v : Value} (hv : fs[2]? = some v) (hdg : decode cc pc = .ok (.getfield 11, 3)) (kk : W p l e R s m args below meth c H locs cells slots Q (F0 m (pc + 3) ls (v :: rest))) : W p l e R s m args below meth c H locs cells slots Q (F0 m pc ls (.ref a :: rest)) := b_get CX in_X12 rfl 2 (by decide) q1454 (Or.inl rfl) hP hv hdg kk
theorem cs_X12_35 {p : Program} {l : Launch} {e : Env} {R : Room} {s : State} {m : MethodId} {args : Array Value} {below : List Frame} {meth : Method} {c : Code} {H : Heap} {locs : List Loc} {cells slots : Nat} {cc : ByteArray} {pc nL a : Nat} {ls : Array Slot} {rest : List Value} {G : b_G} {B0 : Nat} (CX : b_Cx p s m args c cc nL RX12 G B0) (hls : ls.size = nL) {rm : Room} {mc ms : Nat} {As st0 : List Value} {Qc : Array Value → State → Outcome → State → Prop} (hM : Met l yJ2_get (ws_ yJ2_get cJ2_get 2 (Option.some (Jvm.ClassFile.FieldType.object "java/lang/Object"))) rm (b_Pc G B0 H (.ref a :: As)) Qc mc ms (b_A B0)) (hn : As.length = 1) {fs : List Value} {ci : Nat} {qc : vw_C} (hc : b_cl[ci]? = some qc) (hq : qc.1 = RJ2) (hP : b_at G a (.inr (ci, fs)) H) (hS : va_S (b_A B0) s.heap H locs) (hst : st0 = As.reverse ++ .ref a :: rest) (hr : rm.cells = mc ∧ rm.slots = ms ∧ rm.frames + 1 ≤ R.frames ∧ 8 + (2 + 11) + rm.locals ≤ R.locals) (hw : (rest.map fun v => v.category).sum ≤ 8) (hdg : decode cc pc = .ok (.invokevirtual 35, 3)) (hf : cells + mc ≤ R.cells ∧ slots + ms ≤ R.slots) : va_Run p l e R s m args below meth c H locs cells slots mc ms (F0 m pc ls st0) rest (Qc (Value.ref a :: As).toArray) (b_A B0) := va_runV CX.fix hM (cwV 1 CX.ts (lw_V q1204 q796 q797 q83 q798) rfl hr.1 hr.2.1 (by decide +kernel) ⟨hr.2.2.1, hr.2.2.2⟩) ⟨b_blind G B0 H _, by have h9 := b_recv CX.K hc hP; rw [hq] at h9; exact h9, b_pre _ CX.K hS⟩ rfl hn hls hst (lv_room hw) hdg hf
theorem gf_X12_14_9 {p : Program} {l : Launch} {e : Env} {R : Room} {s : State} {m : MethodId} {args : Array Value} {below : List Frame} {meth : Method} {c : Code} {H : Heap} {locs : List Loc} {cells slots : Nat} {Q : State → Prop} {cc : ByteArray} {pc nL a : Nat} {ls : Array Slot} {rest : List Value} {G : b_G} {B0 : Nat} (CX : b_Cx p s m args c cc nL RX12 G B0) {fs : List Value} (hP : b_at G a (.inr (9, fs)) H) {v : Value} (hv : fs[3]? = some v) (hdg : decode cc pc = .ok (.getfield 14, 3)) (kk : W p l e R s m args below meth c H locs cells slots Q (F0 m (pc + 3) ls (v :: rest))) : W p l e R s m args below meth c H locs cells slots Q (F0 m pc ls (.ref a :: rest)) := b_get CX in_X12 rfl 3 (by decide) q1455 (Or.inl rfl) hP hv hdg kk
theorem cx_X12_43 {p : Program} {l : Launch} {e : Env} {R : Room} {s : State} {m : MethodId} {args : Array Value} {below : List Frame} {meth : Method} {c : Code} {H : Heap} {locs : List Loc} {cells slots : Nat} {cc : ByteArray} {pc nL a : Nat} {ls : Array Slot} {rest : List Value} {G : b_G} {B0 : Nat} (CX : b_Cx p s m args c cc nL RX12 G B0) (hls : ls.size = nL) {rm : Room} {mc ms : Nat} {As st0 : List Value} {Qc : Array Value → State → Outcome → State → Prop} {XC : String → Addr → State → State → Prop} (hM : vx_Met l yX2_tryDeliver (ws_ yX2_tryDeliver cX2_tryDeliver 5 (Option.none)) rm (b_Pc G B0 H (.ref a :: As)) Qc XC mc ms (b_A B0)) (hn : As.length = 3) {fs : List Value} {ci : Nat} {qc : vw_C} (hc : b_cl[ci]? = some qc) (hq : qc.1 = RX2) (hP : b_at G a (.inr (ci, fs)) H) (hS : va_S (b_A B0) s.heap H locs) (hst : st0 = As.reverse ++ .ref a :: rest) (hr : rm.cells = mc ∧ rm.slots = ms ∧ rm.frames + 1 ≤ R.frames ∧ 8 + (5 + 11) + rm.locals ≤ R.locals) (hw : (rest.map fun v => v.category).sum ≤ 8) (hdg : decode cc pc = .ok (.invokevirtual 43, 3)) (hf : cells + mc ≤ R.cells ∧ slots + ms ≤ R.slots) : vx_Run p l e R s m args below meth c H locs cells slots mc ms (F0 m pc ls st0) rest (Qc (Value.ref a :: As).toArray) XC (b_A B0) := vx_runV CX.fix hM (cwV 3 CX.ts (lw_V q1206 q1207 q1208 q80 q1209) rfl hr.1 hr.2.1 (by decide +kernel) ⟨hr.2.2.1, hr.2.2.2⟩) ⟨b_blind G B0 H _, by have h9 := b_recv CX.K hc hP; rw [hq] at h9; exact h9, b_pre _ CX.K hS⟩ rfl hn hls hst (lv_room hw) hdg hf
set_option maxHeartbeats 2000000 in
set_option maxRecDepth 100000 in
theorem m_X12_check (l : Launch) {G : b_G} {B0 : Nat} {H : Heap} {τ : b_T} {id : Nat} {F : Nat → Nat} {M : Nat → Int32} {E : Nat → Bool} {S : b_St} {Z : Nat → Nat → Int32} {da : Nat} {td : Nat} {a : Nat} {asv : Nat} {atx : Nat} {atk : Nat} {hs : Int64} {b : Nat} {s_ : Nat} {c_ : Int32} (hc_D : b_tt G B0 τ H da (td) (.inr (9, [.ref a, .int (nI b), .int (nI s_), .int c_, .ref a]))) (hc_X : b_tt G B0 τ H a 0 (.inr (0, [.ref ((F 0)), .ref asv, .ref atx, .ref atk, .long hs]))) (hL : LR G B0 τ id F M E H S Z) (hW : b_WF S) (hBb : b < nb S) (hSs_ : s_ < ns S) : vx_Met l yX12_check (ws_ yX12_check cX12_check 1 (Option.none)) ({ frames := 7, cells := 3, slots := 18, locals := 152 } : Room) (b_Pc G B0 H [.ref da]) (b_Qv B0 (fun H1 => ((a_deliver S b s_ c_) = nI 0) ∧ H1 = H)) (b_X B0 (fun E9 q9 H9 => e_px G B0 H (a_deliver S b s_ c_) E9 q9 H9)) 3 18 (b_A B0) := by
  refine b_ofX (by decide) (Nat.le_of_ble_eq_true rfl) ?_
  intro p e s m below meth c CX hr hlk htb hS ls hl
  have CX : b_Cx p s m _ c cX12_check 1 RX12 G B0 := CX
  have hx := CX.hx
  have hb := CX.hb
  have hl : lv_has ls 1 [(0, .ref da)] := hl
  generalize hQ : vx_MQ below (b_Qv B0 (fun H1 => ((a_deliver S b s_ c_) = nI 0) ∧ H1 = H)) (b_X B0 (fun E9 q9 H9 => e_px G B0 H (a_deliver S b s_ c_) E9 q9 H9)) ([.ref da] : List Value).toArray s 3 18 (b_A B0) = Q
  have hX : b_Ext H H := b_Ext.rf
  have hnb : nb S = nb S := rfl
  have hns : ns S = ns S := rfl
  have hn8 := hL.2.2.2.1
  have hn6 := hL.2.2.2.2
  refine lv_aload_n hx hb dX12_check_0 rfl (lv_at hl 0 rfl) ?_
  refine gf_X12_1_9 CX hc_D.at rfl dX12_check_1 ?_
  refine gf_X12_23_0 CX hc_X.at rfl dX12_check_4 ?_
  refine lv_aload_n hx hb dX12_check_7 rfl (lv_at hl 0 rfl) ?_
  refine gf_X12_7_9 CX hc_D.at rfl dX12_check_8 ?_
  refine lv_aload_n hx hb dX12_check_11 rfl (lv_at hl 0 rfl) ?_
  refine gf_X12_1_9 CX hc_D.at rfl dX12_check_12 ?_
  refine gf_X12_23_0 CX hc_X.at rfl dX12_check_15 ?_
  refine gf_X12_29_1 CX hL.loop.at rfl dX12_check_18 ?_
  refine lv_aload_n hx hb dX12_check_21 rfl (lv_at hl 0 rfl) ?_
  refine gf_X12_11_9 CX hc_D.at rfl dX12_check_22 ?_
  refine b_cq0 (cs_X12_35 (rest := [.int (nI b), .ref ((F 0))]) CX hl.1 (m_J2_get l (a := (F 3)) (ta := 1000 * id + 3) (mc := M 3) (ra := (F 4)) (tr := 1000 * id + 4) (f := (fun j => F (30 + j))) (n := ns S) (i := s_) (hL.alg3 hW (by omega)) (hL.arg4 (by omega)) (by omega) (by omega)) rfl rfl rfl (hL.alg3 hW (by omega)).at hS rfl ⟨rfl, rfl, Nat.le_of_ble_eq_true rfl, Nat.le_of_ble_eq_true rfl⟩ (Nat.le_of_ble_eq_true rfl) dX12_check_25 ⟨Nat.le_of_ble_eq_true rfl, Nat.le_of_ble_eq_true rfl⟩) hS (fun locs hS => ?_)
  refine b_cast CX (ci := 5) rfl (hL.shop (k := s_) (by omega)).at q1205 dX12_check_28 ?_
  refine lv_aload_n hx hb dX12_check_31 rfl (lv_at hl 0 rfl) ?_
  refine gf_X12_14_9 CX hc_D.at rfl dX12_check_32 ?_
  refine b_xv0 (cx_X12_43 (rest := []) CX hl.1 (m_X2_tryDeliver l (b := b) (s_ := s_) (c_ := c_) hL hW (by omega) (by omega)) rfl rfl rfl hL.loop.at hS rfl ⟨rfl, rfl, Nat.le_of_ble_eq_true rfl, Nat.le_of_ble_eq_true rfl⟩ (Nat.le_of_ble_eq_true rfl) dX12_check_35 ⟨Nat.le_of_ble_eq_true rfl, Nat.le_of_ble_eq_true rfl⟩) hS (fun E9 q9 Hx1 locs hx9 hS he9 => ?_) (fun hk_35 locs hS => ?_)
  · rw [← hQ]
    exact b_xout htb hlk he9 hS (Nat.le_of_ble_eq_true rfl) (Nat.le_of_ble_eq_true rfl) (hx9)
  rw [← hQ]
  exact vx_ret (b_vret CX hr hlk hS (Nat.le_of_ble_eq_true rfl) (Nat.le_of_ble_eq_true rfl) dX12_check_38 (⟨(by exact hk_35), rfl⟩))
theorem cs_X12_47 {p : Program} {l : Launch} {e : Env} {R : Room} {s : State} {m : MethodId} {args : Array Value} {below : List Frame} {meth : Method} {c : Code} {H : Heap} {locs : List Loc} {cells slots : Nat} {cc : ByteArray} {pc nL a : Nat} {ls : Array Slot} {rest : List Value} {G : b_G} {B0 : Nat} (CX : b_Cx p s m args c cc nL RX12 G B0) (hls : ls.size = nL) {rm : Room} {mc ms : Nat} {As st0 : List Value} {Qc : Array Value → State → Outcome → State → Prop} (hM : Met l yX2_deliver (ws_ yX2_deliver cX2_deliver 7 (Option.some Jvm.ClassFile.FieldType.int)) rm (b_Pc G B0 H (.ref a :: As)) Qc mc ms (b_A B0)) (hn : As.length = 3) {fs : List Value} {ci : Nat} {qc : vw_C} (hc : b_cl[ci]? = some qc) (hq : qc.1 = RX2) (hP : b_at G a (.inr (ci, fs)) H) (hS : va_S (b_A B0) s.heap H locs) (hst : st0 = As.reverse ++ .ref a :: rest) (hr : rm.cells = mc ∧ rm.slots = ms ∧ rm.frames + 1 ≤ R.frames ∧ 8 + (7 + 11) + rm.locals ≤ R.locals) (hw : (rest.map fun v => v.category).sum ≤ 8) (hdg : decode cc pc = .ok (.invokevirtual 47, 3)) (hf : cells + mc ≤ R.cells ∧ slots + ms ≤ R.slots) : va_Run p l e R s m args below meth c H locs cells slots mc ms (F0 m pc ls st0) rest (Qc (Value.ref a :: As).toArray) (b_A B0) := va_runV CX.fix hM (cwV 3 CX.ts (lw_V q1369 q1370 q1371 q80 q1372) rfl hr.1 hr.2.1 (by decide +kernel) ⟨hr.2.2.1, hr.2.2.2⟩) ⟨b_blind G B0 H _, by have h9 := b_recv CX.K hc hP; rw [hq] at h9; exact h9, b_pre _ CX.K hS⟩ rfl hn hls hst (lv_room hw) hdg hf
set_option maxHeartbeats 2000000 in
set_option maxRecDepth 100000 in
theorem m_X12_does (l : Launch) {G : b_G} {B0 : Nat} {H : Heap} {τ : b_T} {id : Nat} {F : Nat → Nat} {M : Nat → Int32} {E : Nat → Bool} {S : b_St} {Z : Nat → Nat → Int32} {da : Nat} {td : Nat} {a : Nat} {asv : Nat} {atx : Nat} {atk : Nat} {hs : Int64} {b : Nat} {s_ : Nat} {c_ : Int32} (hc_D : b_tt G B0 τ H da (td) (.inr (9, [.ref a, .int (nI b), .int (nI s_), .int c_, .ref a]))) (hc_X : b_tt G B0 τ H a 0 (.inr (0, [.ref ((F 0)), .ref asv, .ref atx, .ref atk, .long hs]))) (hL : LR G B0 τ id F M E H S Z) (hW : b_WF S) (hBb : b < nb S) (hSs_ : s_ < ns S) (hi0 : 0 < id) (htd : td < 1000) : Met l yX12_does (ws_ yX12_does cX12_does 1 (Option.some Jvm.ClassFile.FieldType.int)) ({ frames := 4, cells := 0, slots := 0, locals := 90 } : Room) (b_Pc G B0 H [.ref da]) (b_Qi B0 (fun r H1 => r = p_price S b c_ ∧ b_Fr τ (fun t => 1000 * id ≤ t ∧ t < 1000 * id + 1000) H H1 ∧ LR G B0 τ id F M E H1 ((s_deliver S b s_ c_)) Z)) 0 0 (b_A B0) := by
  refine b_of (by decide) (Nat.le_of_ble_eq_true rfl) ?_
  intro p e s m below meth c CX hr hlk hnm hS ls hl
  have CX : b_Cx p s m _ c cX12_does 1 RX12 G B0 := CX
  have hx := CX.hx
  have hb := CX.hb
  have hl : lv_has ls 1 [(0, .ref da)] := hl
  generalize hQ : MQ below (b_Qi B0 (fun r H1 => r = p_price S b c_ ∧ b_Fr τ (fun t => 1000 * id ≤ t ∧ t < 1000 * id + 1000) H H1 ∧ LR G B0 τ id F M E H1 ((s_deliver S b s_ c_)) Z)) ([.ref da] : List Value).toArray s 0 0 (b_A B0) = Q
  have hF : b_Fr τ (fun t => 1000 * id ≤ t ∧ t < 1000 * id + 1000) H H := b_Fr.rf
  have hA : b_Ag τ τ H := b_Ag.rf
  have hnb : nb S = nb S := rfl
  have hns : ns S = ns S := rfl
  have hn8 := hL.2.2.2.1
  have hn6 := hL.2.2.2.2
  refine lv_aload_n hx hb dX12_does_0 rfl (lv_at hl 0 rfl) ?_
  refine gf_X12_1_9 CX hc_D.at rfl dX12_does_1 ?_
  refine gf_X12_23_0 CX hc_X.at rfl dX12_does_4 ?_
  refine lv_aload_n hx hb dX12_does_7 rfl (lv_at hl 0 rfl) ?_
  refine gf_X12_7_9 CX hc_D.at rfl dX12_does_8 ?_
  refine lv_aload_n hx hb dX12_does_11 rfl (lv_at hl 0 rfl) ?_
  refine gf_X12_1_9 CX hc_D.at rfl dX12_does_12 ?_
  refine gf_X12_23_0 CX hc_X.at rfl dX12_does_15 ?_
  refine gf_X12_29_1 CX hL.loop.at rfl dX12_does_18 ?_
  refine lv_aload_n hx hb dX12_does_21 rfl (lv_at hl 0 rfl) ?_
  refine gf_X12_11_9 CX hc_D.at rfl dX12_does_22 ?_
  refine b_cq0 (cs_X12_35 (rest := [.int (nI b), .ref ((F 0))]) CX hl.1 (m_J2_get l (a := (F 3)) (ta := 1000 * id + 3) (mc := M 3) (ra := (F 4)) (tr := 1000 * id + 4) (f := (fun j => F (30 + j))) (n := ns S) (i := s_) (hL.alg3 hW (by omega)) (hL.arg4 (by omega)) (by omega) (by omega)) rfl rfl rfl (hL.alg3 hW (by omega)).at hS rfl ⟨rfl, rfl, Nat.le_of_ble_eq_true rfl, Nat.le_of_ble_eq_true rfl⟩ (Nat.le_of_ble_eq_true rfl) dX12_does_25 ⟨Nat.le_of_ble_eq_true rfl, Nat.le_of_ble_eq_true rfl⟩) hS (fun locs hS => ?_)
  refine b_cast CX (ci := 5) rfl (hL.shop (k := s_) (by omega)).at q1205 dX12_does_28 ?_
  refine lv_aload_n hx hb dX12_does_31 rfl (lv_at hl 0 rfl) ?_
  refine gf_X12_14_9 CX hc_D.at rfl dX12_does_32 ?_
  refine b_ci (cs_X12_47 (rest := []) CX hl.1 (m_X2_deliver l (b := b) (s_ := s_) (c_ := c_) hL hW (by omega) (by omega)) rfl rfl rfl hL.loop.at hS rfl ⟨rfl, rfl, Nat.le_of_ble_eq_true rfl, Nat.le_of_ble_eq_true rfl⟩ (Nat.le_of_ble_eq_true rfl) dX12_does_35 ⟨Nat.le_of_ble_eq_true rfl, Nat.le_of_ble_eq_true rfl⟩) hS (fun r H1 locs hp hS => ?_)
  obtain ⟨rfl, hF9, hL9⟩ := hp
  have hc_D := hc_D.fr hF9 (show ¬ (1000 * id ≤ (td) ∧ (td) < 1000 * id + 1000) by omega)
  have hc_X := hc_X.fr hF9 (show ¬ (1000 * id ≤ 0 ∧ 0 < 1000 * id + 1000) by omega)
  have hF := hF.tr hA hF9 (fun q9 hq9 x9 => by have x8 : 1000 * id ≤ τ q9 ∧ τ q9 < 1000 * id + 1000 := x9; show 1000 * id ≤ τ q9 ∧ τ q9 < 1000 * id + 1000; omega)
  have hL : LR G B0 τ id F M E H1 ((s_deliver S b s_ c_)) Z := hL9
  rw [← hQ]
  exact b_iret CX hr hlk hS (Nat.le_of_ble_eq_true rfl) (Nat.le_of_ble_eq_true rfl) dX12_does_38 (⟨rfl, hF, hL⟩)
theorem cx_X6_15_9 {p : Program} {l : Launch} {e : Env} {R : Room} {s : State} {m : MethodId} {args : Array Value} {below : List Frame} {meth : Method} {c : Code} {H : Heap} {locs : List Loc} {cells slots : Nat} {cc : ByteArray} {pc nL a : Nat} {ls : Array Slot} {rest : List Value} {G : b_G} {B0 : Nat} (CX : b_Cx p s m args c cc nL RX6 G B0) (hls : ls.size = nL) {rm : Room} {mc ms : Nat} {As st0 : List Value} {Qc : Array Value → State → Outcome → State → Prop} {XC : String → Addr → State → State → Prop} (hM : vx_Met l yX12_check (ws_ yX12_check cX12_check 1 (Option.none)) rm (b_Pc G B0 H (.ref a :: As)) Qc XC mc ms (b_A B0)) (hn : As.length = 0) {fs : List Value} (hP : b_at G a (.inr (9, fs)) H) (hS : va_S (b_A B0) s.heap H locs) (hst : st0 = As.reverse ++ .ref a :: rest) (hr : rm.cells = mc ∧ rm.slots = ms ∧ rm.frames + 1 ≤ R.frames ∧ 8 + (1 + 11) + rm.locals ≤ R.locals) (hw : (rest.map fun v => v.category).sum ≤ 8) (hdg : decode cc pc = .ok (.invokevirtual 15, 3)) (hf : cells + mc ≤ R.cells ∧ slots + ms ≤ R.slots) : vx_Run p l e R s m args below meth c H locs cells slots mc ms (F0 m pc ls st0) rest (Qc (Value.ref a :: As).toArray) XC (b_A B0) := vx_runU CX.fix hM (va_cwA (C := RX12) (owner := RX6) 0 CX.ts (lw_U q1198 q1200 q1201 q1202 q110 q1203) rfl hr.1 hr.2.1 (CX.K.2.1 _ q1199 rfl) ⟨by decide, by decide, by decide +kernel⟩ ⟨hr.2.2.1, hr.2.2.2⟩) ⟨b_blind G B0 H _, b_recv CX.K (ci := 9) rfl hP, b_pre _ CX.K hS⟩ rfl hn hls hst (lv_room hw) hdg hf
theorem cs_X6_24_18 {p : Program} {l : Launch} {e : Env} {R : Room} {s : State} {m : MethodId} {args : Array Value} {below : List Frame} {meth : Method} {c : Code} {H : Heap} {locs : List Loc} {cells slots : Nat} {cc : ByteArray} {pc nL a : Nat} {ls : Array Slot} {rest : List Value} {G : b_G} {B0 : Nat} (CX : b_Cx p s m args c cc nL RX6 G B0) (hls : ls.size = nL) {rm : Room} {mc ms : Nat} {As st0 : List Value} {Qc : Array Value → State → Outcome → State → Prop} (hM : Met l yX9_number (ws_ yX9_number cX9_number 1 (Option.some Jvm.ClassFile.FieldType.int)) rm (b_Pc G B0 H (.ref a :: As)) Qc mc ms (b_A B0)) (hn : As.length = 0) {fs : List Value} (hP : b_at G a (.inr (18, fs)) H) (hS : va_S (b_A B0) s.heap H locs) (hst : st0 = As.reverse ++ .ref a :: rest) (hr : rm.cells = mc ∧ rm.slots = ms ∧ rm.frames + 1 ≤ R.frames ∧ 8 + (1 + 11) + rm.locals ≤ R.locals) (hw : (rest.map fun v => v.category).sum ≤ 8) (hdg : decode cc pc = .ok (.invokevirtual 24, 3)) (hf : cells + mc ≤ R.cells ∧ slots + ms ≤ R.slots) : va_Run p l e R s m args below meth c H locs cells slots mc ms (F0 m pc ls st0) rest (Qc (Value.ref a :: As).toArray) (b_A B0) := va_runU CX.fix hM (va_cwA (C := RX9) (owner := RX8) 0 CX.ts (lw_U q1349 q1351 q1352 q1353 q107 q1354) rfl hr.1 hr.2.1 (CX.K.2.1 _ q1350 rfl) ⟨by decide, by decide, by decide +kernel⟩ ⟨hr.2.2.1, hr.2.2.2⟩) ⟨b_blind G B0 H _, b_recv CX.K (ci := 18) rfl hP, b_pre _ CX.K hS⟩ rfl hn hls hst (lv_room hw) hdg hf
theorem cs_X6_24_19 {p : Program} {l : Launch} {e : Env} {R : Room} {s : State} {m : MethodId} {args : Array Value} {below : List Frame} {meth : Method} {c : Code} {H : Heap} {locs : List Loc} {cells slots : Nat} {cc : ByteArray} {pc nL a : Nat} {ls : Array Slot} {rest : List Value} {G : b_G} {B0 : Nat} (CX : b_Cx p s m args c cc nL RX6 G B0) (hls : ls.size = nL) {rm : Room} {mc ms : Nat} {As st0 : List Value} {Qc : Array Value → State → Outcome → State → Prop} (hM : Met l yX10_number (ws_ yX10_number cX10_number 1 (Option.some Jvm.ClassFile.FieldType.int)) rm (b_Pc G B0 H (.ref a :: As)) Qc mc ms (b_A B0)) (hn : As.length = 0) {fs : List Value} (hP : b_at G a (.inr (19, fs)) H) (hS : va_S (b_A B0) s.heap H locs) (hst : st0 = As.reverse ++ .ref a :: rest) (hr : rm.cells = mc ∧ rm.slots = ms ∧ rm.frames + 1 ≤ R.frames ∧ 8 + (1 + 11) + rm.locals ≤ R.locals) (hw : (rest.map fun v => v.category).sum ≤ 8) (hdg : decode cc pc = .ok (.invokevirtual 24, 3)) (hf : cells + mc ≤ R.cells ∧ slots + ms ≤ R.slots) : va_Run p l e R s m args below meth c H locs cells slots mc ms (F0 m pc ls st0) rest (Qc (Value.ref a :: As).toArray) (b_A B0) := va_runU CX.fix hM (va_cwA (C := RX10) (owner := RX8) 0 CX.ts (lw_U q1349 q1351 q1355 q1356 q108 q1357) rfl hr.1 hr.2.1 (CX.K.2.1 _ q1350 rfl) ⟨by decide, by decide, by decide +kernel⟩ ⟨hr.2.2.1, hr.2.2.2⟩) ⟨b_blind G B0 H _, b_recv CX.K (ci := 19) rfl hP, b_pre _ CX.K hS⟩ rfl hn hls hst (lv_room hw) hdg hf
theorem cs_X6_24_20 {p : Program} {l : Launch} {e : Env} {R : Room} {s : State} {m : MethodId} {args : Array Value} {below : List Frame} {meth : Method} {c : Code} {H : Heap} {locs : List Loc} {cells slots : Nat} {cc : ByteArray} {pc nL a : Nat} {ls : Array Slot} {rest : List Value} {G : b_G} {B0 : Nat} (CX : b_Cx p s m args c cc nL RX6 G B0) (hls : ls.size = nL) {rm : Room} {mc ms : Nat} {As st0 : List Value} {Qc : Array Value → State → Outcome → State → Prop} (hM : Met l yX11_number (ws_ yX11_number cX11_number 1 (Option.some Jvm.ClassFile.FieldType.int)) rm (b_Pc G B0 H (.ref a :: As)) Qc mc ms (b_A B0)) (hn : As.length = 0) {fs : List Value} (hP : b_at G a (.inr (20, fs)) H) (hS : va_S (b_A B0) s.heap H locs) (hst : st0 = As.reverse ++ .ref a :: rest) (hr : rm.cells = mc ∧ rm.slots = ms ∧ rm.frames + 1 ≤ R.frames ∧ 8 + (1 + 11) + rm.locals ≤ R.locals) (hw : (rest.map fun v => v.category).sum ≤ 8) (hdg : decode cc pc = .ok (.invokevirtual 24, 3)) (hf : cells + mc ≤ R.cells ∧ slots + ms ≤ R.slots) : va_Run p l e R s m args below meth c H locs cells slots mc ms (F0 m pc ls st0) rest (Qc (Value.ref a :: As).toArray) (b_A B0) := va_runU CX.fix hM (va_cwA (C := RX11) (owner := RX8) 0 CX.ts (lw_U q1349 q1351 q1358 q1359 q109 q1360) rfl hr.1 hr.2.1 (CX.K.2.1 _ q1350 rfl) ⟨by decide, by decide, by decide +kernel⟩ ⟨hr.2.2.1, hr.2.2.2⟩) ⟨b_blind G B0 H _, b_recv CX.K (ci := 20) rfl hP, b_pre _ CX.K hS⟩ rfl hn hls hst (lv_room hw) hdg hf
set_option maxHeartbeats 2000000 in
set_option maxRecDepth 100000 in
theorem m_X6_reason_9 (l : Launch) {G : b_G} {B0 : Nat} {H : Heap} {τ : b_T} {id : Nat} {F : Nat → Nat} {M : Nat → Int32} {E : Nat → Bool} {S : b_St} {Z : Nat → Nat → Int32} {da : Nat} {td : Nat} {a : Nat} {asv : Nat} {atx : Nat} {atk : Nat} {hs : Int64} {b : Nat} {s_ : Nat} {c_ : Int32} (hc_D : b_tt G B0 τ H da (td) (.inr (9, [.ref a, .int (nI b), .int (nI s_), .int c_, .ref a]))) (hc_X : b_tt G B0 τ H a 0 (.inr (0, [.ref ((F 0)), .ref asv, .ref atx, .ref atk, .long hs]))) (hL : LR G B0 τ id F M E H S Z) (hW : b_WF S) (hBb : b < nb S) (hSs_ : s_ < ns S) : vx_Met l yX6_reason (wsW_ yX6_reason cX6_reason 2 (Option.some Jvm.ClassFile.FieldType.int) [((0 : Nat), (5 : Nat), (6 : Nat), (18 : Nat)), ((0 : Nat), (5 : Nat), (6 : Nat), (20 : Nat)), ((0 : Nat), (5 : Nat), (6 : Nat), (22 : Nat)), ((0 : Nat), (5 : Nat), (12 : Nat), (25 : Nat))]) ({ frames := 8, cells := 3, slots := 18, locals := 172 } : Room) (b_Pc G B0 H [.ref da]) (b_Qi B0 (fun r H1 => r = (a_deliver S b s_ c_) ∧ b_Ext H H1)) (b_X B0 (fun E9 q9 H9 => False)) 3 18 (b_A B0) := by
  refine b_ofXW (by decide) (Nat.le_of_ble_eq_true rfl) ?_
  intro p e s m below meth c CX hr hlk htb hS ls hl
  have CX : b_Cx p s m _ c cX6_reason 2 RX6 G B0 := CX
  have hx := CX.hx
  have hb := CX.hb
  have hl : lv_has ls 2 [(0, .ref da)] := hl
  generalize hQ : vx_MQ below (b_Qi B0 (fun r H1 => r = (a_deliver S b s_ c_) ∧ b_Ext H H1)) (b_X B0 (fun E9 q9 H9 => False)) ([.ref da] : List Value).toArray s 3 18 (b_A B0) = Q
  have hX : b_Ext H H := b_Ext.rf
  have hnb : nb S = nb S := rfl
  have hns : ns S = ns S := rfl
  have hn8 := hL.2.2.2.1
  have hn6 := hL.2.2.2.2
  refine lv_aload_n hx hb dX6_reason_0 rfl (lv_at hl 0 rfl) ?_
  refine b_xv0 (cx_X6_15_9 (rest := []) CX hl.1 (m_X12_check l (da := da) (td := td) (a := a) (asv := asv) (atx := atx) (atk := atk) (hs := hs) (b := b) (s_ := s_) (c_ := c_) hc_D hc_X hL hW (by omega) (by omega)) rfl hc_D.at hS rfl ⟨rfl, rfl, Nat.le_of_ble_eq_true rfl, Nat.le_of_ble_eq_true rfl⟩ (Nat.le_of_ble_eq_true rfl) dX6_reason_1 ⟨Nat.le_of_ble_eq_true rfl, Nat.le_of_ble_eq_true rfl⟩) hS (fun E9 q9 Hx1 locs hx9 hS he9 => ?_) (fun hk_1 locs hS => ?_)
  · obtain ⟨hE, hz, hB, v9, hv9, hcd, hnm9, hat⟩ := hx9
    rcases hv9 with rfl | rfl | rfl
    · obtain rfl := hnm9
      refine b_xcatch CX (E := "BottleLoop$NoBottles") (name := "BottleLoop$NoBottles") [] ⟨0, 5, 6, 18⟩ [⟨0, 5, 6, 20⟩, ⟨0, 5, 6, 22⟩, ⟨0, 5, 12, 25⟩] (by rw [htb]; rfl) (fun z hz9 => nomatch hz9) (by decide) (by decide) q1194 (CX.nw q1215 rfl rfl) he9 ?_
      have hc_D := hc_D.ad (tb := 101) hE hz
      have hc_X := hc_X.ad (tb := 101) hE hz
      have hL := hL.ad (tb := 101) hE hz
      have fr_ex : H.size ≤ q9 := Nat.le_trans hX.1 hz
      have hX := hX.tr hE
      have hc_ex : b_tt G B0 ((upT τ q9 101)) Hx1 q9 101 (.inr (18, [.null, .null, .null, .null, .null, .int (nI 0)])) := b_tt.mk hat hB
      refine lv_astore_n (lv' := [(1, .ref q9), (0, .ref da)]) hx hb dX6_reason_6 rfl hl (Nat.le_of_ble_eq_true rfl) rfl (fun ls hl => ?_)
      refine lv_aload_n hx hb dX6_reason_7 rfl (lv_at hl 0 rfl) ?_
      refine b_ci0 (cs_X6_24_18 (rest := []) CX hl.1 (m_X9_number l (a := q9) (ta := 101) hc_ex) rfl hc_ex.at hS rfl ⟨rfl, rfl, Nat.le_of_ble_eq_true rfl, Nat.le_of_ble_eq_true rfl⟩ (Nat.le_of_ble_eq_true rfl) dX6_reason_8 ⟨Nat.le_of_ble_eq_true rfl, Nat.le_of_ble_eq_true rfl⟩) hS (fun locs hS => ?_)
      rw [← hQ]
      exact vx_ret (b_iret CX hr hlk hS (Nat.le_of_ble_eq_true rfl) (Nat.le_of_ble_eq_true rfl) dX6_reason_11 (⟨(by first | exact hk_1.symm | exact hcd.symm), hX⟩))
    · obtain rfl := hnm9
      refine b_xcatch CX (E := "BottleLoop$NoCrates") (name := "BottleLoop$NoCrates") [⟨0, 5, 6, 18⟩] ⟨0, 5, 6, 20⟩ [⟨0, 5, 6, 22⟩, ⟨0, 5, 12, 25⟩] (by rw [htb]; rfl) (fun z hz9 => by rcases List.mem_cons.mp hz9 with rfl | h9; exact Or.inr ⟨by decide, "BottleLoop$NoBottles", q1194, by decide⟩; exact nomatch h9) (by decide) (by decide) q1195 (CX.nw q1242 rfl rfl) he9 ?_
      have hc_D := hc_D.ad (tb := 101) hE hz
      have hc_X := hc_X.ad (tb := 101) hE hz
      have hL := hL.ad (tb := 101) hE hz
      have fr_ex : H.size ≤ q9 := Nat.le_trans hX.1 hz
      have hX := hX.tr hE
      have hc_ex : b_tt G B0 ((upT τ q9 101)) Hx1 q9 101 (.inr (19, [.null, .null, .null, .null, .null, .int (nI 0)])) := b_tt.mk hat hB
      refine lv_astore_n (lv' := [(1, .ref q9), (0, .ref da)]) hx hb dX6_reason_6 rfl hl (Nat.le_of_ble_eq_true rfl) rfl (fun ls hl => ?_)
      refine lv_aload_n hx hb dX6_reason_7 rfl (lv_at hl 0 rfl) ?_
      refine b_ci0 (cs_X6_24_19 (rest := []) CX hl.1 (m_X10_number l (a := q9) (ta := 101) hc_ex) rfl hc_ex.at hS rfl ⟨rfl, rfl, Nat.le_of_ble_eq_true rfl, Nat.le_of_ble_eq_true rfl⟩ (Nat.le_of_ble_eq_true rfl) dX6_reason_8 ⟨Nat.le_of_ble_eq_true rfl, Nat.le_of_ble_eq_true rfl⟩) hS (fun locs hS => ?_)
      rw [← hQ]
      exact vx_ret (b_iret CX hr hlk hS (Nat.le_of_ble_eq_true rfl) (Nat.le_of_ble_eq_true rfl) dX6_reason_11 (⟨(by first | exact hk_1.symm | exact hcd.symm), hX⟩))
    · obtain rfl := hnm9
      refine b_xcatch CX (E := "BottleLoop$NoMoney") (name := "BottleLoop$NoMoney") [⟨0, 5, 6, 18⟩, ⟨0, 5, 6, 20⟩] ⟨0, 5, 6, 22⟩ [⟨0, 5, 12, 25⟩] (by rw [htb]; rfl) (fun z hz9 => by rcases List.mem_cons.mp hz9 with rfl | h9; exact Or.inr ⟨by decide, "BottleLoop$NoBottles", q1194, by decide⟩; rcases List.mem_cons.mp h9 with rfl | h8; exact Or.inr ⟨by decide, "BottleLoop$NoCrates", q1195, by decide⟩; exact nomatch h8) (by decide) (by decide) q1196 (CX.nw q1261 rfl rfl) he9 ?_
      have hc_D := hc_D.ad (tb := 101) hE hz
      have hc_X := hc_X.ad (tb := 101) hE hz
      have hL := hL.ad (tb := 101) hE hz
      have fr_ex : H.size ≤ q9 := Nat.le_trans hX.1 hz
      have hX := hX.tr hE
      have hc_ex : b_tt G B0 ((upT τ q9 101)) Hx1 q9 101 (.inr (20, [.null, .null, .null, .null, .null, .int (nI 0)])) := b_tt.mk hat hB
      refine lv_astore_n (lv' := [(1, .ref q9), (0, .ref da)]) hx hb dX6_reason_6 rfl hl (Nat.le_of_ble_eq_true rfl) rfl (fun ls hl => ?_)
      refine lv_aload_n hx hb dX6_reason_7 rfl (lv_at hl 0 rfl) ?_
      refine b_ci0 (cs_X6_24_20 (rest := []) CX hl.1 (m_X11_number l (a := q9) (ta := 101) hc_ex) rfl hc_ex.at hS rfl ⟨rfl, rfl, Nat.le_of_ble_eq_true rfl, Nat.le_of_ble_eq_true rfl⟩ (Nat.le_of_ble_eq_true rfl) dX6_reason_8 ⟨Nat.le_of_ble_eq_true rfl, Nat.le_of_ble_eq_true rfl⟩) hS (fun locs hS => ?_)
      rw [← hQ]
      exact vx_ret (b_iret CX hr hlk hS (Nat.le_of_ble_eq_true rfl) (Nat.le_of_ble_eq_true rfl) dX6_reason_11 (⟨(by first | exact hk_1.symm | exact hcd.symm), hX⟩))
  refine lv_iconst (v := nI 0) hx hb dX6_reason_4 rfl ?_
  rw [← hQ]
  exact vx_ret (b_iret CX hr hlk hS (Nat.le_of_ble_eq_true rfl) (Nat.le_of_ble_eq_true rfl) dX6_reason_5 (⟨(by first | exact hk_1.symm | exact hcd.symm), hX⟩))
theorem cs_X1_136 {p : Program} {l : Launch} {e : Env} {R : Room} {s : State} {m : MethodId} {args : Array Value} {below : List Frame} {meth : Method} {c : Code} {H : Heap} {locs : List Loc} {cells slots : Nat} {cc : ByteArray} {pc nL a : Nat} {ls : Array Slot} {rest : List Value} {G : b_G} {B0 : Nat} (CX : b_Cx p s m args c cc nL RX1 G B0) (hls : ls.size = nL) {rm : Room} {mc ms : Nat} {As st0 : List Value} {Qc : Array Value → State → Outcome → State → Prop} (hM : Met l yX12_init (ws_ yX12_init cX12_init 5 (Option.none)) rm (b_Pc G B0 H (.ref a :: As)) Qc mc ms (b_A B0)) (hn : As.length = 4) (hS : va_S (b_A B0) s.heap H locs) (hst : st0 = As.reverse ++ .ref a :: rest) (hr : rm.cells = mc ∧ rm.slots = ms ∧ rm.frames + 1 ≤ R.frames ∧ 8 + (5 + 11) + rm.locals ≤ R.locals) (hw : (rest.map fun v => v.category).sum ≤ 8) (hdg : decode cc pc = .ok (.invokespecial 136, 3)) (hf : cells + mc ≤ R.cells ∧ slots + ms ≤ R.slots) : va_Run p l e R s m args below meth c H locs cells slots mc ms (F0 m pc ls st0) rest (Qc (Value.ref a :: As).toArray) (b_A B0) := va_runI CX.fix hM (cwI 4 CX.ts (lw_meth q1451) rfl hr.1 hr.2.1 (CX.ts _ q110) (CX.ts _ q1449) (CX.ts _ q1450) rfl (by decide +kernel) ⟨hr.2.2.1, hr.2.2.2⟩) ⟨b_blind G B0 H _, b_pre _ CX.K hS⟩ rfl hn hls hst (lv_room hw) hdg hf
set_option maxHeartbeats 2000000 in
set_option maxRecDepth 100000 in
theorem m_X1_delivering (l : Launch) {G : b_G} {B0 : Nat} {H : Heap} {a : Nat} {b : Nat} {s_ : Nat} {c_ : Int32} : Met l yX1_delivering (ws_ yX1_delivering cX1_delivering 4 (Option.some (Jvm.ClassFile.FieldType.object "BottleLoop$Deed"))) ({ frames := 3, cells := 1, slots := 5, locals := 65 } : Room) (b_Pc G B0 H [.ref a, .int (nI b), .int (nI s_), .int c_]) (b_Qq B0 (fun r H1 => ∃ q : Nat, r = some q ∧ b_Ext H H1 ∧ H.size ≤ q ∧ B0 ≤ q ∧ b_at G q (.inr (9, [.ref a, .int (nI b), .int (nI s_), .int c_, .ref a])) H1)) 1 5 (b_A B0) := by
  refine b_of (by decide) (Nat.le_of_ble_eq_true rfl) ?_
  intro p e s m below meth c CX hr hlk hnm hS ls hl
  have CX : b_Cx p s m _ c cX1_delivering 4 RX1 G B0 := CX
  have hx := CX.hx
  have hb := CX.hb
  have hl : lv_has ls 4 [(0, .ref a), (1, .int (nI b)), (2, .int (nI s_)), (3, .int c_)] := hl
  generalize hQ : MQ below (b_Qq B0 (fun r H1 => ∃ q : Nat, r = some q ∧ b_Ext H H1 ∧ H.size ≤ q ∧ B0 ≤ q ∧ b_at G q (.inr (9, [.ref a, .int (nI b), .int (nI s_), .int c_, .ref a])) H1)) ([.ref a, .int (nI b), .int (nI s_), .int c_] : List Value).toArray s 1 5 (b_A B0) = Q
  have hX : b_Ext H H := b_Ext.rf
  obtain ⟨τ, -⟩ : ∃ τ : b_T, True := ⟨fun _ => 0, trivial⟩
  refine b_new CX in_X12 tyX12 tyX12_ok (ci := 9) rfl q1447 q1448 q110 (fs := [.null, .int (nI 0), .int (nI 0), .int (nI 0), .null]) (nofn_X12) hS (Nat.le_of_ble_eq_true rfl) (Nat.le_of_ble_eq_true rfl) dX1_delivering_0 (fun q1 H1 hq hB hat hsz hE hS => ?_)
  have fr_dd : H.size ≤ q1 := by rw [hq]; exact hX.1
  have hX := hX.tr hE
  have hc_dd : b_tt G B0 ((upT τ q1 100)) H1 q1 100 (.inr (9, [.null, .int (nI 0), .int (nI 0), .int (nI 0), .null])) := b_tt.mk hat hB
  refine lv_dup hx hb dX1_delivering_3 rfl ?_
  refine lv_aload_n hx hb dX1_delivering_4 rfl (lv_at hl 0 rfl) ?_
  refine lv_iload_n hx hb dX1_delivering_5 rfl (lv_at hl 1 rfl) ?_
  refine lv_iload_n hx hb dX1_delivering_6 rfl (lv_at hl 2 rfl) ?_
  refine lv_iload_n hx hb dX1_delivering_7 rfl (lv_at hl 3 rfl) ?_
  refine b_cv (cs_X1_136 (rest := [.ref q1]) CX hl.1 (m_X12_init l (a := q1) (ta := 100) (ax := a) (b := b) (s_ := s_) (c_ := c_) hc_dd) rfl hS rfl ⟨rfl, rfl, Nat.le_of_ble_eq_true rfl, Nat.le_of_ble_eq_true rfl⟩ (Nat.le_of_ble_eq_true rfl) dX1_delivering_8 ⟨Nat.le_of_ble_eq_true rfl, Nat.le_of_ble_eq_true rfl⟩) hS (fun H2 locs hp hS => ?_)
  obtain ⟨hu, hx0⟩ := hp
  have hX := hX.up hu fr_dd
  have hc_dd : b_tt G B0 ((upT τ q1 100)) H2 q1 100 (.inr (9, [.ref a, .int (nI b), .int (nI s_), .int c_, .ref a])) := hx0
  rw [← hQ]
  exact b_aret (v := some q1) CX hr (Or.inl ⟨_, rfl⟩) hlk hS (Nat.le_of_ble_eq_true rfl) (Nat.le_of_ble_eq_true rfl) dX1_delivering_11 (⟨_, rfl, hX, fr_dd, hc_dd.B, hc_dd.at⟩)
theorem pa_X6_3_10 {p : Program} {l : Launch} {e : Env} {R : Room} {s : State} {m : MethodId} {args : Array Value} {below : List Frame} {meth : Method} {c : Code} {H : Heap} {locs : List Loc} {cells slots : Nat} {Q : State → Prop} {cc : ByteArray} {pc nL a : Nat} {ls : Array Slot} {rest : List Value} {G : b_G} {B0 : Nat} (CX : b_Cx p s m args c cc nL RX6 G B0) (hin2 : meth.name = "<init>") {fs : List Value} (hP : b_at G a (.inr (10, fs)) H) (hS : va_S (b_A B0) s.heap H locs) (ha : B0 ≤ a) {v : Value} (hn : narrow (tyX13 0) v = v) (hfit : fits (tyX13 0) v = true) (hl : 0 < fs.length) (hl2 : 4 < fs.length) (hdg : decode cc pc = .ok (.putfield 3, 3)) (kk : ∀ (w : Value) (H1 : Heap) (locs1 : List Loc), (w = v ∨ fs[4]? = some w) → b_at G a (.inr (10, (fs.set 0 v).set 4 w)) H1 → b_Up a H H1 → va_S (b_A B0) s.heap H1 locs1 → W p l e R s m args below meth c H1 locs1 cells slots Q (F0 m (pc + 3) ls rest)) : W p l e R s m args below meth c H locs cells slots Q (F0 m pc ls (v :: .ref a :: rest)) := b_putFA CX in_X13 tyX13 tyX13_ok rfl 0 4 (by decide) (by decide +kernel) q1165 (Or.inl rfl) rfl hin2 rfl hP hS ha hn hfit hl hl2 (by decide) hdg kk
set_option maxHeartbeats 2000000 in
set_option maxRecDepth 100000 in
theorem m_X6_init_10 (l : Launch) {G : b_G} {B0 : Nat} {H : Heap} {τ : b_T} {a : Nat} {ta : Nat} {ax : Nat} {u0 : Value} {u1 : Value} {u2 : Value} {u3 : Value} (hc_th : b_tt G B0 τ H a (ta) (.inr (10, [u0, u1, u2, u3, .ref ax]))) : Met l yX6_init (ws_ yX6_init cX6_init 2 (Option.none)) ({ frames := 1, cells := 0, slots := 0, locals := 20 } : Room) (b_Pc G B0 H [.ref a, .ref ax]) (b_Qv B0 (fun H1 => b_Up a H H1 ∧ b_tt G B0 τ H1 a (ta) (.inr (10, [.ref ax, u1, u2, u3, .ref ax])))) 0 0 (b_A B0) := by
  refine b_of (by decide) (Nat.le_of_ble_eq_true rfl) ?_
  intro p e s m below meth c CX hr hlk hnm hS ls hl
  have CX : b_Cx p s m _ c cX6_init 2 RX6 G B0 := CX
  have hx := CX.hx
  have hb := CX.hb
  have hl : lv_has ls 2 [(0, .ref a), (1, .ref ax)] := hl
  generalize hQ : MQ below (b_Qv B0 (fun H1 => b_Up a H H1 ∧ b_tt G B0 τ H1 a (ta) (.inr (10, [.ref ax, u1, u2, u3, .ref ax])))) ([.ref a, .ref ax] : List Value).toArray s 0 0 (b_A B0) = Q
  have hU : b_Up a H H := b_Up.rf
  refine lv_aload_n hx hb dX6_init_0 rfl (lv_at hl 0 rfl) ?_
  refine lv_aload_n hx hb dX6_init_1 rfl (lv_at hl 1 rfl) ?_
  refine pa_X6_3_10 CX hnm hc_th.at hS hc_th.B rfl rfl (Nat.le_of_ble_eq_true rfl) (Nat.le_of_ble_eq_true rfl) dX6_init_2 (fun w1 H1 locs hw hat hu hS => ?_)
  obtain rfl := hw.elim (fun h9 => h9) (fun h9 => (Option.some.inj h9).symm)
  have hU := hU.tr hu
  have hc_th : b_tt G B0 τ H1 a (ta) (.inr (10, [.ref ax, u1, u2, u3, .ref ax])) := hc_th.set hat
  refine lv_aload_n hx hb dX6_init_5 rfl (lv_at hl 0 rfl) ?_
  refine W.objInit hx hb CX.ow (CX.ts _ q1161) (CX.ts _ q132) (CX.ts _ q133) rfl (by rw [CX.ml]; exact hl.1) rfl dX6_init_6 (Nat.le_of_ble_eq_true rfl) (Nat.le_of_ble_eq_true rfl) ?_
  refine W.eq (g2 := F0 m 9 ls []) rfl ?_
  rw [← hQ]
  exact b_vret CX hr hlk hS (Nat.le_of_ble_eq_true rfl) (Nat.le_of_ble_eq_true rfl) dX6_init_9 (⟨hU, hc_th⟩)
theorem pa_X13_1_10 {p : Program} {l : Launch} {e : Env} {R : Room} {s : State} {m : MethodId} {args : Array Value} {below : List Frame} {meth : Method} {c : Code} {H : Heap} {locs : List Loc} {cells slots : Nat} {Q : State → Prop} {cc : ByteArray} {pc nL a : Nat} {ls : Array Slot} {rest : List Value} {G : b_G} {B0 : Nat} (CX : b_Cx p s m args c cc nL RX13 G B0) (hin2 : meth.name = "<init>") {fs : List Value} (hP : b_at G a (.inr (10, fs)) H) (hS : va_S (b_A B0) s.heap H locs) (ha : B0 ≤ a) {v : Value} (hn : narrow (tyX13 4) v = v) (hfit : fits (tyX13 4) v = true) (hl : 4 < fs.length) (hl2 : 0 < fs.length) (hdg : decode cc pc = .ok (.putfield 1, 3)) (kk : ∀ (w : Value) (H1 : Heap) (locs1 : List Loc), (w = v ∨ fs[0]? = some w) → b_at G a (.inr (10, (fs.set 4 v).set 0 w)) H1 → b_Up a H H1 → va_S (b_A B0) s.heap H1 locs1 → W p l e R s m args below meth c H1 locs1 cells slots Q (F0 m (pc + 3) ls rest)) : W p l e R s m args below meth c H locs cells slots Q (F0 m pc ls (v :: .ref a :: rest)) := b_putFA CX in_X13 tyX13 tyX13_ok rfl 4 0 (by decide) (by decide +kernel) q1492 (Or.inl rfl) rfl hin2 rfl hP hS ha hn hfit hl hl2 (by decide) hdg kk
theorem pf_X13_7_10 {p : Program} {l : Launch} {e : Env} {R : Room} {s : State} {m : MethodId} {args : Array Value} {below : List Frame} {meth : Method} {c : Code} {H : Heap} {locs : List Loc} {cells slots : Nat} {Q : State → Prop} {cc : ByteArray} {pc nL a : Nat} {ls : Array Slot} {rest : List Value} {G : b_G} {B0 : Nat} (CX : b_Cx p s m args c cc nL RX13 G B0) (hin2 : meth.name = "<init>") {fs : List Value} (hP : b_at G a (.inr (10, fs)) H) (hS : va_S (b_A B0) s.heap H locs) (ha : B0 ≤ a) {v : Value} (hn : narrow (tyX13 1) v = v) (hfit : fits (tyX13 1) v = true) (hl : 1 < fs.length) (hdg : decode cc pc = .ok (.putfield 7, 3)) (kk : ∀ (H1 : Heap) (locs1 : List Loc), b_at G a (.inr (10, fs.set 1 v)) H1 → b_Up a H H1 → va_S (b_A B0) s.heap H1 locs1 → W p l e R s m args below meth c H1 locs1 cells slots Q (F0 m (pc + 3) ls rest)) : W p l e R s m args below meth c H locs cells slots Q (F0 m pc ls (v :: .ref a :: rest)) := b_putF CX in_X13 tyX13 tyX13_ok rfl 1 (by decide) (by decide +kernel) q1489 (Or.inl rfl) rfl hin2 rfl hP hS ha hn hfit hl hdg kk
theorem pf_X13_11_10 {p : Program} {l : Launch} {e : Env} {R : Room} {s : State} {m : MethodId} {args : Array Value} {below : List Frame} {meth : Method} {c : Code} {H : Heap} {locs : List Loc} {cells slots : Nat} {Q : State → Prop} {cc : ByteArray} {pc nL a : Nat} {ls : Array Slot} {rest : List Value} {G : b_G} {B0 : Nat} (CX : b_Cx p s m args c cc nL RX13 G B0) (hin2 : meth.name = "<init>") {fs : List Value} (hP : b_at G a (.inr (10, fs)) H) (hS : va_S (b_A B0) s.heap H locs) (ha : B0 ≤ a) {v : Value} (hn : narrow (tyX13 2) v = v) (hfit : fits (tyX13 2) v = true) (hl : 2 < fs.length) (hdg : decode cc pc = .ok (.putfield 11, 3)) (kk : ∀ (H1 : Heap) (locs1 : List Loc), b_at G a (.inr (10, fs.set 2 v)) H1 → b_Up a H H1 → va_S (b_A B0) s.heap H1 locs1 → W p l e R s m args below meth c H1 locs1 cells slots Q (F0 m (pc + 3) ls rest)) : W p l e R s m args below meth c H locs cells slots Q (F0 m pc ls (v :: .ref a :: rest)) := b_putF CX in_X13 tyX13 tyX13_ok rfl 2 (by decide) (by decide +kernel) q1490 (Or.inl rfl) rfl hin2 rfl hP hS ha hn hfit hl hdg kk
theorem pf_X13_14_10 {p : Program} {l : Launch} {e : Env} {R : Room} {s : State} {m : MethodId} {args : Array Value} {below : List Frame} {meth : Method} {c : Code} {H : Heap} {locs : List Loc} {cells slots : Nat} {Q : State → Prop} {cc : ByteArray} {pc nL a : Nat} {ls : Array Slot} {rest : List Value} {G : b_G} {B0 : Nat} (CX : b_Cx p s m args c cc nL RX13 G B0) (hin2 : meth.name = "<init>") {fs : List Value} (hP : b_at G a (.inr (10, fs)) H) (hS : va_S (b_A B0) s.heap H locs) (ha : B0 ≤ a) {v : Value} (hn : narrow (tyX13 3) v = v) (hfit : fits (tyX13 3) v = true) (hl : 3 < fs.length) (hdg : decode cc pc = .ok (.putfield 14, 3)) (kk : ∀ (H1 : Heap) (locs1 : List Loc), b_at G a (.inr (10, fs.set 3 v)) H1 → b_Up a H H1 → va_S (b_A B0) s.heap H1 locs1 → W p l e R s m args below meth c H1 locs1 cells slots Q (F0 m (pc + 3) ls rest)) : W p l e R s m args below meth c H locs cells slots Q (F0 m pc ls (v :: .ref a :: rest)) := b_putF CX in_X13 tyX13 tyX13_ok rfl 3 (by decide) (by decide +kernel) q1491 (Or.inl rfl) rfl hin2 rfl hP hS ha hn hfit hl hdg kk
theorem cs_X13_17 {p : Program} {l : Launch} {e : Env} {R : Room} {s : State} {m : MethodId} {args : Array Value} {below : List Frame} {meth : Method} {c : Code} {H : Heap} {locs : List Loc} {cells slots : Nat} {cc : ByteArray} {pc nL a : Nat} {ls : Array Slot} {rest : List Value} {G : b_G} {B0 : Nat} (CX : b_Cx p s m args c cc nL RX13 G B0) (hls : ls.size = nL) {rm : Room} {mc ms : Nat} {As st0 : List Value} {Qc : Array Value → State → Outcome → State → Prop} (hM : Met l yX6_init (ws_ yX6_init cX6_init 2 (Option.none)) rm (b_Pc G B0 H (.ref a :: As)) Qc mc ms (b_A B0)) (hn : As.length = 1) (hS : va_S (b_A B0) s.heap H locs) (hst : st0 = As.reverse ++ .ref a :: rest) (hr : rm.cells = mc ∧ rm.slots = ms ∧ rm.frames + 1 ≤ R.frames ∧ 8 + (2 + 11) + rm.locals ≤ R.locals) (hw : (rest.map fun v => v.category).sum ≤ 8) (hdg : decode cc pc = .ok (.invokespecial 17, 3)) (hf : cells + mc ≤ R.cells ∧ slots + ms ≤ R.slots) : va_Run p l e R s m args below meth c H locs cells slots mc ms (F0 m pc ls st0) rest (Qc (Value.ref a :: As).toArray) (b_A B0) := va_runIN CX.fix hM (⟨va_cnB 1 CX.ts (lw_meth q1160) rfl hr.1 hr.2.1 (CX.K.2.1 _ q1488 rfl) (CX.ts _ q104) (by decide +kernel) ⟨hr.2.2.1, hr.2.2.2⟩, rfl, CX.ts _ q1159⟩) ⟨b_blind G B0 H _, b_pre _ CX.K hS⟩ rfl hn hls hst (lv_room hw) hdg hf
set_option maxHeartbeats 2000000 in
set_option maxRecDepth 100000 in
theorem m_X13_init (l : Launch) {G : b_G} {B0 : Nat} {H : Heap} {τ : b_T} {a : Nat} {ta : Nat} {ax : Nat} {b : Nat} {s_ : Nat} {w_ : Int32} (hc_th : b_tt G B0 τ H a (ta) (.inr (10, [.null, .int (nI 0), .int (nI 0), .int (nI 0), .null]))) : Met l yX13_init (ws_ yX13_init cX13_init 5 (Option.none)) ({ frames := 2, cells := 0, slots := 0, locals := 41 } : Room) (b_Pc G B0 H [.ref a, .ref ax, .int (nI b), .int (nI s_), .int w_]) (b_Qv B0 (fun H1 => b_Up a H H1 ∧ b_tt G B0 τ H1 a (ta) (.inr (10, [.ref ax, .int (nI b), .int (nI s_), .int w_, .ref ax])))) 0 0 (b_A B0) := by
  refine b_of (by decide) (Nat.le_of_ble_eq_true rfl) ?_
  intro p e s m below meth c CX hr hlk hnm hS ls hl
  have CX : b_Cx p s m _ c cX13_init 5 RX13 G B0 := CX
  have hx := CX.hx
  have hb := CX.hb
  have hl : lv_has ls 5 [(0, .ref a), (1, .ref ax), (2, .int (nI b)), (3, .int (nI s_)), (4, .int w_)] := hl
  generalize hQ : MQ below (b_Qv B0 (fun H1 => b_Up a H H1 ∧ b_tt G B0 τ H1 a (ta) (.inr (10, [.ref ax, .int (nI b), .int (nI s_), .int w_, .ref ax])))) ([.ref a, .ref ax, .int (nI b), .int (nI s_), .int w_] : List Value).toArray s 0 0 (b_A B0) = Q
  have hU : b_Up a H H := b_Up.rf
  refine lv_aload_n hx hb dX13_init_0 rfl (lv_at hl 0 rfl) ?_
  refine lv_aload_n hx hb dX13_init_1 rfl (lv_at hl 1 rfl) ?_
  refine pa_X13_1_10 CX hnm hc_th.at hS hc_th.B rfl rfl (Nat.le_of_ble_eq_true rfl) (Nat.le_of_ble_eq_true rfl) dX13_init_2 (fun w1 H1 locs hw hat hu hS => ?_)
  have hU := hU.tr hu
  have hc_th : b_tt G B0 τ H1 a (ta) (.inr (10, [w1, .int (nI 0), .int (nI 0), .int (nI 0), .ref ax])) := hc_th.set hat
  refine lv_aload_n hx hb dX13_init_5 rfl (lv_at hl 0 rfl) ?_
  refine lv_iload_n hx hb dX13_init_6 rfl (lv_at hl 2 rfl) ?_
  refine pf_X13_7_10 CX hnm hc_th.at hS hc_th.B rfl rfl (Nat.le_of_ble_eq_true rfl) dX13_init_7 (fun H2 locs hat hu hS => ?_)
  have hU := hU.tr hu
  have hc_th : b_tt G B0 τ H2 a (ta) (.inr (10, [w1, .int (nI b), .int (nI 0), .int (nI 0), .ref ax])) := hc_th.set hat
  refine lv_aload_n hx hb dX13_init_10 rfl (lv_at hl 0 rfl) ?_
  refine lv_iload_n hx hb dX13_init_11 rfl (lv_at hl 3 rfl) ?_
  refine pf_X13_11_10 CX hnm hc_th.at hS hc_th.B rfl rfl (Nat.le_of_ble_eq_true rfl) dX13_init_12 (fun H3 locs hat hu hS => ?_)
  have hU := hU.tr hu
  have hc_th : b_tt G B0 τ H3 a (ta) (.inr (10, [w1, .int (nI b), .int (nI s_), .int (nI 0), .ref ax])) := hc_th.set hat
  refine lv_aload_n hx hb dX13_init_15 rfl (lv_at hl 0 rfl) ?_
  refine lv_iload hx hb dX13_init_16 (lv_at hl 4 rfl) ?_
  refine pf_X13_14_10 CX hnm hc_th.at hS hc_th.B rfl rfl (Nat.le_of_ble_eq_true rfl) dX13_init_18 (fun H4 locs hat hu hS => ?_)
  have hU := hU.tr hu
  have hc_th : b_tt G B0 τ H4 a (ta) (.inr (10, [w1, .int (nI b), .int (nI s_), .int w_, .ref ax])) := hc_th.set hat
  refine lv_aload_n hx hb dX13_init_21 rfl (lv_at hl 0 rfl) ?_
  refine lv_aload_n hx hb dX13_init_22 rfl (lv_at hl 1 rfl) ?_
  refine b_cv (cs_X13_17 (rest := []) CX hl.1 (m_X6_init_10 l (a := a) (ta := ta) (u0 := w1) (u1 := .int (nI b)) (u2 := .int (nI s_)) (u3 := .int w_) (ax := ax) hc_th) rfl hS rfl ⟨rfl, rfl, Nat.le_of_ble_eq_true rfl, Nat.le_of_ble_eq_true rfl⟩ (Nat.le_of_ble_eq_true rfl) dX13_init_23 ⟨Nat.le_of_ble_eq_true rfl, Nat.le_of_ble_eq_true rfl⟩) hS (fun H5 locs hp hS => ?_)
  obtain ⟨hu, hx0⟩ := hp
  have hU := hU.tr hu
  have hc_th : b_tt G B0 τ H5 a (ta) (.inr (10, [.ref ax, (.int (nI b)), (.int (nI s_)), (.int w_), .ref ax])) := hx0
  rw [← hQ]
  exact b_vret CX hr hlk hS (Nat.le_of_ble_eq_true rfl) (Nat.le_of_ble_eq_true rfl) dX13_init_26 (⟨hU, hc_th⟩)
theorem gf_X13_1_10 {p : Program} {l : Launch} {e : Env} {R : Room} {s : State} {m : MethodId} {args : Array Value} {below : List Frame} {meth : Method} {c : Code} {H : Heap} {locs : List Loc} {cells slots : Nat} {Q : State → Prop} {cc : ByteArray} {pc nL a : Nat} {ls : Array Slot} {rest : List Value} {G : b_G} {B0 : Nat} (CX : b_Cx p s m args c cc nL RX13 G B0) {fs : List Value} (hP : b_at G a (.inr (10, fs)) H) {v : Value} (hv : fs[4]? = some v) (hdg : decode cc pc = .ok (.getfield 1, 3)) (kk : W p l e R s m args below meth c H locs cells slots Q (F0 m (pc + 3) ls (v :: rest))) : W p l e R s m args below meth c H locs cells slots Q (F0 m pc ls (.ref a :: rest)) := b_get CX in_X13 rfl 4 (by decide) q1492 (Or.inl rfl) hP hv hdg kk
theorem gf_X13_23_0 {p : Program} {l : Launch} {e : Env} {R : Room} {s : State} {m : MethodId} {args : Array Value} {below : List Frame} {meth : Method} {c : Code} {H : Heap} {locs : List Loc} {cells slots : Nat} {Q : State → Prop} {cc : ByteArray} {pc nL a : Nat} {ls : Array Slot} {rest : List Value} {G : b_G} {B0 : Nat} (CX : b_Cx p s m args c cc nL RX13 G B0) {fs : List Value} (hP : b_at G a (.inr (0, fs)) H) {v : Value} (hv : fs[0]? = some v) (hdg : decode cc pc = .ok (.getfield 23, 3)) (kk : W p l e R s m args below meth c H locs cells slots Q (F0 m (pc + 3) ls (v :: rest))) : W p l e R s m args below meth c H locs cells slots Q (F0 m pc ls (.ref a :: rest)) := b_getN CX in_X1 rfl 0 (by decide) q249 (Or.inl rfl) hP hv hdg kk
theorem gf_X13_7_10 {p : Program} {l : Launch} {e : Env} {R : Room} {s : State} {m : MethodId} {args : Array Value} {below : List Frame} {meth : Method} {c : Code} {H : Heap} {locs : List Loc} {cells slots : Nat} {Q : State → Prop} {cc : ByteArray} {pc nL a : Nat} {ls : Array Slot} {rest : List Value} {G : b_G} {B0 : Nat} (CX : b_Cx p s m args c cc nL RX13 G B0) {fs : List Value} (hP : b_at G a (.inr (10, fs)) H) {v : Value} (hv : fs[1]? = some v) (hdg : decode cc pc = .ok (.getfield 7, 3)) (kk : W p l e R s m args below meth c H locs cells slots Q (F0 m (pc + 3) ls (v :: rest))) : W p l e R s m args below meth c H locs cells slots Q (F0 m pc ls (.ref a :: rest)) := b_get CX in_X13 rfl 1 (by decide) q1489 (Or.inl rfl) hP hv hdg kk
theorem gf_X13_29_1 {p : Program} {l : Launch} {e : Env} {R : Room} {s : State} {m : MethodId} {args : Array Value} {below : List Frame} {meth : Method} {c : Code} {H : Heap} {locs : List Loc} {cells slots : Nat} {Q : State → Prop} {cc : ByteArray} {pc nL a : Nat} {ls : Array Slot} {rest : List Value} {G : b_G} {B0 : Nat} (CX : b_Cx p s m args c cc nL RX13 G B0) {fs : List Value} (hP : b_at G a (.inr (1, fs)) H) {v : Value} (hv : fs[1]? = some v) (hdg : decode cc pc = .ok (.getfield 29, 3)) (kk : W p l e R s m args below meth c H locs cells slots Q (F0 m (pc + 3) ls (v :: rest))) : W p l e R s m args below meth c H locs cells slots Q (F0 m pc ls (.ref a :: rest)) := b_getN CX in_X2 rfl 1 (by decide) q176 (Or.inl rfl) hP hv hdg kk
theorem gf_X13_11_10 {p : Program} {l : Launch} {e : Env} {R : Room} {s : State} {m : MethodId} {args : Array Value} {below : List Frame} {meth : Method} {c : Code} {H : Heap} {locs : List Loc} {cells slots : Nat} {Q : State → Prop} {cc : ByteArray} {pc nL a : Nat} {ls : Array Slot} {rest : List Value} {G : b_G} {B0 : Nat} (CX : b_Cx p s m args c cc nL RX13 G B0) {fs : List Value} (hP : b_at G a (.inr (10, fs)) H) {v : Value} (hv : fs[2]? = some v) (hdg : decode cc pc = .ok (.getfield 11, 3)) (kk : W p l e R s m args below meth c H locs cells slots Q (F0 m (pc + 3) ls (v :: rest))) : W p l e R s m args below meth c H locs cells slots Q (F0 m pc ls (.ref a :: rest)) := b_get CX in_X13 rfl 2 (by decide) q1490 (Or.inl rfl) hP hv hdg kk
theorem cs_X13_35 {p : Program} {l : Launch} {e : Env} {R : Room} {s : State} {m : MethodId} {args : Array Value} {below : List Frame} {meth : Method} {c : Code} {H : Heap} {locs : List Loc} {cells slots : Nat} {cc : ByteArray} {pc nL a : Nat} {ls : Array Slot} {rest : List Value} {G : b_G} {B0 : Nat} (CX : b_Cx p s m args c cc nL RX13 G B0) (hls : ls.size = nL) {rm : Room} {mc ms : Nat} {As st0 : List Value} {Qc : Array Value → State → Outcome → State → Prop} (hM : Met l yJ2_get (ws_ yJ2_get cJ2_get 2 (Option.some (Jvm.ClassFile.FieldType.object "java/lang/Object"))) rm (b_Pc G B0 H (.ref a :: As)) Qc mc ms (b_A B0)) (hn : As.length = 1) {fs : List Value} {ci : Nat} {qc : vw_C} (hc : b_cl[ci]? = some qc) (hq : qc.1 = RJ2) (hP : b_at G a (.inr (ci, fs)) H) (hS : va_S (b_A B0) s.heap H locs) (hst : st0 = As.reverse ++ .ref a :: rest) (hr : rm.cells = mc ∧ rm.slots = ms ∧ rm.frames + 1 ≤ R.frames ∧ 8 + (2 + 11) + rm.locals ≤ R.locals) (hw : (rest.map fun v => v.category).sum ≤ 8) (hdg : decode cc pc = .ok (.invokevirtual 35, 3)) (hf : cells + mc ≤ R.cells ∧ slots + ms ≤ R.slots) : va_Run p l e R s m args below meth c H locs cells slots mc ms (F0 m pc ls st0) rest (Qc (Value.ref a :: As).toArray) (b_A B0) := va_runV CX.fix hM (cwV 1 CX.ts (lw_V q1277 q796 q797 q83 q798) rfl hr.1 hr.2.1 (by decide +kernel) ⟨hr.2.2.1, hr.2.2.2⟩) ⟨b_blind G B0 H _, by have h9 := b_recv CX.K hc hP; rw [hq] at h9; exact h9, b_pre _ CX.K hS⟩ rfl hn hls hst (lv_room hw) hdg hf
theorem gf_X13_14_10 {p : Program} {l : Launch} {e : Env} {R : Room} {s : State} {m : MethodId} {args : Array Value} {below : List Frame} {meth : Method} {c : Code} {H : Heap} {locs : List Loc} {cells slots : Nat} {Q : State → Prop} {cc : ByteArray} {pc nL a : Nat} {ls : Array Slot} {rest : List Value} {G : b_G} {B0 : Nat} (CX : b_Cx p s m args c cc nL RX13 G B0) {fs : List Value} (hP : b_at G a (.inr (10, fs)) H) {v : Value} (hv : fs[3]? = some v) (hdg : decode cc pc = .ok (.getfield 14, 3)) (kk : W p l e R s m args below meth c H locs cells slots Q (F0 m (pc + 3) ls (v :: rest))) : W p l e R s m args below meth c H locs cells slots Q (F0 m pc ls (.ref a :: rest)) := b_get CX in_X13 rfl 3 (by decide) q1491 (Or.inl rfl) hP hv hdg kk
theorem cx_X13_43 {p : Program} {l : Launch} {e : Env} {R : Room} {s : State} {m : MethodId} {args : Array Value} {below : List Frame} {meth : Method} {c : Code} {H : Heap} {locs : List Loc} {cells slots : Nat} {cc : ByteArray} {pc nL a : Nat} {ls : Array Slot} {rest : List Value} {G : b_G} {B0 : Nat} (CX : b_Cx p s m args c cc nL RX13 G B0) (hls : ls.size = nL) {rm : Room} {mc ms : Nat} {As st0 : List Value} {Qc : Array Value → State → Outcome → State → Prop} {XC : String → Addr → State → State → Prop} (hM : vx_Met l yX2_trySell (ws_ yX2_trySell cX2_trySell 4 (Option.none)) rm (b_Pc G B0 H (.ref a :: As)) Qc XC mc ms (b_A B0)) (hn : As.length = 3) {fs : List Value} {ci : Nat} {qc : vw_C} (hc : b_cl[ci]? = some qc) (hq : qc.1 = RX2) (hP : b_at G a (.inr (ci, fs)) H) (hS : va_S (b_A B0) s.heap H locs) (hst : st0 = As.reverse ++ .ref a :: rest) (hr : rm.cells = mc ∧ rm.slots = ms ∧ rm.frames + 1 ≤ R.frames ∧ 8 + (4 + 11) + rm.locals ≤ R.locals) (hw : (rest.map fun v => v.category).sum ≤ 8) (hdg : decode cc pc = .ok (.invokevirtual 43, 3)) (hf : cells + mc ≤ R.cells ∧ slots + ms ≤ R.slots) : vx_Run p l e R s m args below meth c H locs cells slots mc ms (F0 m pc ls st0) rest (Qc (Value.ref a :: As).toArray) XC (b_A B0) := vx_runV CX.fix hM (cwV 3 CX.ts (lw_V q1279 q1280 q1281 q80 q1282) rfl hr.1 hr.2.1 (by decide +kernel) ⟨hr.2.2.1, hr.2.2.2⟩) ⟨b_blind G B0 H _, by have h9 := b_recv CX.K hc hP; rw [hq] at h9; exact h9, b_pre _ CX.K hS⟩ rfl hn hls hst (lv_room hw) hdg hf
set_option maxHeartbeats 2000000 in
set_option maxRecDepth 100000 in
theorem m_X13_check (l : Launch) {G : b_G} {B0 : Nat} {H : Heap} {τ : b_T} {id : Nat} {F : Nat → Nat} {M : Nat → Int32} {E : Nat → Bool} {S : b_St} {Z : Nat → Nat → Int32} {da : Nat} {td : Nat} {a : Nat} {asv : Nat} {atx : Nat} {atk : Nat} {hs : Int64} {b : Nat} {s_ : Nat} {w_ : Int32} (hc_D : b_tt G B0 τ H da (td) (.inr (10, [.ref a, .int (nI b), .int (nI s_), .int w_, .ref a]))) (hc_X : b_tt G B0 τ H a 0 (.inr (0, [.ref ((F 0)), .ref asv, .ref atx, .ref atk, .long hs]))) (hL : LR G B0 τ id F M E H S Z) (hW : b_WF S) (hBb : b < nb S) (hSs_ : s_ < ns S) : vx_Met l yX13_check (ws_ yX13_check cX13_check 1 (Option.none)) ({ frames := 7, cells := 1, slots := 6, locals := 151 } : Room) (b_Pc G B0 H [.ref da]) (b_Qv B0 (fun H1 => ((a_sell S s_ b w_) = nI 0) ∧ H1 = H)) (b_X B0 (fun E9 q9 H9 => e_px G B0 H (a_sell S s_ b w_) E9 q9 H9)) 1 6 (b_A B0) := by
  refine b_ofX (by decide) (Nat.le_of_ble_eq_true rfl) ?_
  intro p e s m below meth c CX hr hlk htb hS ls hl
  have CX : b_Cx p s m _ c cX13_check 1 RX13 G B0 := CX
  have hx := CX.hx
  have hb := CX.hb
  have hl : lv_has ls 1 [(0, .ref da)] := hl
  generalize hQ : vx_MQ below (b_Qv B0 (fun H1 => ((a_sell S s_ b w_) = nI 0) ∧ H1 = H)) (b_X B0 (fun E9 q9 H9 => e_px G B0 H (a_sell S s_ b w_) E9 q9 H9)) ([.ref da] : List Value).toArray s 1 6 (b_A B0) = Q
  have hX : b_Ext H H := b_Ext.rf
  have hnb : nb S = nb S := rfl
  have hns : ns S = ns S := rfl
  have hn8 := hL.2.2.2.1
  have hn6 := hL.2.2.2.2
  refine lv_aload_n hx hb dX13_check_0 rfl (lv_at hl 0 rfl) ?_
  refine gf_X13_1_10 CX hc_D.at rfl dX13_check_1 ?_
  refine gf_X13_23_0 CX hc_X.at rfl dX13_check_4 ?_
  refine lv_aload_n hx hb dX13_check_7 rfl (lv_at hl 0 rfl) ?_
  refine gf_X13_7_10 CX hc_D.at rfl dX13_check_8 ?_
  refine lv_aload_n hx hb dX13_check_11 rfl (lv_at hl 0 rfl) ?_
  refine gf_X13_1_10 CX hc_D.at rfl dX13_check_12 ?_
  refine gf_X13_23_0 CX hc_X.at rfl dX13_check_15 ?_
  refine gf_X13_29_1 CX hL.loop.at rfl dX13_check_18 ?_
  refine lv_aload_n hx hb dX13_check_21 rfl (lv_at hl 0 rfl) ?_
  refine gf_X13_11_10 CX hc_D.at rfl dX13_check_22 ?_
  refine b_cq0 (cs_X13_35 (rest := [.int (nI b), .ref ((F 0))]) CX hl.1 (m_J2_get l (a := (F 3)) (ta := 1000 * id + 3) (mc := M 3) (ra := (F 4)) (tr := 1000 * id + 4) (f := (fun j => F (30 + j))) (n := ns S) (i := s_) (hL.alg3 hW (by omega)) (hL.arg4 (by omega)) (by omega) (by omega)) rfl rfl rfl (hL.alg3 hW (by omega)).at hS rfl ⟨rfl, rfl, Nat.le_of_ble_eq_true rfl, Nat.le_of_ble_eq_true rfl⟩ (Nat.le_of_ble_eq_true rfl) dX13_check_25 ⟨Nat.le_of_ble_eq_true rfl, Nat.le_of_ble_eq_true rfl⟩) hS (fun locs hS => ?_)
  refine b_cast CX (ci := 5) rfl (hL.shop (k := s_) (by omega)).at q1278 dX13_check_28 ?_
  refine lv_aload_n hx hb dX13_check_31 rfl (lv_at hl 0 rfl) ?_
  refine gf_X13_14_10 CX hc_D.at rfl dX13_check_32 ?_
  refine b_xv0 (cx_X13_43 (rest := []) CX hl.1 (m_X2_trySell l (b := b) (s_ := s_) (w_ := w_) hL hW (by omega) (by omega)) rfl rfl rfl hL.loop.at hS rfl ⟨rfl, rfl, Nat.le_of_ble_eq_true rfl, Nat.le_of_ble_eq_true rfl⟩ (Nat.le_of_ble_eq_true rfl) dX13_check_35 ⟨Nat.le_of_ble_eq_true rfl, Nat.le_of_ble_eq_true rfl⟩) hS (fun E9 q9 Hx1 locs hx9 hS he9 => ?_) (fun hk_35 locs hS => ?_)
  · rw [← hQ]
    exact b_xout htb hlk he9 hS (Nat.le_of_ble_eq_true rfl) (Nat.le_of_ble_eq_true rfl) (hx9)
  rw [← hQ]
  exact vx_ret (b_vret CX hr hlk hS (Nat.le_of_ble_eq_true rfl) (Nat.le_of_ble_eq_true rfl) dX13_check_38 (⟨(by exact hk_35), rfl⟩))
theorem cs_X13_47 {p : Program} {l : Launch} {e : Env} {R : Room} {s : State} {m : MethodId} {args : Array Value} {below : List Frame} {meth : Method} {c : Code} {H : Heap} {locs : List Loc} {cells slots : Nat} {cc : ByteArray} {pc nL a : Nat} {ls : Array Slot} {rest : List Value} {G : b_G} {B0 : Nat} (CX : b_Cx p s m args c cc nL RX13 G B0) (hls : ls.size = nL) {rm : Room} {mc ms : Nat} {As st0 : List Value} {Qc : Array Value → State → Outcome → State → Prop} (hM : Met l yX2_sell (ws_ yX2_sell cX2_sell 4 (Option.some Jvm.ClassFile.FieldType.int)) rm (b_Pc G B0 H (.ref a :: As)) Qc mc ms (b_A B0)) (hn : As.length = 3) {fs : List Value} {ci : Nat} {qc : vw_C} (hc : b_cl[ci]? = some qc) (hq : qc.1 = RX2) (hP : b_at G a (.inr (ci, fs)) H) (hS : va_S (b_A B0) s.heap H locs) (hst : st0 = As.reverse ++ .ref a :: rest) (hr : rm.cells = mc ∧ rm.slots = ms ∧ rm.frames + 1 ≤ R.frames ∧ 8 + (4 + 11) + rm.locals ≤ R.locals) (hw : (rest.map fun v => v.category).sum ≤ 8) (hdg : decode cc pc = .ok (.invokevirtual 47, 3)) (hf : cells + mc ≤ R.cells ∧ slots + ms ≤ R.slots) : va_Run p l e R s m args below meth c H locs cells slots mc ms (F0 m pc ls st0) rest (Qc (Value.ref a :: As).toArray) (b_A B0) := va_runV CX.fix hM (cwV 3 CX.ts (lw_V q1376 q1377 q1378 q80 q1379) rfl hr.1 hr.2.1 (by decide +kernel) ⟨hr.2.2.1, hr.2.2.2⟩) ⟨b_blind G B0 H _, by have h9 := b_recv CX.K hc hP; rw [hq] at h9; exact h9, b_pre _ CX.K hS⟩ rfl hn hls hst (lv_room hw) hdg hf
set_option maxHeartbeats 2000000 in
set_option maxRecDepth 100000 in
theorem m_X13_does (l : Launch) {G : b_G} {B0 : Nat} {H : Heap} {τ : b_T} {id : Nat} {F : Nat → Nat} {M : Nat → Int32} {E : Nat → Bool} {S : b_St} {Z : Nat → Nat → Int32} {da : Nat} {td : Nat} {a : Nat} {asv : Nat} {atx : Nat} {atk : Nat} {hs : Int64} {b : Nat} {s_ : Nat} {w_ : Int32} (hc_D : b_tt G B0 τ H da (td) (.inr (10, [.ref a, .int (nI b), .int (nI s_), .int w_, .ref a]))) (hc_X : b_tt G B0 τ H a 0 (.inr (0, [.ref ((F 0)), .ref asv, .ref atx, .ref atk, .long hs]))) (hL : LR G B0 τ id F M E H S Z) (hW : b_WF S) (hBb : b < nb S) (hSs_ : s_ < ns S) (hi0 : 0 < id) (htd : td < 1000) : Met l yX13_does (ws_ yX13_does cX13_does 1 (Option.some Jvm.ClassFile.FieldType.int)) ({ frames := 4, cells := 0, slots := 0, locals := 87 } : Room) (b_Pc G B0 H [.ref da]) (b_Qi B0 (fun r H1 => r = S 2 s_ 0 + w_ * p_dep S b ∧ b_Fr τ (fun t => 1000 * id ≤ t ∧ t < 1000 * id + 1000) H H1 ∧ LR G B0 τ id F M E H1 ((s_sell S s_ b w_)) Z)) 0 0 (b_A B0) := by
  refine b_of (by decide) (Nat.le_of_ble_eq_true rfl) ?_
  intro p e s m below meth c CX hr hlk hnm hS ls hl
  have CX : b_Cx p s m _ c cX13_does 1 RX13 G B0 := CX
  have hx := CX.hx
  have hb := CX.hb
  have hl : lv_has ls 1 [(0, .ref da)] := hl
  generalize hQ : MQ below (b_Qi B0 (fun r H1 => r = S 2 s_ 0 + w_ * p_dep S b ∧ b_Fr τ (fun t => 1000 * id ≤ t ∧ t < 1000 * id + 1000) H H1 ∧ LR G B0 τ id F M E H1 ((s_sell S s_ b w_)) Z)) ([.ref da] : List Value).toArray s 0 0 (b_A B0) = Q
  have hF : b_Fr τ (fun t => 1000 * id ≤ t ∧ t < 1000 * id + 1000) H H := b_Fr.rf
  have hA : b_Ag τ τ H := b_Ag.rf
  have hnb : nb S = nb S := rfl
  have hns : ns S = ns S := rfl
  have hn8 := hL.2.2.2.1
  have hn6 := hL.2.2.2.2
  refine lv_aload_n hx hb dX13_does_0 rfl (lv_at hl 0 rfl) ?_
  refine gf_X13_1_10 CX hc_D.at rfl dX13_does_1 ?_
  refine gf_X13_23_0 CX hc_X.at rfl dX13_does_4 ?_
  refine lv_aload_n hx hb dX13_does_7 rfl (lv_at hl 0 rfl) ?_
  refine gf_X13_7_10 CX hc_D.at rfl dX13_does_8 ?_
  refine lv_aload_n hx hb dX13_does_11 rfl (lv_at hl 0 rfl) ?_
  refine gf_X13_1_10 CX hc_D.at rfl dX13_does_12 ?_
  refine gf_X13_23_0 CX hc_X.at rfl dX13_does_15 ?_
  refine gf_X13_29_1 CX hL.loop.at rfl dX13_does_18 ?_
  refine lv_aload_n hx hb dX13_does_21 rfl (lv_at hl 0 rfl) ?_
  refine gf_X13_11_10 CX hc_D.at rfl dX13_does_22 ?_
  refine b_cq0 (cs_X13_35 (rest := [.int (nI b), .ref ((F 0))]) CX hl.1 (m_J2_get l (a := (F 3)) (ta := 1000 * id + 3) (mc := M 3) (ra := (F 4)) (tr := 1000 * id + 4) (f := (fun j => F (30 + j))) (n := ns S) (i := s_) (hL.alg3 hW (by omega)) (hL.arg4 (by omega)) (by omega) (by omega)) rfl rfl rfl (hL.alg3 hW (by omega)).at hS rfl ⟨rfl, rfl, Nat.le_of_ble_eq_true rfl, Nat.le_of_ble_eq_true rfl⟩ (Nat.le_of_ble_eq_true rfl) dX13_does_25 ⟨Nat.le_of_ble_eq_true rfl, Nat.le_of_ble_eq_true rfl⟩) hS (fun locs hS => ?_)
  refine b_cast CX (ci := 5) rfl (hL.shop (k := s_) (by omega)).at q1278 dX13_does_28 ?_
  refine lv_aload_n hx hb dX13_does_31 rfl (lv_at hl 0 rfl) ?_
  refine gf_X13_14_10 CX hc_D.at rfl dX13_does_32 ?_
  refine b_ci (cs_X13_47 (rest := []) CX hl.1 (m_X2_sell l (b := b) (s_ := s_) (n_ := w_) hL hW (by omega) (by omega)) rfl rfl rfl hL.loop.at hS rfl ⟨rfl, rfl, Nat.le_of_ble_eq_true rfl, Nat.le_of_ble_eq_true rfl⟩ (Nat.le_of_ble_eq_true rfl) dX13_does_35 ⟨Nat.le_of_ble_eq_true rfl, Nat.le_of_ble_eq_true rfl⟩) hS (fun r H1 locs hp hS => ?_)
  obtain ⟨rfl, hF9, hL9⟩ := hp
  have hc_D := hc_D.fr hF9 (show ¬ (1000 * id ≤ (td) ∧ (td) < 1000 * id + 1000) by omega)
  have hc_X := hc_X.fr hF9 (show ¬ (1000 * id ≤ 0 ∧ 0 < 1000 * id + 1000) by omega)
  have hF := hF.tr hA hF9 (fun q9 hq9 x9 => by have x8 : 1000 * id ≤ τ q9 ∧ τ q9 < 1000 * id + 1000 := x9; show 1000 * id ≤ τ q9 ∧ τ q9 < 1000 * id + 1000; omega)
  have hL : LR G B0 τ id F M E H1 ((s_sell S s_ b w_)) Z := hL9
  rw [← hQ]
  exact b_iret CX hr hlk hS (Nat.le_of_ble_eq_true rfl) (Nat.le_of_ble_eq_true rfl) dX13_does_38 (⟨rfl, hF, hL⟩)
theorem cx_X6_15_10 {p : Program} {l : Launch} {e : Env} {R : Room} {s : State} {m : MethodId} {args : Array Value} {below : List Frame} {meth : Method} {c : Code} {H : Heap} {locs : List Loc} {cells slots : Nat} {cc : ByteArray} {pc nL a : Nat} {ls : Array Slot} {rest : List Value} {G : b_G} {B0 : Nat} (CX : b_Cx p s m args c cc nL RX6 G B0) (hls : ls.size = nL) {rm : Room} {mc ms : Nat} {As st0 : List Value} {Qc : Array Value → State → Outcome → State → Prop} {XC : String → Addr → State → State → Prop} (hM : vx_Met l yX13_check (ws_ yX13_check cX13_check 1 (Option.none)) rm (b_Pc G B0 H (.ref a :: As)) Qc XC mc ms (b_A B0)) (hn : As.length = 0) {fs : List Value} (hP : b_at G a (.inr (10, fs)) H) (hS : va_S (b_A B0) s.heap H locs) (hst : st0 = As.reverse ++ .ref a :: rest) (hr : rm.cells = mc ∧ rm.slots = ms ∧ rm.frames + 1 ≤ R.frames ∧ 8 + (1 + 11) + rm.locals ≤ R.locals) (hw : (rest.map fun v => v.category).sum ≤ 8) (hdg : decode cc pc = .ok (.invokevirtual 15, 3)) (hf : cells + mc ≤ R.cells ∧ slots + ms ≤ R.slots) : vx_Run p l e R s m args below meth c H locs cells slots mc ms (F0 m pc ls st0) rest (Qc (Value.ref a :: As).toArray) XC (b_A B0) := vx_runU CX.fix hM (va_cwA (C := RX13) (owner := RX6) 0 CX.ts (lw_U q1198 q1200 q1274 q1275 q111 q1276) rfl hr.1 hr.2.1 (CX.K.2.1 _ q1199 rfl) ⟨by decide, by decide, by decide +kernel⟩ ⟨hr.2.2.1, hr.2.2.2⟩) ⟨b_blind G B0 H _, b_recv CX.K (ci := 10) rfl hP, b_pre _ CX.K hS⟩ rfl hn hls hst (lv_room hw) hdg hf
set_option maxHeartbeats 2000000 in
set_option maxRecDepth 100000 in
theorem m_X6_reason_10 (l : Launch) {G : b_G} {B0 : Nat} {H : Heap} {τ : b_T} {id : Nat} {F : Nat → Nat} {M : Nat → Int32} {E : Nat → Bool} {S : b_St} {Z : Nat → Nat → Int32} {da : Nat} {td : Nat} {a : Nat} {asv : Nat} {atx : Nat} {atk : Nat} {hs : Int64} {b : Nat} {s_ : Nat} {w_ : Int32} (hc_D : b_tt G B0 τ H da (td) (.inr (10, [.ref a, .int (nI b), .int (nI s_), .int w_, .ref a]))) (hc_X : b_tt G B0 τ H a 0 (.inr (0, [.ref ((F 0)), .ref asv, .ref atx, .ref atk, .long hs]))) (hL : LR G B0 τ id F M E H S Z) (hW : b_WF S) (hBb : b < nb S) (hSs_ : s_ < ns S) : vx_Met l yX6_reason (wsW_ yX6_reason cX6_reason 2 (Option.some Jvm.ClassFile.FieldType.int) [((0 : Nat), (5 : Nat), (6 : Nat), (18 : Nat)), ((0 : Nat), (5 : Nat), (6 : Nat), (20 : Nat)), ((0 : Nat), (5 : Nat), (6 : Nat), (22 : Nat)), ((0 : Nat), (5 : Nat), (12 : Nat), (25 : Nat))]) ({ frames := 8, cells := 1, slots := 6, locals := 171 } : Room) (b_Pc G B0 H [.ref da]) (b_Qi B0 (fun r H1 => r = (a_sell S s_ b w_) ∧ b_Ext H H1)) (b_X B0 (fun E9 q9 H9 => False)) 1 6 (b_A B0) := by
  refine b_ofXW (by decide) (Nat.le_of_ble_eq_true rfl) ?_
  intro p e s m below meth c CX hr hlk htb hS ls hl
  have CX : b_Cx p s m _ c cX6_reason 2 RX6 G B0 := CX
  have hx := CX.hx
  have hb := CX.hb
  have hl : lv_has ls 2 [(0, .ref da)] := hl
  generalize hQ : vx_MQ below (b_Qi B0 (fun r H1 => r = (a_sell S s_ b w_) ∧ b_Ext H H1)) (b_X B0 (fun E9 q9 H9 => False)) ([.ref da] : List Value).toArray s 1 6 (b_A B0) = Q
  have hX : b_Ext H H := b_Ext.rf
  have hnb : nb S = nb S := rfl
  have hns : ns S = ns S := rfl
  have hn8 := hL.2.2.2.1
  have hn6 := hL.2.2.2.2
  refine lv_aload_n hx hb dX6_reason_0 rfl (lv_at hl 0 rfl) ?_
  refine b_xv0 (cx_X6_15_10 (rest := []) CX hl.1 (m_X13_check l (da := da) (td := td) (a := a) (asv := asv) (atx := atx) (atk := atk) (hs := hs) (b := b) (s_ := s_) (w_ := w_) hc_D hc_X hL hW (by omega) (by omega)) rfl hc_D.at hS rfl ⟨rfl, rfl, Nat.le_of_ble_eq_true rfl, Nat.le_of_ble_eq_true rfl⟩ (Nat.le_of_ble_eq_true rfl) dX6_reason_1 ⟨Nat.le_of_ble_eq_true rfl, Nat.le_of_ble_eq_true rfl⟩) hS (fun E9 q9 Hx1 locs hx9 hS he9 => ?_) (fun hk_1 locs hS => ?_)
  · obtain ⟨hE, hz, hB, v9, hv9, hcd, hnm9, hat⟩ := hx9
    rcases hv9 with rfl | rfl | rfl
    · obtain rfl := hnm9
      refine b_xcatch CX (E := "BottleLoop$NoBottles") (name := "BottleLoop$NoBottles") [] ⟨0, 5, 6, 18⟩ [⟨0, 5, 6, 20⟩, ⟨0, 5, 6, 22⟩, ⟨0, 5, 12, 25⟩] (by rw [htb]; rfl) (fun z hz9 => nomatch hz9) (by decide) (by decide) q1194 (CX.nw q1215 rfl rfl) he9 ?_
      have hc_D := hc_D.ad (tb := 101) hE hz
      have hc_X := hc_X.ad (tb := 101) hE hz
      have hL := hL.ad (tb := 101) hE hz
      have fr_ex : H.size ≤ q9 := Nat.le_trans hX.1 hz
      have hX := hX.tr hE
      have hc_ex : b_tt G B0 ((upT τ q9 101)) Hx1 q9 101 (.inr (18, [.null, .null, .null, .null, .null, .int (nI 0)])) := b_tt.mk hat hB
      refine lv_astore_n (lv' := [(1, .ref q9), (0, .ref da)]) hx hb dX6_reason_6 rfl hl (Nat.le_of_ble_eq_true rfl) rfl (fun ls hl => ?_)
      refine lv_aload_n hx hb dX6_reason_7 rfl (lv_at hl 0 rfl) ?_
      refine b_ci0 (cs_X6_24_18 (rest := []) CX hl.1 (m_X9_number l (a := q9) (ta := 101) hc_ex) rfl hc_ex.at hS rfl ⟨rfl, rfl, Nat.le_of_ble_eq_true rfl, Nat.le_of_ble_eq_true rfl⟩ (Nat.le_of_ble_eq_true rfl) dX6_reason_8 ⟨Nat.le_of_ble_eq_true rfl, Nat.le_of_ble_eq_true rfl⟩) hS (fun locs hS => ?_)
      rw [← hQ]
      exact vx_ret (b_iret CX hr hlk hS (Nat.le_of_ble_eq_true rfl) (Nat.le_of_ble_eq_true rfl) dX6_reason_11 (⟨(by first | exact hk_1.symm | exact hcd.symm), hX⟩))
    · obtain rfl := hnm9
      refine b_xcatch CX (E := "BottleLoop$NoCrates") (name := "BottleLoop$NoCrates") [⟨0, 5, 6, 18⟩] ⟨0, 5, 6, 20⟩ [⟨0, 5, 6, 22⟩, ⟨0, 5, 12, 25⟩] (by rw [htb]; rfl) (fun z hz9 => by rcases List.mem_cons.mp hz9 with rfl | h9; exact Or.inr ⟨by decide, "BottleLoop$NoBottles", q1194, by decide⟩; exact nomatch h9) (by decide) (by decide) q1195 (CX.nw q1242 rfl rfl) he9 ?_
      have hc_D := hc_D.ad (tb := 101) hE hz
      have hc_X := hc_X.ad (tb := 101) hE hz
      have hL := hL.ad (tb := 101) hE hz
      have fr_ex : H.size ≤ q9 := Nat.le_trans hX.1 hz
      have hX := hX.tr hE
      have hc_ex : b_tt G B0 ((upT τ q9 101)) Hx1 q9 101 (.inr (19, [.null, .null, .null, .null, .null, .int (nI 0)])) := b_tt.mk hat hB
      refine lv_astore_n (lv' := [(1, .ref q9), (0, .ref da)]) hx hb dX6_reason_6 rfl hl (Nat.le_of_ble_eq_true rfl) rfl (fun ls hl => ?_)
      refine lv_aload_n hx hb dX6_reason_7 rfl (lv_at hl 0 rfl) ?_
      refine b_ci0 (cs_X6_24_19 (rest := []) CX hl.1 (m_X10_number l (a := q9) (ta := 101) hc_ex) rfl hc_ex.at hS rfl ⟨rfl, rfl, Nat.le_of_ble_eq_true rfl, Nat.le_of_ble_eq_true rfl⟩ (Nat.le_of_ble_eq_true rfl) dX6_reason_8 ⟨Nat.le_of_ble_eq_true rfl, Nat.le_of_ble_eq_true rfl⟩) hS (fun locs hS => ?_)
      rw [← hQ]
      exact vx_ret (b_iret CX hr hlk hS (Nat.le_of_ble_eq_true rfl) (Nat.le_of_ble_eq_true rfl) dX6_reason_11 (⟨(by first | exact hk_1.symm | exact hcd.symm), hX⟩))
    · obtain rfl := hnm9
      refine b_xcatch CX (E := "BottleLoop$NoMoney") (name := "BottleLoop$NoMoney") [⟨0, 5, 6, 18⟩, ⟨0, 5, 6, 20⟩] ⟨0, 5, 6, 22⟩ [⟨0, 5, 12, 25⟩] (by rw [htb]; rfl) (fun z hz9 => by rcases List.mem_cons.mp hz9 with rfl | h9; exact Or.inr ⟨by decide, "BottleLoop$NoBottles", q1194, by decide⟩; rcases List.mem_cons.mp h9 with rfl | h8; exact Or.inr ⟨by decide, "BottleLoop$NoCrates", q1195, by decide⟩; exact nomatch h8) (by decide) (by decide) q1196 (CX.nw q1261 rfl rfl) he9 ?_
      have hc_D := hc_D.ad (tb := 101) hE hz
      have hc_X := hc_X.ad (tb := 101) hE hz
      have hL := hL.ad (tb := 101) hE hz
      have fr_ex : H.size ≤ q9 := Nat.le_trans hX.1 hz
      have hX := hX.tr hE
      have hc_ex : b_tt G B0 ((upT τ q9 101)) Hx1 q9 101 (.inr (20, [.null, .null, .null, .null, .null, .int (nI 0)])) := b_tt.mk hat hB
      refine lv_astore_n (lv' := [(1, .ref q9), (0, .ref da)]) hx hb dX6_reason_6 rfl hl (Nat.le_of_ble_eq_true rfl) rfl (fun ls hl => ?_)
      refine lv_aload_n hx hb dX6_reason_7 rfl (lv_at hl 0 rfl) ?_
      refine b_ci0 (cs_X6_24_20 (rest := []) CX hl.1 (m_X11_number l (a := q9) (ta := 101) hc_ex) rfl hc_ex.at hS rfl ⟨rfl, rfl, Nat.le_of_ble_eq_true rfl, Nat.le_of_ble_eq_true rfl⟩ (Nat.le_of_ble_eq_true rfl) dX6_reason_8 ⟨Nat.le_of_ble_eq_true rfl, Nat.le_of_ble_eq_true rfl⟩) hS (fun locs hS => ?_)
      rw [← hQ]
      exact vx_ret (b_iret CX hr hlk hS (Nat.le_of_ble_eq_true rfl) (Nat.le_of_ble_eq_true rfl) dX6_reason_11 (⟨(by first | exact hk_1.symm | exact hcd.symm), hX⟩))
  refine lv_iconst (v := nI 0) hx hb dX6_reason_4 rfl ?_
  rw [← hQ]
  exact vx_ret (b_iret CX hr hlk hS (Nat.le_of_ble_eq_true rfl) (Nat.le_of_ble_eq_true rfl) dX6_reason_5 (⟨(by first | exact hk_1.symm | exact hcd.symm), hX⟩))
theorem cs_X1_141 {p : Program} {l : Launch} {e : Env} {R : Room} {s : State} {m : MethodId} {args : Array Value} {below : List Frame} {meth : Method} {c : Code} {H : Heap} {locs : List Loc} {cells slots : Nat} {cc : ByteArray} {pc nL a : Nat} {ls : Array Slot} {rest : List Value} {G : b_G} {B0 : Nat} (CX : b_Cx p s m args c cc nL RX1 G B0) (hls : ls.size = nL) {rm : Room} {mc ms : Nat} {As st0 : List Value} {Qc : Array Value → State → Outcome → State → Prop} (hM : Met l yX13_init (ws_ yX13_init cX13_init 5 (Option.none)) rm (b_Pc G B0 H (.ref a :: As)) Qc mc ms (b_A B0)) (hn : As.length = 4) (hS : va_S (b_A B0) s.heap H locs) (hst : st0 = As.reverse ++ .ref a :: rest) (hr : rm.cells = mc ∧ rm.slots = ms ∧ rm.frames + 1 ≤ R.frames ∧ 8 + (5 + 11) + rm.locals ≤ R.locals) (hw : (rest.map fun v => v.category).sum ≤ 8) (hdg : decode cc pc = .ok (.invokespecial 141, 3)) (hf : cells + mc ≤ R.cells ∧ slots + ms ≤ R.slots) : va_Run p l e R s m args below meth c H locs cells slots mc ms (F0 m pc ls st0) rest (Qc (Value.ref a :: As).toArray) (b_A B0) := va_runI CX.fix hM (cwI 4 CX.ts (lw_meth q1487) rfl hr.1 hr.2.1 (CX.ts _ q111) (CX.ts _ q1485) (CX.ts _ q1486) rfl (by decide +kernel) ⟨hr.2.2.1, hr.2.2.2⟩) ⟨b_blind G B0 H _, b_pre _ CX.K hS⟩ rfl hn hls hst (lv_room hw) hdg hf
set_option maxHeartbeats 2000000 in
set_option maxRecDepth 100000 in
theorem m_X1_selling (l : Launch) {G : b_G} {B0 : Nat} {H : Heap} {a : Nat} {b : Nat} {s_ : Nat} {w_ : Int32} : Met l yX1_selling (ws_ yX1_selling cX1_selling 4 (Option.some (Jvm.ClassFile.FieldType.object "BottleLoop$Deed"))) ({ frames := 3, cells := 1, slots := 5, locals := 65 } : Room) (b_Pc G B0 H [.ref a, .int (nI s_), .int (nI b), .int w_]) (b_Qq B0 (fun r H1 => ∃ q : Nat, r = some q ∧ b_Ext H H1 ∧ H.size ≤ q ∧ B0 ≤ q ∧ b_at G q (.inr (10, [.ref a, .int (nI b), .int (nI s_), .int w_, .ref a])) H1)) 1 5 (b_A B0) := by
  refine b_of (by decide) (Nat.le_of_ble_eq_true rfl) ?_
  intro p e s m below meth c CX hr hlk hnm hS ls hl
  have CX : b_Cx p s m _ c cX1_selling 4 RX1 G B0 := CX
  have hx := CX.hx
  have hb := CX.hb
  have hl : lv_has ls 4 [(0, .ref a), (1, .int (nI s_)), (2, .int (nI b)), (3, .int w_)] := hl
  generalize hQ : MQ below (b_Qq B0 (fun r H1 => ∃ q : Nat, r = some q ∧ b_Ext H H1 ∧ H.size ≤ q ∧ B0 ≤ q ∧ b_at G q (.inr (10, [.ref a, .int (nI b), .int (nI s_), .int w_, .ref a])) H1)) ([.ref a, .int (nI s_), .int (nI b), .int w_] : List Value).toArray s 1 5 (b_A B0) = Q
  have hX : b_Ext H H := b_Ext.rf
  obtain ⟨τ, -⟩ : ∃ τ : b_T, True := ⟨fun _ => 0, trivial⟩
  refine b_new CX in_X13 tyX13 tyX13_ok (ci := 10) rfl q1483 q1484 q111 (fs := [.null, .int (nI 0), .int (nI 0), .int (nI 0), .null]) (nofn_X13) hS (Nat.le_of_ble_eq_true rfl) (Nat.le_of_ble_eq_true rfl) dX1_selling_0 (fun q1 H1 hq hB hat hsz hE hS => ?_)
  have fr_dd : H.size ≤ q1 := by rw [hq]; exact hX.1
  have hX := hX.tr hE
  have hc_dd : b_tt G B0 ((upT τ q1 100)) H1 q1 100 (.inr (10, [.null, .int (nI 0), .int (nI 0), .int (nI 0), .null])) := b_tt.mk hat hB
  refine lv_dup hx hb dX1_selling_3 rfl ?_
  refine lv_aload_n hx hb dX1_selling_4 rfl (lv_at hl 0 rfl) ?_
  refine lv_iload_n hx hb dX1_selling_5 rfl (lv_at hl 2 rfl) ?_
  refine lv_iload_n hx hb dX1_selling_6 rfl (lv_at hl 1 rfl) ?_
  refine lv_iload_n hx hb dX1_selling_7 rfl (lv_at hl 3 rfl) ?_
  refine b_cv (cs_X1_141 (rest := [.ref q1]) CX hl.1 (m_X13_init l (a := q1) (ta := 100) (ax := a) (b := b) (s_ := s_) (w_ := w_) hc_dd) rfl hS rfl ⟨rfl, rfl, Nat.le_of_ble_eq_true rfl, Nat.le_of_ble_eq_true rfl⟩ (Nat.le_of_ble_eq_true rfl) dX1_selling_8 ⟨Nat.le_of_ble_eq_true rfl, Nat.le_of_ble_eq_true rfl⟩) hS (fun H2 locs hp hS => ?_)
  obtain ⟨hu, hx0⟩ := hp
  have hX := hX.up hu fr_dd
  have hc_dd : b_tt G B0 ((upT τ q1 100)) H2 q1 100 (.inr (10, [.ref a, .int (nI b), .int (nI s_), .int w_, .ref a])) := hx0
  rw [← hQ]
  exact b_aret (v := some q1) CX hr (Or.inl ⟨_, rfl⟩) hlk hS (Nat.le_of_ble_eq_true rfl) (Nat.le_of_ble_eq_true rfl) dX1_selling_11 (⟨_, rfl, hX, fr_dd, hc_dd.B, hc_dd.at⟩)
theorem pa_X6_3_11 {p : Program} {l : Launch} {e : Env} {R : Room} {s : State} {m : MethodId} {args : Array Value} {below : List Frame} {meth : Method} {c : Code} {H : Heap} {locs : List Loc} {cells slots : Nat} {Q : State → Prop} {cc : ByteArray} {pc nL a : Nat} {ls : Array Slot} {rest : List Value} {G : b_G} {B0 : Nat} (CX : b_Cx p s m args c cc nL RX6 G B0) (hin2 : meth.name = "<init>") {fs : List Value} (hP : b_at G a (.inr (11, fs)) H) (hS : va_S (b_A B0) s.heap H locs) (ha : B0 ≤ a) {v : Value} (hn : narrow (tyX14 0) v = v) (hfit : fits (tyX14 0) v = true) (hl : 0 < fs.length) (hl2 : 4 < fs.length) (hdg : decode cc pc = .ok (.putfield 3, 3)) (kk : ∀ (w : Value) (H1 : Heap) (locs1 : List Loc), (w = v ∨ fs[4]? = some w) → b_at G a (.inr (11, (fs.set 0 v).set 4 w)) H1 → b_Up a H H1 → va_S (b_A B0) s.heap H1 locs1 → W p l e R s m args below meth c H1 locs1 cells slots Q (F0 m (pc + 3) ls rest)) : W p l e R s m args below meth c H locs cells slots Q (F0 m pc ls (v :: .ref a :: rest)) := b_putFA CX in_X14 tyX14 tyX14_ok rfl 0 4 (by decide) (by decide +kernel) q1165 (Or.inl rfl) rfl hin2 rfl hP hS ha hn hfit hl hl2 (by decide) hdg kk
set_option maxHeartbeats 2000000 in
set_option maxRecDepth 100000 in
theorem m_X6_init_11 (l : Launch) {G : b_G} {B0 : Nat} {H : Heap} {τ : b_T} {a : Nat} {ta : Nat} {ax : Nat} {u0 : Value} {u1 : Value} {u2 : Value} {u3 : Value} (hc_th : b_tt G B0 τ H a (ta) (.inr (11, [u0, u1, u2, u3, .ref ax]))) : Met l yX6_init (ws_ yX6_init cX6_init 2 (Option.none)) ({ frames := 1, cells := 0, slots := 0, locals := 20 } : Room) (b_Pc G B0 H [.ref a, .ref ax]) (b_Qv B0 (fun H1 => b_Up a H H1 ∧ b_tt G B0 τ H1 a (ta) (.inr (11, [.ref ax, u1, u2, u3, .ref ax])))) 0 0 (b_A B0) := by
  refine b_of (by decide) (Nat.le_of_ble_eq_true rfl) ?_
  intro p e s m below meth c CX hr hlk hnm hS ls hl
  have CX : b_Cx p s m _ c cX6_init 2 RX6 G B0 := CX
  have hx := CX.hx
  have hb := CX.hb
  have hl : lv_has ls 2 [(0, .ref a), (1, .ref ax)] := hl
  generalize hQ : MQ below (b_Qv B0 (fun H1 => b_Up a H H1 ∧ b_tt G B0 τ H1 a (ta) (.inr (11, [.ref ax, u1, u2, u3, .ref ax])))) ([.ref a, .ref ax] : List Value).toArray s 0 0 (b_A B0) = Q
  have hU : b_Up a H H := b_Up.rf
  refine lv_aload_n hx hb dX6_init_0 rfl (lv_at hl 0 rfl) ?_
  refine lv_aload_n hx hb dX6_init_1 rfl (lv_at hl 1 rfl) ?_
  refine pa_X6_3_11 CX hnm hc_th.at hS hc_th.B rfl rfl (Nat.le_of_ble_eq_true rfl) (Nat.le_of_ble_eq_true rfl) dX6_init_2 (fun w1 H1 locs hw hat hu hS => ?_)
  obtain rfl := hw.elim (fun h9 => h9) (fun h9 => (Option.some.inj h9).symm)
  have hU := hU.tr hu
  have hc_th : b_tt G B0 τ H1 a (ta) (.inr (11, [.ref ax, u1, u2, u3, .ref ax])) := hc_th.set hat
  refine lv_aload_n hx hb dX6_init_5 rfl (lv_at hl 0 rfl) ?_
  refine W.objInit hx hb CX.ow (CX.ts _ q1161) (CX.ts _ q132) (CX.ts _ q133) rfl (by rw [CX.ml]; exact hl.1) rfl dX6_init_6 (Nat.le_of_ble_eq_true rfl) (Nat.le_of_ble_eq_true rfl) ?_
  refine W.eq (g2 := F0 m 9 ls []) rfl ?_
  rw [← hQ]
  exact b_vret CX hr hlk hS (Nat.le_of_ble_eq_true rfl) (Nat.le_of_ble_eq_true rfl) dX6_init_9 (⟨hU, hc_th⟩)
theorem pa_X14_1_11 {p : Program} {l : Launch} {e : Env} {R : Room} {s : State} {m : MethodId} {args : Array Value} {below : List Frame} {meth : Method} {c : Code} {H : Heap} {locs : List Loc} {cells slots : Nat} {Q : State → Prop} {cc : ByteArray} {pc nL a : Nat} {ls : Array Slot} {rest : List Value} {G : b_G} {B0 : Nat} (CX : b_Cx p s m args c cc nL RX14 G B0) (hin2 : meth.name = "<init>") {fs : List Value} (hP : b_at G a (.inr (11, fs)) H) (hS : va_S (b_A B0) s.heap H locs) (ha : B0 ≤ a) {v : Value} (hn : narrow (tyX14 4) v = v) (hfit : fits (tyX14 4) v = true) (hl : 4 < fs.length) (hl2 : 0 < fs.length) (hdg : decode cc pc = .ok (.putfield 1, 3)) (kk : ∀ (w : Value) (H1 : Heap) (locs1 : List Loc), (w = v ∨ fs[0]? = some w) → b_at G a (.inr (11, (fs.set 4 v).set 0 w)) H1 → b_Up a H H1 → va_S (b_A B0) s.heap H1 locs1 → W p l e R s m args below meth c H1 locs1 cells slots Q (F0 m (pc + 3) ls rest)) : W p l e R s m args below meth c H locs cells slots Q (F0 m pc ls (v :: .ref a :: rest)) := b_putFA CX in_X14 tyX14 tyX14_ok rfl 4 0 (by decide) (by decide +kernel) q1523 (Or.inl rfl) rfl hin2 rfl hP hS ha hn hfit hl hl2 (by decide) hdg kk
theorem pf_X14_7_11 {p : Program} {l : Launch} {e : Env} {R : Room} {s : State} {m : MethodId} {args : Array Value} {below : List Frame} {meth : Method} {c : Code} {H : Heap} {locs : List Loc} {cells slots : Nat} {Q : State → Prop} {cc : ByteArray} {pc nL a : Nat} {ls : Array Slot} {rest : List Value} {G : b_G} {B0 : Nat} (CX : b_Cx p s m args c cc nL RX14 G B0) (hin2 : meth.name = "<init>") {fs : List Value} (hP : b_at G a (.inr (11, fs)) H) (hS : va_S (b_A B0) s.heap H locs) (ha : B0 ≤ a) {v : Value} (hn : narrow (tyX14 1) v = v) (hfit : fits (tyX14 1) v = true) (hl : 1 < fs.length) (hdg : decode cc pc = .ok (.putfield 7, 3)) (kk : ∀ (H1 : Heap) (locs1 : List Loc), b_at G a (.inr (11, fs.set 1 v)) H1 → b_Up a H H1 → va_S (b_A B0) s.heap H1 locs1 → W p l e R s m args below meth c H1 locs1 cells slots Q (F0 m (pc + 3) ls rest)) : W p l e R s m args below meth c H locs cells slots Q (F0 m pc ls (v :: .ref a :: rest)) := b_putF CX in_X14 tyX14 tyX14_ok rfl 1 (by decide) (by decide +kernel) q1520 (Or.inl rfl) rfl hin2 rfl hP hS ha hn hfit hl hdg kk
theorem pf_X14_11_11 {p : Program} {l : Launch} {e : Env} {R : Room} {s : State} {m : MethodId} {args : Array Value} {below : List Frame} {meth : Method} {c : Code} {H : Heap} {locs : List Loc} {cells slots : Nat} {Q : State → Prop} {cc : ByteArray} {pc nL a : Nat} {ls : Array Slot} {rest : List Value} {G : b_G} {B0 : Nat} (CX : b_Cx p s m args c cc nL RX14 G B0) (hin2 : meth.name = "<init>") {fs : List Value} (hP : b_at G a (.inr (11, fs)) H) (hS : va_S (b_A B0) s.heap H locs) (ha : B0 ≤ a) {v : Value} (hn : narrow (tyX14 2) v = v) (hfit : fits (tyX14 2) v = true) (hl : 2 < fs.length) (hdg : decode cc pc = .ok (.putfield 11, 3)) (kk : ∀ (H1 : Heap) (locs1 : List Loc), b_at G a (.inr (11, fs.set 2 v)) H1 → b_Up a H H1 → va_S (b_A B0) s.heap H1 locs1 → W p l e R s m args below meth c H1 locs1 cells slots Q (F0 m (pc + 3) ls rest)) : W p l e R s m args below meth c H locs cells slots Q (F0 m pc ls (v :: .ref a :: rest)) := b_putF CX in_X14 tyX14 tyX14_ok rfl 2 (by decide) (by decide +kernel) q1521 (Or.inl rfl) rfl hin2 rfl hP hS ha hn hfit hl hdg kk
theorem pf_X14_14_11 {p : Program} {l : Launch} {e : Env} {R : Room} {s : State} {m : MethodId} {args : Array Value} {below : List Frame} {meth : Method} {c : Code} {H : Heap} {locs : List Loc} {cells slots : Nat} {Q : State → Prop} {cc : ByteArray} {pc nL a : Nat} {ls : Array Slot} {rest : List Value} {G : b_G} {B0 : Nat} (CX : b_Cx p s m args c cc nL RX14 G B0) (hin2 : meth.name = "<init>") {fs : List Value} (hP : b_at G a (.inr (11, fs)) H) (hS : va_S (b_A B0) s.heap H locs) (ha : B0 ≤ a) {v : Value} (hn : narrow (tyX14 3) v = v) (hfit : fits (tyX14 3) v = true) (hl : 3 < fs.length) (hdg : decode cc pc = .ok (.putfield 14, 3)) (kk : ∀ (H1 : Heap) (locs1 : List Loc), b_at G a (.inr (11, fs.set 3 v)) H1 → b_Up a H H1 → va_S (b_A B0) s.heap H1 locs1 → W p l e R s m args below meth c H1 locs1 cells slots Q (F0 m (pc + 3) ls rest)) : W p l e R s m args below meth c H locs cells slots Q (F0 m pc ls (v :: .ref a :: rest)) := b_putF CX in_X14 tyX14 tyX14_ok rfl 3 (by decide) (by decide +kernel) q1522 (Or.inl rfl) rfl hin2 rfl hP hS ha hn hfit hl hdg kk
theorem cs_X14_17 {p : Program} {l : Launch} {e : Env} {R : Room} {s : State} {m : MethodId} {args : Array Value} {below : List Frame} {meth : Method} {c : Code} {H : Heap} {locs : List Loc} {cells slots : Nat} {cc : ByteArray} {pc nL a : Nat} {ls : Array Slot} {rest : List Value} {G : b_G} {B0 : Nat} (CX : b_Cx p s m args c cc nL RX14 G B0) (hls : ls.size = nL) {rm : Room} {mc ms : Nat} {As st0 : List Value} {Qc : Array Value → State → Outcome → State → Prop} (hM : Met l yX6_init (ws_ yX6_init cX6_init 2 (Option.none)) rm (b_Pc G B0 H (.ref a :: As)) Qc mc ms (b_A B0)) (hn : As.length = 1) (hS : va_S (b_A B0) s.heap H locs) (hst : st0 = As.reverse ++ .ref a :: rest) (hr : rm.cells = mc ∧ rm.slots = ms ∧ rm.frames + 1 ≤ R.frames ∧ 8 + (2 + 11) + rm.locals ≤ R.locals) (hw : (rest.map fun v => v.category).sum ≤ 8) (hdg : decode cc pc = .ok (.invokespecial 17, 3)) (hf : cells + mc ≤ R.cells ∧ slots + ms ≤ R.slots) : va_Run p l e R s m args below meth c H locs cells slots mc ms (F0 m pc ls st0) rest (Qc (Value.ref a :: As).toArray) (b_A B0) := va_runIN CX.fix hM (⟨va_cnB 1 CX.ts (lw_meth q1160) rfl hr.1 hr.2.1 (CX.K.2.1 _ q1519 rfl) (CX.ts _ q104) (by decide +kernel) ⟨hr.2.2.1, hr.2.2.2⟩, rfl, CX.ts _ q1159⟩) ⟨b_blind G B0 H _, b_pre _ CX.K hS⟩ rfl hn hls hst (lv_room hw) hdg hf
set_option maxHeartbeats 2000000 in
set_option maxRecDepth 100000 in
theorem m_X14_init (l : Launch) {G : b_G} {B0 : Nat} {H : Heap} {τ : b_T} {a : Nat} {ta : Nat} {ax : Nat} {b : Nat} {s_ : Nat} {w_ : Int32} (hc_th : b_tt G B0 τ H a (ta) (.inr (11, [.null, .int (nI 0), .int (nI 0), .int (nI 0), .null]))) : Met l yX14_init (ws_ yX14_init cX14_init 5 (Option.none)) ({ frames := 2, cells := 0, slots := 0, locals := 41 } : Room) (b_Pc G B0 H [.ref a, .ref ax, .int (nI b), .int (nI s_), .int w_]) (b_Qv B0 (fun H1 => b_Up a H H1 ∧ b_tt G B0 τ H1 a (ta) (.inr (11, [.ref ax, .int (nI b), .int (nI s_), .int w_, .ref ax])))) 0 0 (b_A B0) := by
  refine b_of (by decide) (Nat.le_of_ble_eq_true rfl) ?_
  intro p e s m below meth c CX hr hlk hnm hS ls hl
  have CX : b_Cx p s m _ c cX14_init 5 RX14 G B0 := CX
  have hx := CX.hx
  have hb := CX.hb
  have hl : lv_has ls 5 [(0, .ref a), (1, .ref ax), (2, .int (nI b)), (3, .int (nI s_)), (4, .int w_)] := hl
  generalize hQ : MQ below (b_Qv B0 (fun H1 => b_Up a H H1 ∧ b_tt G B0 τ H1 a (ta) (.inr (11, [.ref ax, .int (nI b), .int (nI s_), .int w_, .ref ax])))) ([.ref a, .ref ax, .int (nI b), .int (nI s_), .int w_] : List Value).toArray s 0 0 (b_A B0) = Q
  have hU : b_Up a H H := b_Up.rf
  refine lv_aload_n hx hb dX14_init_0 rfl (lv_at hl 0 rfl) ?_
  refine lv_aload_n hx hb dX14_init_1 rfl (lv_at hl 1 rfl) ?_
  refine pa_X14_1_11 CX hnm hc_th.at hS hc_th.B rfl rfl (Nat.le_of_ble_eq_true rfl) (Nat.le_of_ble_eq_true rfl) dX14_init_2 (fun w1 H1 locs hw hat hu hS => ?_)
  have hU := hU.tr hu
  have hc_th : b_tt G B0 τ H1 a (ta) (.inr (11, [w1, .int (nI 0), .int (nI 0), .int (nI 0), .ref ax])) := hc_th.set hat
  refine lv_aload_n hx hb dX14_init_5 rfl (lv_at hl 0 rfl) ?_
  refine lv_iload_n hx hb dX14_init_6 rfl (lv_at hl 2 rfl) ?_
  refine pf_X14_7_11 CX hnm hc_th.at hS hc_th.B rfl rfl (Nat.le_of_ble_eq_true rfl) dX14_init_7 (fun H2 locs hat hu hS => ?_)
  have hU := hU.tr hu
  have hc_th : b_tt G B0 τ H2 a (ta) (.inr (11, [w1, .int (nI b), .int (nI 0), .int (nI 0), .ref ax])) := hc_th.set hat
  refine lv_aload_n hx hb dX14_init_10 rfl (lv_at hl 0 rfl) ?_
  refine lv_iload_n hx hb dX14_init_11 rfl (lv_at hl 3 rfl) ?_
  refine pf_X14_11_11 CX hnm hc_th.at hS hc_th.B rfl rfl (Nat.le_of_ble_eq_true rfl) dX14_init_12 (fun H3 locs hat hu hS => ?_)
  have hU := hU.tr hu
  have hc_th : b_tt G B0 τ H3 a (ta) (.inr (11, [w1, .int (nI b), .int (nI s_), .int (nI 0), .ref ax])) := hc_th.set hat
  refine lv_aload_n hx hb dX14_init_15 rfl (lv_at hl 0 rfl) ?_
  refine lv_iload hx hb dX14_init_16 (lv_at hl 4 rfl) ?_
  refine pf_X14_14_11 CX hnm hc_th.at hS hc_th.B rfl rfl (Nat.le_of_ble_eq_true rfl) dX14_init_18 (fun H4 locs hat hu hS => ?_)
  have hU := hU.tr hu
  have hc_th : b_tt G B0 τ H4 a (ta) (.inr (11, [w1, .int (nI b), .int (nI s_), .int w_, .ref ax])) := hc_th.set hat
  refine lv_aload_n hx hb dX14_init_21 rfl (lv_at hl 0 rfl) ?_
  refine lv_aload_n hx hb dX14_init_22 rfl (lv_at hl 1 rfl) ?_
  refine b_cv (cs_X14_17 (rest := []) CX hl.1 (m_X6_init_11 l (a := a) (ta := ta) (u0 := w1) (u1 := .int (nI b)) (u2 := .int (nI s_)) (u3 := .int w_) (ax := ax) hc_th) rfl hS rfl ⟨rfl, rfl, Nat.le_of_ble_eq_true rfl, Nat.le_of_ble_eq_true rfl⟩ (Nat.le_of_ble_eq_true rfl) dX14_init_23 ⟨Nat.le_of_ble_eq_true rfl, Nat.le_of_ble_eq_true rfl⟩) hS (fun H5 locs hp hS => ?_)
  obtain ⟨hu, hx0⟩ := hp
  have hU := hU.tr hu
  have hc_th : b_tt G B0 τ H5 a (ta) (.inr (11, [.ref ax, (.int (nI b)), (.int (nI s_)), (.int w_), .ref ax])) := hx0
  rw [← hQ]
  exact b_vret CX hr hlk hS (Nat.le_of_ble_eq_true rfl) (Nat.le_of_ble_eq_true rfl) dX14_init_26 (⟨hU, hc_th⟩)
theorem gf_X14_1_11 {p : Program} {l : Launch} {e : Env} {R : Room} {s : State} {m : MethodId} {args : Array Value} {below : List Frame} {meth : Method} {c : Code} {H : Heap} {locs : List Loc} {cells slots : Nat} {Q : State → Prop} {cc : ByteArray} {pc nL a : Nat} {ls : Array Slot} {rest : List Value} {G : b_G} {B0 : Nat} (CX : b_Cx p s m args c cc nL RX14 G B0) {fs : List Value} (hP : b_at G a (.inr (11, fs)) H) {v : Value} (hv : fs[4]? = some v) (hdg : decode cc pc = .ok (.getfield 1, 3)) (kk : W p l e R s m args below meth c H locs cells slots Q (F0 m (pc + 3) ls (v :: rest))) : W p l e R s m args below meth c H locs cells slots Q (F0 m pc ls (.ref a :: rest)) := b_get CX in_X14 rfl 4 (by decide) q1523 (Or.inl rfl) hP hv hdg kk
theorem gf_X14_23_0 {p : Program} {l : Launch} {e : Env} {R : Room} {s : State} {m : MethodId} {args : Array Value} {below : List Frame} {meth : Method} {c : Code} {H : Heap} {locs : List Loc} {cells slots : Nat} {Q : State → Prop} {cc : ByteArray} {pc nL a : Nat} {ls : Array Slot} {rest : List Value} {G : b_G} {B0 : Nat} (CX : b_Cx p s m args c cc nL RX14 G B0) {fs : List Value} (hP : b_at G a (.inr (0, fs)) H) {v : Value} (hv : fs[0]? = some v) (hdg : decode cc pc = .ok (.getfield 23, 3)) (kk : W p l e R s m args below meth c H locs cells slots Q (F0 m (pc + 3) ls (v :: rest))) : W p l e R s m args below meth c H locs cells slots Q (F0 m pc ls (.ref a :: rest)) := b_getN CX in_X1 rfl 0 (by decide) q250 (Or.inl rfl) hP hv hdg kk
theorem gf_X14_7_11 {p : Program} {l : Launch} {e : Env} {R : Room} {s : State} {m : MethodId} {args : Array Value} {below : List Frame} {meth : Method} {c : Code} {H : Heap} {locs : List Loc} {cells slots : Nat} {Q : State → Prop} {cc : ByteArray} {pc nL a : Nat} {ls : Array Slot} {rest : List Value} {G : b_G} {B0 : Nat} (CX : b_Cx p s m args c cc nL RX14 G B0) {fs : List Value} (hP : b_at G a (.inr (11, fs)) H) {v : Value} (hv : fs[1]? = some v) (hdg : decode cc pc = .ok (.getfield 7, 3)) (kk : W p l e R s m args below meth c H locs cells slots Q (F0 m (pc + 3) ls (v :: rest))) : W p l e R s m args below meth c H locs cells slots Q (F0 m pc ls (.ref a :: rest)) := b_get CX in_X14 rfl 1 (by decide) q1520 (Or.inl rfl) hP hv hdg kk
theorem gf_X14_29_1 {p : Program} {l : Launch} {e : Env} {R : Room} {s : State} {m : MethodId} {args : Array Value} {below : List Frame} {meth : Method} {c : Code} {H : Heap} {locs : List Loc} {cells slots : Nat} {Q : State → Prop} {cc : ByteArray} {pc nL a : Nat} {ls : Array Slot} {rest : List Value} {G : b_G} {B0 : Nat} (CX : b_Cx p s m args c cc nL RX14 G B0) {fs : List Value} (hP : b_at G a (.inr (1, fs)) H) {v : Value} (hv : fs[1]? = some v) (hdg : decode cc pc = .ok (.getfield 29, 3)) (kk : W p l e R s m args below meth c H locs cells slots Q (F0 m (pc + 3) ls (v :: rest))) : W p l e R s m args below meth c H locs cells slots Q (F0 m pc ls (.ref a :: rest)) := b_getN CX in_X2 rfl 1 (by decide) q177 (Or.inl rfl) hP hv hdg kk
theorem gf_X14_11_11 {p : Program} {l : Launch} {e : Env} {R : Room} {s : State} {m : MethodId} {args : Array Value} {below : List Frame} {meth : Method} {c : Code} {H : Heap} {locs : List Loc} {cells slots : Nat} {Q : State → Prop} {cc : ByteArray} {pc nL a : Nat} {ls : Array Slot} {rest : List Value} {G : b_G} {B0 : Nat} (CX : b_Cx p s m args c cc nL RX14 G B0) {fs : List Value} (hP : b_at G a (.inr (11, fs)) H) {v : Value} (hv : fs[2]? = some v) (hdg : decode cc pc = .ok (.getfield 11, 3)) (kk : W p l e R s m args below meth c H locs cells slots Q (F0 m (pc + 3) ls (v :: rest))) : W p l e R s m args below meth c H locs cells slots Q (F0 m pc ls (.ref a :: rest)) := b_get CX in_X14 rfl 2 (by decide) q1521 (Or.inl rfl) hP hv hdg kk
theorem cs_X14_35 {p : Program} {l : Launch} {e : Env} {R : Room} {s : State} {m : MethodId} {args : Array Value} {below : List Frame} {meth : Method} {c : Code} {H : Heap} {locs : List Loc} {cells slots : Nat} {cc : ByteArray} {pc nL a : Nat} {ls : Array Slot} {rest : List Value} {G : b_G} {B0 : Nat} (CX : b_Cx p s m args c cc nL RX14 G B0) (hls : ls.size = nL) {rm : Room} {mc ms : Nat} {As st0 : List Value} {Qc : Array Value → State → Outcome → State → Prop} (hM : Met l yJ2_get (ws_ yJ2_get cJ2_get 2 (Option.some (Jvm.ClassFile.FieldType.object "java/lang/Object"))) rm (b_Pc G B0 H (.ref a :: As)) Qc mc ms (b_A B0)) (hn : As.length = 1) {fs : List Value} {ci : Nat} {qc : vw_C} (hc : b_cl[ci]? = some qc) (hq : qc.1 = RJ2) (hP : b_at G a (.inr (ci, fs)) H) (hS : va_S (b_A B0) s.heap H locs) (hst : st0 = As.reverse ++ .ref a :: rest) (hr : rm.cells = mc ∧ rm.slots = ms ∧ rm.frames + 1 ≤ R.frames ∧ 8 + (2 + 11) + rm.locals ≤ R.locals) (hw : (rest.map fun v => v.category).sum ≤ 8) (hdg : decode cc pc = .ok (.invokevirtual 35, 3)) (hf : cells + mc ≤ R.cells ∧ slots + ms ≤ R.slots) : va_Run p l e R s m args below meth c H locs cells slots mc ms (F0 m pc ls st0) rest (Qc (Value.ref a :: As).toArray) (b_A B0) := va_runV CX.fix hM (cwV 1 CX.ts (lw_V q1286 q796 q797 q83 q798) rfl hr.1 hr.2.1 (by decide +kernel) ⟨hr.2.2.1, hr.2.2.2⟩) ⟨b_blind G B0 H _, by have h9 := b_recv CX.K hc hP; rw [hq] at h9; exact h9, b_pre _ CX.K hS⟩ rfl hn hls hst (lv_room hw) hdg hf
theorem gf_X14_14_11 {p : Program} {l : Launch} {e : Env} {R : Room} {s : State} {m : MethodId} {args : Array Value} {below : List Frame} {meth : Method} {c : Code} {H : Heap} {locs : List Loc} {cells slots : Nat} {Q : State → Prop} {cc : ByteArray} {pc nL a : Nat} {ls : Array Slot} {rest : List Value} {G : b_G} {B0 : Nat} (CX : b_Cx p s m args c cc nL RX14 G B0) {fs : List Value} (hP : b_at G a (.inr (11, fs)) H) {v : Value} (hv : fs[3]? = some v) (hdg : decode cc pc = .ok (.getfield 14, 3)) (kk : W p l e R s m args below meth c H locs cells slots Q (F0 m (pc + 3) ls (v :: rest))) : W p l e R s m args below meth c H locs cells slots Q (F0 m pc ls (.ref a :: rest)) := b_get CX in_X14 rfl 3 (by decide) q1522 (Or.inl rfl) hP hv hdg kk
theorem cx_X14_43 {p : Program} {l : Launch} {e : Env} {R : Room} {s : State} {m : MethodId} {args : Array Value} {below : List Frame} {meth : Method} {c : Code} {H : Heap} {locs : List Loc} {cells slots : Nat} {cc : ByteArray} {pc nL a : Nat} {ls : Array Slot} {rest : List Value} {G : b_G} {B0 : Nat} (CX : b_Cx p s m args c cc nL RX14 G B0) (hls : ls.size = nL) {rm : Room} {mc ms : Nat} {As st0 : List Value} {Qc : Array Value → State → Outcome → State → Prop} {XC : String → Addr → State → State → Prop} (hM : vx_Met l yX2_tryTake (ws_ yX2_tryTake cX2_tryTake 4 (Option.none)) rm (b_Pc G B0 H (.ref a :: As)) Qc XC mc ms (b_A B0)) (hn : As.length = 3) {fs : List Value} {ci : Nat} {qc : vw_C} (hc : b_cl[ci]? = some qc) (hq : qc.1 = RX2) (hP : b_at G a (.inr (ci, fs)) H) (hS : va_S (b_A B0) s.heap H locs) (hst : st0 = As.reverse ++ .ref a :: rest) (hr : rm.cells = mc ∧ rm.slots = ms ∧ rm.frames + 1 ≤ R.frames ∧ 8 + (4 + 11) + rm.locals ≤ R.locals) (hw : (rest.map fun v => v.category).sum ≤ 8) (hdg : decode cc pc = .ok (.invokevirtual 43, 3)) (hf : cells + mc ≤ R.cells ∧ slots + ms ≤ R.slots) : vx_Run p l e R s m args below meth c H locs cells slots mc ms (F0 m pc ls st0) rest (Qc (Value.ref a :: As).toArray) XC (b_A B0) := vx_runV CX.fix hM (cwV 3 CX.ts (lw_V q1288 q1289 q1290 q80 q1291) rfl hr.1 hr.2.1 (by decide +kernel) ⟨hr.2.2.1, hr.2.2.2⟩) ⟨b_blind G B0 H _, by have h9 := b_recv CX.K hc hP; rw [hq] at h9; exact h9, b_pre _ CX.K hS⟩ rfl hn hls hst (lv_room hw) hdg hf
set_option maxHeartbeats 2000000 in
set_option maxRecDepth 100000 in
theorem m_X14_check (l : Launch) {G : b_G} {B0 : Nat} {H : Heap} {τ : b_T} {id : Nat} {F : Nat → Nat} {M : Nat → Int32} {E : Nat → Bool} {S : b_St} {Z : Nat → Nat → Int32} {da : Nat} {td : Nat} {a : Nat} {asv : Nat} {atx : Nat} {atk : Nat} {hs : Int64} {b : Nat} {s_ : Nat} {w_ : Int32} (hc_D : b_tt G B0 τ H da (td) (.inr (11, [.ref a, .int (nI b), .int (nI s_), .int w_, .ref a]))) (hc_X : b_tt G B0 τ H a 0 (.inr (0, [.ref ((F 0)), .ref asv, .ref atx, .ref atk, .long hs]))) (hL : LR G B0 τ id F M E H S Z) (hW : b_WF S) (hBb : b < nb S) (hSs_ : s_ < ns S) : vx_Met l yX14_check (ws_ yX14_check cX14_check 1 (Option.none)) ({ frames := 7, cells := 2, slots := 12, locals := 151 } : Room) (b_Pc G B0 H [.ref da]) (b_Qv B0 (fun H1 => ((a_take S s_ b w_) = nI 0) ∧ H1 = H)) (b_X B0 (fun E9 q9 H9 => e_px G B0 H (a_take S s_ b w_) E9 q9 H9)) 2 12 (b_A B0) := by
  refine b_ofX (by decide) (Nat.le_of_ble_eq_true rfl) ?_
  intro p e s m below meth c CX hr hlk htb hS ls hl
  have CX : b_Cx p s m _ c cX14_check 1 RX14 G B0 := CX
  have hx := CX.hx
  have hb := CX.hb
  have hl : lv_has ls 1 [(0, .ref da)] := hl
  generalize hQ : vx_MQ below (b_Qv B0 (fun H1 => ((a_take S s_ b w_) = nI 0) ∧ H1 = H)) (b_X B0 (fun E9 q9 H9 => e_px G B0 H (a_take S s_ b w_) E9 q9 H9)) ([.ref da] : List Value).toArray s 2 12 (b_A B0) = Q
  have hX : b_Ext H H := b_Ext.rf
  have hnb : nb S = nb S := rfl
  have hns : ns S = ns S := rfl
  have hn8 := hL.2.2.2.1
  have hn6 := hL.2.2.2.2
  refine lv_aload_n hx hb dX14_check_0 rfl (lv_at hl 0 rfl) ?_
  refine gf_X14_1_11 CX hc_D.at rfl dX14_check_1 ?_
  refine gf_X14_23_0 CX hc_X.at rfl dX14_check_4 ?_
  refine lv_aload_n hx hb dX14_check_7 rfl (lv_at hl 0 rfl) ?_
  refine gf_X14_7_11 CX hc_D.at rfl dX14_check_8 ?_
  refine lv_aload_n hx hb dX14_check_11 rfl (lv_at hl 0 rfl) ?_
  refine gf_X14_1_11 CX hc_D.at rfl dX14_check_12 ?_
  refine gf_X14_23_0 CX hc_X.at rfl dX14_check_15 ?_
  refine gf_X14_29_1 CX hL.loop.at rfl dX14_check_18 ?_
  refine lv_aload_n hx hb dX14_check_21 rfl (lv_at hl 0 rfl) ?_
  refine gf_X14_11_11 CX hc_D.at rfl dX14_check_22 ?_
  refine b_cq0 (cs_X14_35 (rest := [.int (nI b), .ref ((F 0))]) CX hl.1 (m_J2_get l (a := (F 3)) (ta := 1000 * id + 3) (mc := M 3) (ra := (F 4)) (tr := 1000 * id + 4) (f := (fun j => F (30 + j))) (n := ns S) (i := s_) (hL.alg3 hW (by omega)) (hL.arg4 (by omega)) (by omega) (by omega)) rfl rfl rfl (hL.alg3 hW (by omega)).at hS rfl ⟨rfl, rfl, Nat.le_of_ble_eq_true rfl, Nat.le_of_ble_eq_true rfl⟩ (Nat.le_of_ble_eq_true rfl) dX14_check_25 ⟨Nat.le_of_ble_eq_true rfl, Nat.le_of_ble_eq_true rfl⟩) hS (fun locs hS => ?_)
  refine b_cast CX (ci := 5) rfl (hL.shop (k := s_) (by omega)).at q1287 dX14_check_28 ?_
  refine lv_aload_n hx hb dX14_check_31 rfl (lv_at hl 0 rfl) ?_
  refine gf_X14_14_11 CX hc_D.at rfl dX14_check_32 ?_
  refine b_xv0 (cx_X14_43 (rest := []) CX hl.1 (m_X2_tryTake l (b := b) (s_ := s_) (w_ := w_) hL hW (by omega) (by omega)) rfl rfl rfl hL.loop.at hS rfl ⟨rfl, rfl, Nat.le_of_ble_eq_true rfl, Nat.le_of_ble_eq_true rfl⟩ (Nat.le_of_ble_eq_true rfl) dX14_check_35 ⟨Nat.le_of_ble_eq_true rfl, Nat.le_of_ble_eq_true rfl⟩) hS (fun E9 q9 Hx1 locs hx9 hS he9 => ?_) (fun hk_35 locs hS => ?_)
  · rw [← hQ]
    exact b_xout htb hlk he9 hS (Nat.le_of_ble_eq_true rfl) (Nat.le_of_ble_eq_true rfl) (hx9)
  rw [← hQ]
  exact vx_ret (b_vret CX hr hlk hS (Nat.le_of_ble_eq_true rfl) (Nat.le_of_ble_eq_true rfl) dX14_check_38 (⟨(by exact hk_35), rfl⟩))
theorem cs_X14_47 {p : Program} {l : Launch} {e : Env} {R : Room} {s : State} {m : MethodId} {args : Array Value} {below : List Frame} {meth : Method} {c : Code} {H : Heap} {locs : List Loc} {cells slots : Nat} {cc : ByteArray} {pc nL a : Nat} {ls : Array Slot} {rest : List Value} {G : b_G} {B0 : Nat} (CX : b_Cx p s m args c cc nL RX14 G B0) (hls : ls.size = nL) {rm : Room} {mc ms : Nat} {As st0 : List Value} {Qc : Array Value → State → Outcome → State → Prop} (hM : Met l yX2_take (ws_ yX2_take cX2_take 4 (Option.some Jvm.ClassFile.FieldType.int)) rm (b_Pc G B0 H (.ref a :: As)) Qc mc ms (b_A B0)) (hn : As.length = 3) {fs : List Value} {ci : Nat} {qc : vw_C} (hc : b_cl[ci]? = some qc) (hq : qc.1 = RX2) (hP : b_at G a (.inr (ci, fs)) H) (hS : va_S (b_A B0) s.heap H locs) (hst : st0 = As.reverse ++ .ref a :: rest) (hr : rm.cells = mc ∧ rm.slots = ms ∧ rm.frames + 1 ≤ R.frames ∧ 8 + (4 + 11) + rm.locals ≤ R.locals) (hw : (rest.map fun v => v.category).sum ≤ 8) (hdg : decode cc pc = .ok (.invokevirtual 47, 3)) (hf : cells + mc ≤ R.cells ∧ slots + ms ≤ R.slots) : va_Run p l e R s m args below meth c H locs cells slots mc ms (F0 m pc ls st0) rest (Qc (Value.ref a :: As).toArray) (b_A B0) := va_runV CX.fix hM (cwV 3 CX.ts (lw_V q1383 q1384 q1385 q80 q1386) rfl hr.1 hr.2.1 (by decide +kernel) ⟨hr.2.2.1, hr.2.2.2⟩) ⟨b_blind G B0 H _, by have h9 := b_recv CX.K hc hP; rw [hq] at h9; exact h9, b_pre _ CX.K hS⟩ rfl hn hls hst (lv_room hw) hdg hf
set_option maxHeartbeats 2000000 in
set_option maxRecDepth 100000 in
theorem m_X14_does (l : Launch) {G : b_G} {B0 : Nat} {H : Heap} {τ : b_T} {id : Nat} {F : Nat → Nat} {M : Nat → Int32} {E : Nat → Bool} {S : b_St} {Z : Nat → Nat → Int32} {da : Nat} {td : Nat} {a : Nat} {asv : Nat} {atx : Nat} {atk : Nat} {hs : Int64} {b : Nat} {s_ : Nat} {w_ : Int32} (hc_D : b_tt G B0 τ H da (td) (.inr (11, [.ref a, .int (nI b), .int (nI s_), .int w_, .ref a]))) (hc_X : b_tt G B0 τ H a 0 (.inr (0, [.ref ((F 0)), .ref asv, .ref atx, .ref atk, .long hs]))) (hL : LR G B0 τ id F M E H S Z) (hW : b_WF S) (hBb : b < nb S) (hSs_ : s_ < ns S) (hi0 : 0 < id) (htd : td < 1000) : Met l yX14_does (ws_ yX14_does cX14_does 1 (Option.some Jvm.ClassFile.FieldType.int)) ({ frames := 4, cells := 0, slots := 0, locals := 87 } : Room) (b_Pc G B0 H [.ref da]) (b_Qi B0 (fun r H1 => r = S 2 s_ 0 - w_ * p_dep S b ∧ b_Fr τ (fun t => 1000 * id ≤ t ∧ t < 1000 * id + 1000) H H1 ∧ LR G B0 τ id F M E H1 ((s_take S s_ b w_)) Z)) 0 0 (b_A B0) := by
  refine b_of (by decide) (Nat.le_of_ble_eq_true rfl) ?_
  intro p e s m below meth c CX hr hlk hnm hS ls hl
  have CX : b_Cx p s m _ c cX14_does 1 RX14 G B0 := CX
  have hx := CX.hx
  have hb := CX.hb
  have hl : lv_has ls 1 [(0, .ref da)] := hl
  generalize hQ : MQ below (b_Qi B0 (fun r H1 => r = S 2 s_ 0 - w_ * p_dep S b ∧ b_Fr τ (fun t => 1000 * id ≤ t ∧ t < 1000 * id + 1000) H H1 ∧ LR G B0 τ id F M E H1 ((s_take S s_ b w_)) Z)) ([.ref da] : List Value).toArray s 0 0 (b_A B0) = Q
  have hF : b_Fr τ (fun t => 1000 * id ≤ t ∧ t < 1000 * id + 1000) H H := b_Fr.rf
  have hA : b_Ag τ τ H := b_Ag.rf
  have hnb : nb S = nb S := rfl
  have hns : ns S = ns S := rfl
  have hn8 := hL.2.2.2.1
  have hn6 := hL.2.2.2.2
  refine lv_aload_n hx hb dX14_does_0 rfl (lv_at hl 0 rfl) ?_
  refine gf_X14_1_11 CX hc_D.at rfl dX14_does_1 ?_
  refine gf_X14_23_0 CX hc_X.at rfl dX14_does_4 ?_
  refine lv_aload_n hx hb dX14_does_7 rfl (lv_at hl 0 rfl) ?_
  refine gf_X14_7_11 CX hc_D.at rfl dX14_does_8 ?_
  refine lv_aload_n hx hb dX14_does_11 rfl (lv_at hl 0 rfl) ?_
  refine gf_X14_1_11 CX hc_D.at rfl dX14_does_12 ?_
  refine gf_X14_23_0 CX hc_X.at rfl dX14_does_15 ?_
  refine gf_X14_29_1 CX hL.loop.at rfl dX14_does_18 ?_
  refine lv_aload_n hx hb dX14_does_21 rfl (lv_at hl 0 rfl) ?_
  refine gf_X14_11_11 CX hc_D.at rfl dX14_does_22 ?_
  refine b_cq0 (cs_X14_35 (rest := [.int (nI b), .ref ((F 0))]) CX hl.1 (m_J2_get l (a := (F 3)) (ta := 1000 * id + 3) (mc := M 3) (ra := (F 4)) (tr := 1000 * id + 4) (f := (fun j => F (30 + j))) (n := ns S) (i := s_) (hL.alg3 hW (by omega)) (hL.arg4 (by omega)) (by omega) (by omega)) rfl rfl rfl (hL.alg3 hW (by omega)).at hS rfl ⟨rfl, rfl, Nat.le_of_ble_eq_true rfl, Nat.le_of_ble_eq_true rfl⟩ (Nat.le_of_ble_eq_true rfl) dX14_does_25 ⟨Nat.le_of_ble_eq_true rfl, Nat.le_of_ble_eq_true rfl⟩) hS (fun locs hS => ?_)
  refine b_cast CX (ci := 5) rfl (hL.shop (k := s_) (by omega)).at q1287 dX14_does_28 ?_
  refine lv_aload_n hx hb dX14_does_31 rfl (lv_at hl 0 rfl) ?_
  refine gf_X14_14_11 CX hc_D.at rfl dX14_does_32 ?_
  refine b_ci (cs_X14_47 (rest := []) CX hl.1 (m_X2_take l (b := b) (s_ := s_) (n_ := w_) hL hW (by omega) (by omega)) rfl rfl rfl hL.loop.at hS rfl ⟨rfl, rfl, Nat.le_of_ble_eq_true rfl, Nat.le_of_ble_eq_true rfl⟩ (Nat.le_of_ble_eq_true rfl) dX14_does_35 ⟨Nat.le_of_ble_eq_true rfl, Nat.le_of_ble_eq_true rfl⟩) hS (fun r H1 locs hp hS => ?_)
  obtain ⟨rfl, hF9, hL9⟩ := hp
  have hc_D := hc_D.fr hF9 (show ¬ (1000 * id ≤ (td) ∧ (td) < 1000 * id + 1000) by omega)
  have hc_X := hc_X.fr hF9 (show ¬ (1000 * id ≤ 0 ∧ 0 < 1000 * id + 1000) by omega)
  have hF := hF.tr hA hF9 (fun q9 hq9 x9 => by have x8 : 1000 * id ≤ τ q9 ∧ τ q9 < 1000 * id + 1000 := x9; show 1000 * id ≤ τ q9 ∧ τ q9 < 1000 * id + 1000; omega)
  have hL : LR G B0 τ id F M E H1 ((s_take S s_ b w_)) Z := hL9
  rw [← hQ]
  exact b_iret CX hr hlk hS (Nat.le_of_ble_eq_true rfl) (Nat.le_of_ble_eq_true rfl) dX14_does_38 (⟨rfl, hF, hL⟩)
theorem cx_X6_15_11 {p : Program} {l : Launch} {e : Env} {R : Room} {s : State} {m : MethodId} {args : Array Value} {below : List Frame} {meth : Method} {c : Code} {H : Heap} {locs : List Loc} {cells slots : Nat} {cc : ByteArray} {pc nL a : Nat} {ls : Array Slot} {rest : List Value} {G : b_G} {B0 : Nat} (CX : b_Cx p s m args c cc nL RX6 G B0) (hls : ls.size = nL) {rm : Room} {mc ms : Nat} {As st0 : List Value} {Qc : Array Value → State → Outcome → State → Prop} {XC : String → Addr → State → State → Prop} (hM : vx_Met l yX14_check (ws_ yX14_check cX14_check 1 (Option.none)) rm (b_Pc G B0 H (.ref a :: As)) Qc XC mc ms (b_A B0)) (hn : As.length = 0) {fs : List Value} (hP : b_at G a (.inr (11, fs)) H) (hS : va_S (b_A B0) s.heap H locs) (hst : st0 = As.reverse ++ .ref a :: rest) (hr : rm.cells = mc ∧ rm.slots = ms ∧ rm.frames + 1 ≤ R.frames ∧ 8 + (1 + 11) + rm.locals ≤ R.locals) (hw : (rest.map fun v => v.category).sum ≤ 8) (hdg : decode cc pc = .ok (.invokevirtual 15, 3)) (hf : cells + mc ≤ R.cells ∧ slots + ms ≤ R.slots) : vx_Run p l e R s m args below meth c H locs cells slots mc ms (F0 m pc ls st0) rest (Qc (Value.ref a :: As).toArray) XC (b_A B0) := vx_runU CX.fix hM (va_cwA (C := RX14) (owner := RX6) 0 CX.ts (lw_U q1198 q1200 q1283 q1284 q112 q1285) rfl hr.1 hr.2.1 (CX.K.2.1 _ q1199 rfl) ⟨by decide, by decide, by decide +kernel⟩ ⟨hr.2.2.1, hr.2.2.2⟩) ⟨b_blind G B0 H _, b_recv CX.K (ci := 11) rfl hP, b_pre _ CX.K hS⟩ rfl hn hls hst (lv_room hw) hdg hf
set_option maxHeartbeats 2000000 in
set_option maxRecDepth 100000 in
theorem m_X6_reason_11 (l : Launch) {G : b_G} {B0 : Nat} {H : Heap} {τ : b_T} {id : Nat} {F : Nat → Nat} {M : Nat → Int32} {E : Nat → Bool} {S : b_St} {Z : Nat → Nat → Int32} {da : Nat} {td : Nat} {a : Nat} {asv : Nat} {atx : Nat} {atk : Nat} {hs : Int64} {b : Nat} {s_ : Nat} {w_ : Int32} (hc_D : b_tt G B0 τ H da (td) (.inr (11, [.ref a, .int (nI b), .int (nI s_), .int w_, .ref a]))) (hc_X : b_tt G B0 τ H a 0 (.inr (0, [.ref ((F 0)), .ref asv, .ref atx, .ref atk, .long hs]))) (hL : LR G B0 τ id F M E H S Z) (hW : b_WF S) (hBb : b < nb S) (hSs_ : s_ < ns S) : vx_Met l yX6_reason (wsW_ yX6_reason cX6_reason 2 (Option.some Jvm.ClassFile.FieldType.int) [((0 : Nat), (5 : Nat), (6 : Nat), (18 : Nat)), ((0 : Nat), (5 : Nat), (6 : Nat), (20 : Nat)), ((0 : Nat), (5 : Nat), (6 : Nat), (22 : Nat)), ((0 : Nat), (5 : Nat), (12 : Nat), (25 : Nat))]) ({ frames := 8, cells := 2, slots := 12, locals := 171 } : Room) (b_Pc G B0 H [.ref da]) (b_Qi B0 (fun r H1 => r = (a_take S s_ b w_) ∧ b_Ext H H1)) (b_X B0 (fun E9 q9 H9 => False)) 2 12 (b_A B0) := by
  refine b_ofXW (by decide) (Nat.le_of_ble_eq_true rfl) ?_
  intro p e s m below meth c CX hr hlk htb hS ls hl
  have CX : b_Cx p s m _ c cX6_reason 2 RX6 G B0 := CX
  have hx := CX.hx
  have hb := CX.hb
  have hl : lv_has ls 2 [(0, .ref da)] := hl
  generalize hQ : vx_MQ below (b_Qi B0 (fun r H1 => r = (a_take S s_ b w_) ∧ b_Ext H H1)) (b_X B0 (fun E9 q9 H9 => False)) ([.ref da] : List Value).toArray s 2 12 (b_A B0) = Q
  have hX : b_Ext H H := b_Ext.rf
  have hnb : nb S = nb S := rfl
  have hns : ns S = ns S := rfl
  have hn8 := hL.2.2.2.1
  have hn6 := hL.2.2.2.2
  refine lv_aload_n hx hb dX6_reason_0 rfl (lv_at hl 0 rfl) ?_
  refine b_xv0 (cx_X6_15_11 (rest := []) CX hl.1 (m_X14_check l (da := da) (td := td) (a := a) (asv := asv) (atx := atx) (atk := atk) (hs := hs) (b := b) (s_ := s_) (w_ := w_) hc_D hc_X hL hW (by omega) (by omega)) rfl hc_D.at hS rfl ⟨rfl, rfl, Nat.le_of_ble_eq_true rfl, Nat.le_of_ble_eq_true rfl⟩ (Nat.le_of_ble_eq_true rfl) dX6_reason_1 ⟨Nat.le_of_ble_eq_true rfl, Nat.le_of_ble_eq_true rfl⟩) hS (fun E9 q9 Hx1 locs hx9 hS he9 => ?_) (fun hk_1 locs hS => ?_)
  · obtain ⟨hE, hz, hB, v9, hv9, hcd, hnm9, hat⟩ := hx9
    rcases hv9 with rfl | rfl | rfl
    · obtain rfl := hnm9
      refine b_xcatch CX (E := "BottleLoop$NoBottles") (name := "BottleLoop$NoBottles") [] ⟨0, 5, 6, 18⟩ [⟨0, 5, 6, 20⟩, ⟨0, 5, 6, 22⟩, ⟨0, 5, 12, 25⟩] (by rw [htb]; rfl) (fun z hz9 => nomatch hz9) (by decide) (by decide) q1194 (CX.nw q1215 rfl rfl) he9 ?_
      have hc_D := hc_D.ad (tb := 101) hE hz
      have hc_X := hc_X.ad (tb := 101) hE hz
      have hL := hL.ad (tb := 101) hE hz
      have fr_ex : H.size ≤ q9 := Nat.le_trans hX.1 hz
      have hX := hX.tr hE
      have hc_ex : b_tt G B0 ((upT τ q9 101)) Hx1 q9 101 (.inr (18, [.null, .null, .null, .null, .null, .int (nI 0)])) := b_tt.mk hat hB
      refine lv_astore_n (lv' := [(1, .ref q9), (0, .ref da)]) hx hb dX6_reason_6 rfl hl (Nat.le_of_ble_eq_true rfl) rfl (fun ls hl => ?_)
      refine lv_aload_n hx hb dX6_reason_7 rfl (lv_at hl 0 rfl) ?_
      refine b_ci0 (cs_X6_24_18 (rest := []) CX hl.1 (m_X9_number l (a := q9) (ta := 101) hc_ex) rfl hc_ex.at hS rfl ⟨rfl, rfl, Nat.le_of_ble_eq_true rfl, Nat.le_of_ble_eq_true rfl⟩ (Nat.le_of_ble_eq_true rfl) dX6_reason_8 ⟨Nat.le_of_ble_eq_true rfl, Nat.le_of_ble_eq_true rfl⟩) hS (fun locs hS => ?_)
      rw [← hQ]
      exact vx_ret (b_iret CX hr hlk hS (Nat.le_of_ble_eq_true rfl) (Nat.le_of_ble_eq_true rfl) dX6_reason_11 (⟨(by first | exact hk_1.symm | exact hcd.symm), hX⟩))
    · obtain rfl := hnm9
      refine b_xcatch CX (E := "BottleLoop$NoCrates") (name := "BottleLoop$NoCrates") [⟨0, 5, 6, 18⟩] ⟨0, 5, 6, 20⟩ [⟨0, 5, 6, 22⟩, ⟨0, 5, 12, 25⟩] (by rw [htb]; rfl) (fun z hz9 => by rcases List.mem_cons.mp hz9 with rfl | h9; exact Or.inr ⟨by decide, "BottleLoop$NoBottles", q1194, by decide⟩; exact nomatch h9) (by decide) (by decide) q1195 (CX.nw q1242 rfl rfl) he9 ?_
      have hc_D := hc_D.ad (tb := 101) hE hz
      have hc_X := hc_X.ad (tb := 101) hE hz
      have hL := hL.ad (tb := 101) hE hz
      have fr_ex : H.size ≤ q9 := Nat.le_trans hX.1 hz
      have hX := hX.tr hE
      have hc_ex : b_tt G B0 ((upT τ q9 101)) Hx1 q9 101 (.inr (19, [.null, .null, .null, .null, .null, .int (nI 0)])) := b_tt.mk hat hB
      refine lv_astore_n (lv' := [(1, .ref q9), (0, .ref da)]) hx hb dX6_reason_6 rfl hl (Nat.le_of_ble_eq_true rfl) rfl (fun ls hl => ?_)
      refine lv_aload_n hx hb dX6_reason_7 rfl (lv_at hl 0 rfl) ?_
      refine b_ci0 (cs_X6_24_19 (rest := []) CX hl.1 (m_X10_number l (a := q9) (ta := 101) hc_ex) rfl hc_ex.at hS rfl ⟨rfl, rfl, Nat.le_of_ble_eq_true rfl, Nat.le_of_ble_eq_true rfl⟩ (Nat.le_of_ble_eq_true rfl) dX6_reason_8 ⟨Nat.le_of_ble_eq_true rfl, Nat.le_of_ble_eq_true rfl⟩) hS (fun locs hS => ?_)
      rw [← hQ]
      exact vx_ret (b_iret CX hr hlk hS (Nat.le_of_ble_eq_true rfl) (Nat.le_of_ble_eq_true rfl) dX6_reason_11 (⟨(by first | exact hk_1.symm | exact hcd.symm), hX⟩))
    · obtain rfl := hnm9
      refine b_xcatch CX (E := "BottleLoop$NoMoney") (name := "BottleLoop$NoMoney") [⟨0, 5, 6, 18⟩, ⟨0, 5, 6, 20⟩] ⟨0, 5, 6, 22⟩ [⟨0, 5, 12, 25⟩] (by rw [htb]; rfl) (fun z hz9 => by rcases List.mem_cons.mp hz9 with rfl | h9; exact Or.inr ⟨by decide, "BottleLoop$NoBottles", q1194, by decide⟩; rcases List.mem_cons.mp h9 with rfl | h8; exact Or.inr ⟨by decide, "BottleLoop$NoCrates", q1195, by decide⟩; exact nomatch h8) (by decide) (by decide) q1196 (CX.nw q1261 rfl rfl) he9 ?_
      have hc_D := hc_D.ad (tb := 101) hE hz
      have hc_X := hc_X.ad (tb := 101) hE hz
      have hL := hL.ad (tb := 101) hE hz
      have fr_ex : H.size ≤ q9 := Nat.le_trans hX.1 hz
      have hX := hX.tr hE
      have hc_ex : b_tt G B0 ((upT τ q9 101)) Hx1 q9 101 (.inr (20, [.null, .null, .null, .null, .null, .int (nI 0)])) := b_tt.mk hat hB
      refine lv_astore_n (lv' := [(1, .ref q9), (0, .ref da)]) hx hb dX6_reason_6 rfl hl (Nat.le_of_ble_eq_true rfl) rfl (fun ls hl => ?_)
      refine lv_aload_n hx hb dX6_reason_7 rfl (lv_at hl 0 rfl) ?_
      refine b_ci0 (cs_X6_24_20 (rest := []) CX hl.1 (m_X11_number l (a := q9) (ta := 101) hc_ex) rfl hc_ex.at hS rfl ⟨rfl, rfl, Nat.le_of_ble_eq_true rfl, Nat.le_of_ble_eq_true rfl⟩ (Nat.le_of_ble_eq_true rfl) dX6_reason_8 ⟨Nat.le_of_ble_eq_true rfl, Nat.le_of_ble_eq_true rfl⟩) hS (fun locs hS => ?_)
      rw [← hQ]
      exact vx_ret (b_iret CX hr hlk hS (Nat.le_of_ble_eq_true rfl) (Nat.le_of_ble_eq_true rfl) dX6_reason_11 (⟨(by first | exact hk_1.symm | exact hcd.symm), hX⟩))
  refine lv_iconst (v := nI 0) hx hb dX6_reason_4 rfl ?_
  rw [← hQ]
  exact vx_ret (b_iret CX hr hlk hS (Nat.le_of_ble_eq_true rfl) (Nat.le_of_ble_eq_true rfl) dX6_reason_5 (⟨(by first | exact hk_1.symm | exact hcd.symm), hX⟩))
theorem cs_X1_144 {p : Program} {l : Launch} {e : Env} {R : Room} {s : State} {m : MethodId} {args : Array Value} {below : List Frame} {meth : Method} {c : Code} {H : Heap} {locs : List Loc} {cells slots : Nat} {cc : ByteArray} {pc nL a : Nat} {ls : Array Slot} {rest : List Value} {G : b_G} {B0 : Nat} (CX : b_Cx p s m args c cc nL RX1 G B0) (hls : ls.size = nL) {rm : Room} {mc ms : Nat} {As st0 : List Value} {Qc : Array Value → State → Outcome → State → Prop} (hM : Met l yX14_init (ws_ yX14_init cX14_init 5 (Option.none)) rm (b_Pc G B0 H (.ref a :: As)) Qc mc ms (b_A B0)) (hn : As.length = 4) (hS : va_S (b_A B0) s.heap H locs) (hst : st0 = As.reverse ++ .ref a :: rest) (hr : rm.cells = mc ∧ rm.slots = ms ∧ rm.frames + 1 ≤ R.frames ∧ 8 + (5 + 11) + rm.locals ≤ R.locals) (hw : (rest.map fun v => v.category).sum ≤ 8) (hdg : decode cc pc = .ok (.invokespecial 144, 3)) (hf : cells + mc ≤ R.cells ∧ slots + ms ≤ R.slots) : va_Run p l e R s m args below meth c H locs cells slots mc ms (F0 m pc ls st0) rest (Qc (Value.ref a :: As).toArray) (b_A B0) := va_runI CX.fix hM (cwI 4 CX.ts (lw_meth q1518) rfl hr.1 hr.2.1 (CX.ts _ q112) (CX.ts _ q1516) (CX.ts _ q1517) rfl (by decide +kernel) ⟨hr.2.2.1, hr.2.2.2⟩) ⟨b_blind G B0 H _, b_pre _ CX.K hS⟩ rfl hn hls hst (lv_room hw) hdg hf
set_option maxHeartbeats 2000000 in
set_option maxRecDepth 100000 in
theorem m_X1_taking (l : Launch) {G : b_G} {B0 : Nat} {H : Heap} {a : Nat} {b : Nat} {s_ : Nat} {w_ : Int32} : Met l yX1_taking (ws_ yX1_taking cX1_taking 4 (Option.some (Jvm.ClassFile.FieldType.object "BottleLoop$Deed"))) ({ frames := 3, cells := 1, slots := 5, locals := 65 } : Room) (b_Pc G B0 H [.ref a, .int (nI s_), .int (nI b), .int w_]) (b_Qq B0 (fun r H1 => ∃ q : Nat, r = some q ∧ b_Ext H H1 ∧ H.size ≤ q ∧ B0 ≤ q ∧ b_at G q (.inr (11, [.ref a, .int (nI b), .int (nI s_), .int w_, .ref a])) H1)) 1 5 (b_A B0) := by
  refine b_of (by decide) (Nat.le_of_ble_eq_true rfl) ?_
  intro p e s m below meth c CX hr hlk hnm hS ls hl
  have CX : b_Cx p s m _ c cX1_taking 4 RX1 G B0 := CX
  have hx := CX.hx
  have hb := CX.hb
  have hl : lv_has ls 4 [(0, .ref a), (1, .int (nI s_)), (2, .int (nI b)), (3, .int w_)] := hl
  generalize hQ : MQ below (b_Qq B0 (fun r H1 => ∃ q : Nat, r = some q ∧ b_Ext H H1 ∧ H.size ≤ q ∧ B0 ≤ q ∧ b_at G q (.inr (11, [.ref a, .int (nI b), .int (nI s_), .int w_, .ref a])) H1)) ([.ref a, .int (nI s_), .int (nI b), .int w_] : List Value).toArray s 1 5 (b_A B0) = Q
  have hX : b_Ext H H := b_Ext.rf
  obtain ⟨τ, -⟩ : ∃ τ : b_T, True := ⟨fun _ => 0, trivial⟩
  refine b_new CX in_X14 tyX14 tyX14_ok (ci := 11) rfl q1514 q1515 q112 (fs := [.null, .int (nI 0), .int (nI 0), .int (nI 0), .null]) (nofn_X14) hS (Nat.le_of_ble_eq_true rfl) (Nat.le_of_ble_eq_true rfl) dX1_taking_0 (fun q1 H1 hq hB hat hsz hE hS => ?_)
  have fr_dd : H.size ≤ q1 := by rw [hq]; exact hX.1
  have hX := hX.tr hE
  have hc_dd : b_tt G B0 ((upT τ q1 100)) H1 q1 100 (.inr (11, [.null, .int (nI 0), .int (nI 0), .int (nI 0), .null])) := b_tt.mk hat hB
  refine lv_dup hx hb dX1_taking_3 rfl ?_
  refine lv_aload_n hx hb dX1_taking_4 rfl (lv_at hl 0 rfl) ?_
  refine lv_iload_n hx hb dX1_taking_5 rfl (lv_at hl 2 rfl) ?_
  refine lv_iload_n hx hb dX1_taking_6 rfl (lv_at hl 1 rfl) ?_
  refine lv_iload_n hx hb dX1_taking_7 rfl (lv_at hl 3 rfl) ?_
  refine b_cv (cs_X1_144 (rest := [.ref q1]) CX hl.1 (m_X14_init l (a := q1) (ta := 100) (ax := a) (b := b) (s_ := s_) (w_ := w_) hc_dd) rfl hS rfl ⟨rfl, rfl, Nat.le_of_ble_eq_true rfl, Nat.le_of_ble_eq_true rfl⟩ (Nat.le_of_ble_eq_true rfl) dX1_taking_8 ⟨Nat.le_of_ble_eq_true rfl, Nat.le_of_ble_eq_true rfl⟩) hS (fun H2 locs hp hS => ?_)
  obtain ⟨hu, hx0⟩ := hp
  have hX := hX.up hu fr_dd
  have hc_dd : b_tt G B0 ((upT τ q1 100)) H2 q1 100 (.inr (11, [.ref a, .int (nI b), .int (nI s_), .int w_, .ref a])) := hx0
  rw [← hQ]
  exact b_aret (v := some q1) CX hr (Or.inl ⟨_, rfl⟩) hlk hS (Nat.le_of_ble_eq_true rfl) (Nat.le_of_ble_eq_true rfl) dX1_taking_11 (⟨_, rfl, hX, fr_dd, hc_dd.B, hc_dd.at⟩)
theorem pa_X6_3_12 {p : Program} {l : Launch} {e : Env} {R : Room} {s : State} {m : MethodId} {args : Array Value} {below : List Frame} {meth : Method} {c : Code} {H : Heap} {locs : List Loc} {cells slots : Nat} {Q : State → Prop} {cc : ByteArray} {pc nL a : Nat} {ls : Array Slot} {rest : List Value} {G : b_G} {B0 : Nat} (CX : b_Cx p s m args c cc nL RX6 G B0) (hin2 : meth.name = "<init>") {fs : List Value} (hP : b_at G a (.inr (12, fs)) H) (hS : va_S (b_A B0) s.heap H locs) (ha : B0 ≤ a) {v : Value} (hn : narrow (tyX15 0) v = v) (hfit : fits (tyX15 0) v = true) (hl : 0 < fs.length) (hl2 : 4 < fs.length) (hdg : decode cc pc = .ok (.putfield 3, 3)) (kk : ∀ (w : Value) (H1 : Heap) (locs1 : List Loc), (w = v ∨ fs[4]? = some w) → b_at G a (.inr (12, (fs.set 0 v).set 4 w)) H1 → b_Up a H H1 → va_S (b_A B0) s.heap H1 locs1 → W p l e R s m args below meth c H1 locs1 cells slots Q (F0 m (pc + 3) ls rest)) : W p l e R s m args below meth c H locs cells slots Q (F0 m pc ls (v :: .ref a :: rest)) := b_putFA CX in_X15 tyX15 tyX15_ok rfl 0 4 (by decide) (by decide +kernel) q1165 (Or.inl rfl) rfl hin2 rfl hP hS ha hn hfit hl hl2 (by decide) hdg kk
set_option maxHeartbeats 2000000 in
set_option maxRecDepth 100000 in
theorem m_X6_init_12 (l : Launch) {G : b_G} {B0 : Nat} {H : Heap} {τ : b_T} {a : Nat} {ta : Nat} {ax : Nat} {u0 : Value} {u1 : Value} {u2 : Value} {u3 : Value} (hc_th : b_tt G B0 τ H a (ta) (.inr (12, [u0, u1, u2, u3, .ref ax]))) : Met l yX6_init (ws_ yX6_init cX6_init 2 (Option.none)) ({ frames := 1, cells := 0, slots := 0, locals := 20 } : Room) (b_Pc G B0 H [.ref a, .ref ax]) (b_Qv B0 (fun H1 => b_Up a H H1 ∧ b_tt G B0 τ H1 a (ta) (.inr (12, [.ref ax, u1, u2, u3, .ref ax])))) 0 0 (b_A B0) := by
  refine b_of (by decide) (Nat.le_of_ble_eq_true rfl) ?_
  intro p e s m below meth c CX hr hlk hnm hS ls hl
  have CX : b_Cx p s m _ c cX6_init 2 RX6 G B0 := CX
  have hx := CX.hx
  have hb := CX.hb
  have hl : lv_has ls 2 [(0, .ref a), (1, .ref ax)] := hl
  generalize hQ : MQ below (b_Qv B0 (fun H1 => b_Up a H H1 ∧ b_tt G B0 τ H1 a (ta) (.inr (12, [.ref ax, u1, u2, u3, .ref ax])))) ([.ref a, .ref ax] : List Value).toArray s 0 0 (b_A B0) = Q
  have hU : b_Up a H H := b_Up.rf
  refine lv_aload_n hx hb dX6_init_0 rfl (lv_at hl 0 rfl) ?_
  refine lv_aload_n hx hb dX6_init_1 rfl (lv_at hl 1 rfl) ?_
  refine pa_X6_3_12 CX hnm hc_th.at hS hc_th.B rfl rfl (Nat.le_of_ble_eq_true rfl) (Nat.le_of_ble_eq_true rfl) dX6_init_2 (fun w1 H1 locs hw hat hu hS => ?_)
  obtain rfl := hw.elim (fun h9 => h9) (fun h9 => (Option.some.inj h9).symm)
  have hU := hU.tr hu
  have hc_th : b_tt G B0 τ H1 a (ta) (.inr (12, [.ref ax, u1, u2, u3, .ref ax])) := hc_th.set hat
  refine lv_aload_n hx hb dX6_init_5 rfl (lv_at hl 0 rfl) ?_
  refine W.objInit hx hb CX.ow (CX.ts _ q1161) (CX.ts _ q132) (CX.ts _ q133) rfl (by rw [CX.ml]; exact hl.1) rfl dX6_init_6 (Nat.le_of_ble_eq_true rfl) (Nat.le_of_ble_eq_true rfl) ?_
  refine W.eq (g2 := F0 m 9 ls []) rfl ?_
  rw [← hQ]
  exact b_vret CX hr hlk hS (Nat.le_of_ble_eq_true rfl) (Nat.le_of_ble_eq_true rfl) dX6_init_9 (⟨hU, hc_th⟩)
theorem pa_X15_1_12 {p : Program} {l : Launch} {e : Env} {R : Room} {s : State} {m : MethodId} {args : Array Value} {below : List Frame} {meth : Method} {c : Code} {H : Heap} {locs : List Loc} {cells slots : Nat} {Q : State → Prop} {cc : ByteArray} {pc nL a : Nat} {ls : Array Slot} {rest : List Value} {G : b_G} {B0 : Nat} (CX : b_Cx p s m args c cc nL RX15 G B0) (hin2 : meth.name = "<init>") {fs : List Value} (hP : b_at G a (.inr (12, fs)) H) (hS : va_S (b_A B0) s.heap H locs) (ha : B0 ≤ a) {v : Value} (hn : narrow (tyX15 4) v = v) (hfit : fits (tyX15 4) v = true) (hl : 4 < fs.length) (hl2 : 0 < fs.length) (hdg : decode cc pc = .ok (.putfield 1, 3)) (kk : ∀ (w : Value) (H1 : Heap) (locs1 : List Loc), (w = v ∨ fs[0]? = some w) → b_at G a (.inr (12, (fs.set 4 v).set 0 w)) H1 → b_Up a H H1 → va_S (b_A B0) s.heap H1 locs1 → W p l e R s m args below meth c H1 locs1 cells slots Q (F0 m (pc + 3) ls rest)) : W p l e R s m args below meth c H locs cells slots Q (F0 m pc ls (v :: .ref a :: rest)) := b_putFA CX in_X15 tyX15 tyX15_ok rfl 4 0 (by decide) (by decide +kernel) q1554 (Or.inl rfl) rfl hin2 rfl hP hS ha hn hfit hl hl2 (by decide) hdg kk
theorem pf_X15_7_12 {p : Program} {l : Launch} {e : Env} {R : Room} {s : State} {m : MethodId} {args : Array Value} {below : List Frame} {meth : Method} {c : Code} {H : Heap} {locs : List Loc} {cells slots : Nat} {Q : State → Prop} {cc : ByteArray} {pc nL a : Nat} {ls : Array Slot} {rest : List Value} {G : b_G} {B0 : Nat} (CX : b_Cx p s m args c cc nL RX15 G B0) (hin2 : meth.name = "<init>") {fs : List Value} (hP : b_at G a (.inr (12, fs)) H) (hS : va_S (b_A B0) s.heap H locs) (ha : B0 ≤ a) {v : Value} (hn : narrow (tyX15 1) v = v) (hfit : fits (tyX15 1) v = true) (hl : 1 < fs.length) (hdg : decode cc pc = .ok (.putfield 7, 3)) (kk : ∀ (H1 : Heap) (locs1 : List Loc), b_at G a (.inr (12, fs.set 1 v)) H1 → b_Up a H H1 → va_S (b_A B0) s.heap H1 locs1 → W p l e R s m args below meth c H1 locs1 cells slots Q (F0 m (pc + 3) ls rest)) : W p l e R s m args below meth c H locs cells slots Q (F0 m pc ls (v :: .ref a :: rest)) := b_putF CX in_X15 tyX15 tyX15_ok rfl 1 (by decide) (by decide +kernel) q1551 (Or.inl rfl) rfl hin2 rfl hP hS ha hn hfit hl hdg kk
theorem pf_X15_11_12 {p : Program} {l : Launch} {e : Env} {R : Room} {s : State} {m : MethodId} {args : Array Value} {below : List Frame} {meth : Method} {c : Code} {H : Heap} {locs : List Loc} {cells slots : Nat} {Q : State → Prop} {cc : ByteArray} {pc nL a : Nat} {ls : Array Slot} {rest : List Value} {G : b_G} {B0 : Nat} (CX : b_Cx p s m args c cc nL RX15 G B0) (hin2 : meth.name = "<init>") {fs : List Value} (hP : b_at G a (.inr (12, fs)) H) (hS : va_S (b_A B0) s.heap H locs) (ha : B0 ≤ a) {v : Value} (hn : narrow (tyX15 2) v = v) (hfit : fits (tyX15 2) v = true) (hl : 2 < fs.length) (hdg : decode cc pc = .ok (.putfield 11, 3)) (kk : ∀ (H1 : Heap) (locs1 : List Loc), b_at G a (.inr (12, fs.set 2 v)) H1 → b_Up a H H1 → va_S (b_A B0) s.heap H1 locs1 → W p l e R s m args below meth c H1 locs1 cells slots Q (F0 m (pc + 3) ls rest)) : W p l e R s m args below meth c H locs cells slots Q (F0 m pc ls (v :: .ref a :: rest)) := b_putF CX in_X15 tyX15 tyX15_ok rfl 2 (by decide) (by decide +kernel) q1552 (Or.inl rfl) rfl hin2 rfl hP hS ha hn hfit hl hdg kk
theorem pf_X15_14_12 {p : Program} {l : Launch} {e : Env} {R : Room} {s : State} {m : MethodId} {args : Array Value} {below : List Frame} {meth : Method} {c : Code} {H : Heap} {locs : List Loc} {cells slots : Nat} {Q : State → Prop} {cc : ByteArray} {pc nL a : Nat} {ls : Array Slot} {rest : List Value} {G : b_G} {B0 : Nat} (CX : b_Cx p s m args c cc nL RX15 G B0) (hin2 : meth.name = "<init>") {fs : List Value} (hP : b_at G a (.inr (12, fs)) H) (hS : va_S (b_A B0) s.heap H locs) (ha : B0 ≤ a) {v : Value} (hn : narrow (tyX15 3) v = v) (hfit : fits (tyX15 3) v = true) (hl : 3 < fs.length) (hdg : decode cc pc = .ok (.putfield 14, 3)) (kk : ∀ (H1 : Heap) (locs1 : List Loc), b_at G a (.inr (12, fs.set 3 v)) H1 → b_Up a H H1 → va_S (b_A B0) s.heap H1 locs1 → W p l e R s m args below meth c H1 locs1 cells slots Q (F0 m (pc + 3) ls rest)) : W p l e R s m args below meth c H locs cells slots Q (F0 m pc ls (v :: .ref a :: rest)) := b_putF CX in_X15 tyX15 tyX15_ok rfl 3 (by decide) (by decide +kernel) q1553 (Or.inl rfl) rfl hin2 rfl hP hS ha hn hfit hl hdg kk
theorem cs_X15_17 {p : Program} {l : Launch} {e : Env} {R : Room} {s : State} {m : MethodId} {args : Array Value} {below : List Frame} {meth : Method} {c : Code} {H : Heap} {locs : List Loc} {cells slots : Nat} {cc : ByteArray} {pc nL a : Nat} {ls : Array Slot} {rest : List Value} {G : b_G} {B0 : Nat} (CX : b_Cx p s m args c cc nL RX15 G B0) (hls : ls.size = nL) {rm : Room} {mc ms : Nat} {As st0 : List Value} {Qc : Array Value → State → Outcome → State → Prop} (hM : Met l yX6_init (ws_ yX6_init cX6_init 2 (Option.none)) rm (b_Pc G B0 H (.ref a :: As)) Qc mc ms (b_A B0)) (hn : As.length = 1) (hS : va_S (b_A B0) s.heap H locs) (hst : st0 = As.reverse ++ .ref a :: rest) (hr : rm.cells = mc ∧ rm.slots = ms ∧ rm.frames + 1 ≤ R.frames ∧ 8 + (2 + 11) + rm.locals ≤ R.locals) (hw : (rest.map fun v => v.category).sum ≤ 8) (hdg : decode cc pc = .ok (.invokespecial 17, 3)) (hf : cells + mc ≤ R.cells ∧ slots + ms ≤ R.slots) : va_Run p l e R s m args below meth c H locs cells slots mc ms (F0 m pc ls st0) rest (Qc (Value.ref a :: As).toArray) (b_A B0) := va_runIN CX.fix hM (⟨va_cnB 1 CX.ts (lw_meth q1160) rfl hr.1 hr.2.1 (CX.K.2.1 _ q1550 rfl) (CX.ts _ q104) (by decide +kernel) ⟨hr.2.2.1, hr.2.2.2⟩, rfl, CX.ts _ q1159⟩) ⟨b_blind G B0 H _, b_pre _ CX.K hS⟩ rfl hn hls hst (lv_room hw) hdg hf
set_option maxHeartbeats 2000000 in
set_option maxRecDepth 100000 in
theorem m_X15_init (l : Launch) {G : b_G} {B0 : Nat} {H : Heap} {τ : b_T} {a : Nat} {ta : Nat} {ax : Nat} {b : Nat} {s_ : Nat} {w_ : Int32} (hc_th : b_tt G B0 τ H a (ta) (.inr (12, [.null, .int (nI 0), .int (nI 0), .int (nI 0), .null]))) : Met l yX15_init (ws_ yX15_init cX15_init 5 (Option.none)) ({ frames := 2, cells := 0, slots := 0, locals := 41 } : Room) (b_Pc G B0 H [.ref a, .ref ax, .int (nI b), .int (nI s_), .int w_]) (b_Qv B0 (fun H1 => b_Up a H H1 ∧ b_tt G B0 τ H1 a (ta) (.inr (12, [.ref ax, .int (nI b), .int (nI s_), .int w_, .ref ax])))) 0 0 (b_A B0) := by
  refine b_of (by decide) (Nat.le_of_ble_eq_true rfl) ?_
  intro p e s m below meth c CX hr hlk hnm hS ls hl
  have CX : b_Cx p s m _ c cX15_init 5 RX15 G B0 := CX
  have hx := CX.hx
  have hb := CX.hb
  have hl : lv_has ls 5 [(0, .ref a), (1, .ref ax), (2, .int (nI b)), (3, .int (nI s_)), (4, .int w_)] := hl
  generalize hQ : MQ below (b_Qv B0 (fun H1 => b_Up a H H1 ∧ b_tt G B0 τ H1 a (ta) (.inr (12, [.ref ax, .int (nI b), .int (nI s_), .int w_, .ref ax])))) ([.ref a, .ref ax, .int (nI b), .int (nI s_), .int w_] : List Value).toArray s 0 0 (b_A B0) = Q
  have hU : b_Up a H H := b_Up.rf
  refine lv_aload_n hx hb dX15_init_0 rfl (lv_at hl 0 rfl) ?_
  refine lv_aload_n hx hb dX15_init_1 rfl (lv_at hl 1 rfl) ?_
  refine pa_X15_1_12 CX hnm hc_th.at hS hc_th.B rfl rfl (Nat.le_of_ble_eq_true rfl) (Nat.le_of_ble_eq_true rfl) dX15_init_2 (fun w1 H1 locs hw hat hu hS => ?_)
  have hU := hU.tr hu
  have hc_th : b_tt G B0 τ H1 a (ta) (.inr (12, [w1, .int (nI 0), .int (nI 0), .int (nI 0), .ref ax])) := hc_th.set hat
  refine lv_aload_n hx hb dX15_init_5 rfl (lv_at hl 0 rfl) ?_
  refine lv_iload_n hx hb dX15_init_6 rfl (lv_at hl 2 rfl) ?_
  refine pf_X15_7_12 CX hnm hc_th.at hS hc_th.B rfl rfl (Nat.le_of_ble_eq_true rfl) dX15_init_7 (fun H2 locs hat hu hS => ?_)
  have hU := hU.tr hu
  have hc_th : b_tt G B0 τ H2 a (ta) (.inr (12, [w1, .int (nI b), .int (nI 0), .int (nI 0), .ref ax])) := hc_th.set hat
  refine lv_aload_n hx hb dX15_init_10 rfl (lv_at hl 0 rfl) ?_
  refine lv_iload_n hx hb dX15_init_11 rfl (lv_at hl 3 rfl) ?_
  refine pf_X15_11_12 CX hnm hc_th.at hS hc_th.B rfl rfl (Nat.le_of_ble_eq_true rfl) dX15_init_12 (fun H3 locs hat hu hS => ?_)
  have hU := hU.tr hu
  have hc_th : b_tt G B0 τ H3 a (ta) (.inr (12, [w1, .int (nI b), .int (nI s_), .int (nI 0), .ref ax])) := hc_th.set hat
  refine lv_aload_n hx hb dX15_init_15 rfl (lv_at hl 0 rfl) ?_
  refine lv_iload hx hb dX15_init_16 (lv_at hl 4 rfl) ?_
  refine pf_X15_14_12 CX hnm hc_th.at hS hc_th.B rfl rfl (Nat.le_of_ble_eq_true rfl) dX15_init_18 (fun H4 locs hat hu hS => ?_)
  have hU := hU.tr hu
  have hc_th : b_tt G B0 τ H4 a (ta) (.inr (12, [w1, .int (nI b), .int (nI s_), .int w_, .ref ax])) := hc_th.set hat
  refine lv_aload_n hx hb dX15_init_21 rfl (lv_at hl 0 rfl) ?_
  refine lv_aload_n hx hb dX15_init_22 rfl (lv_at hl 1 rfl) ?_
  refine b_cv (cs_X15_17 (rest := []) CX hl.1 (m_X6_init_12 l (a := a) (ta := ta) (u0 := w1) (u1 := .int (nI b)) (u2 := .int (nI s_)) (u3 := .int w_) (ax := ax) hc_th) rfl hS rfl ⟨rfl, rfl, Nat.le_of_ble_eq_true rfl, Nat.le_of_ble_eq_true rfl⟩ (Nat.le_of_ble_eq_true rfl) dX15_init_23 ⟨Nat.le_of_ble_eq_true rfl, Nat.le_of_ble_eq_true rfl⟩) hS (fun H5 locs hp hS => ?_)
  obtain ⟨hu, hx0⟩ := hp
  have hU := hU.tr hu
  have hc_th : b_tt G B0 τ H5 a (ta) (.inr (12, [.ref ax, (.int (nI b)), (.int (nI s_)), (.int w_), .ref ax])) := hx0
  rw [← hQ]
  exact b_vret CX hr hlk hS (Nat.le_of_ble_eq_true rfl) (Nat.le_of_ble_eq_true rfl) dX15_init_26 (⟨hU, hc_th⟩)
theorem gf_X15_1_12 {p : Program} {l : Launch} {e : Env} {R : Room} {s : State} {m : MethodId} {args : Array Value} {below : List Frame} {meth : Method} {c : Code} {H : Heap} {locs : List Loc} {cells slots : Nat} {Q : State → Prop} {cc : ByteArray} {pc nL a : Nat} {ls : Array Slot} {rest : List Value} {G : b_G} {B0 : Nat} (CX : b_Cx p s m args c cc nL RX15 G B0) {fs : List Value} (hP : b_at G a (.inr (12, fs)) H) {v : Value} (hv : fs[4]? = some v) (hdg : decode cc pc = .ok (.getfield 1, 3)) (kk : W p l e R s m args below meth c H locs cells slots Q (F0 m (pc + 3) ls (v :: rest))) : W p l e R s m args below meth c H locs cells slots Q (F0 m pc ls (.ref a :: rest)) := b_get CX in_X15 rfl 4 (by decide) q1554 (Or.inl rfl) hP hv hdg kk
theorem gf_X15_23_0 {p : Program} {l : Launch} {e : Env} {R : Room} {s : State} {m : MethodId} {args : Array Value} {below : List Frame} {meth : Method} {c : Code} {H : Heap} {locs : List Loc} {cells slots : Nat} {Q : State → Prop} {cc : ByteArray} {pc nL a : Nat} {ls : Array Slot} {rest : List Value} {G : b_G} {B0 : Nat} (CX : b_Cx p s m args c cc nL RX15 G B0) {fs : List Value} (hP : b_at G a (.inr (0, fs)) H) {v : Value} (hv : fs[0]? = some v) (hdg : decode cc pc = .ok (.getfield 23, 3)) (kk : W p l e R s m args below meth c H locs cells slots Q (F0 m (pc + 3) ls (v :: rest))) : W p l e R s m args below meth c H locs cells slots Q (F0 m pc ls (.ref a :: rest)) := b_getN CX in_X1 rfl 0 (by decide) q251 (Or.inl rfl) hP hv hdg kk
theorem gf_X15_7_12 {p : Program} {l : Launch} {e : Env} {R : Room} {s : State} {m : MethodId} {args : Array Value} {below : List Frame} {meth : Method} {c : Code} {H : Heap} {locs : List Loc} {cells slots : Nat} {Q : State → Prop} {cc : ByteArray} {pc nL a : Nat} {ls : Array Slot} {rest : List Value} {G : b_G} {B0 : Nat} (CX : b_Cx p s m args c cc nL RX15 G B0) {fs : List Value} (hP : b_at G a (.inr (12, fs)) H) {v : Value} (hv : fs[1]? = some v) (hdg : decode cc pc = .ok (.getfield 7, 3)) (kk : W p l e R s m args below meth c H locs cells slots Q (F0 m (pc + 3) ls (v :: rest))) : W p l e R s m args below meth c H locs cells slots Q (F0 m pc ls (.ref a :: rest)) := b_get CX in_X15 rfl 1 (by decide) q1551 (Or.inl rfl) hP hv hdg kk
theorem gf_X15_29_1 {p : Program} {l : Launch} {e : Env} {R : Room} {s : State} {m : MethodId} {args : Array Value} {below : List Frame} {meth : Method} {c : Code} {H : Heap} {locs : List Loc} {cells slots : Nat} {Q : State → Prop} {cc : ByteArray} {pc nL a : Nat} {ls : Array Slot} {rest : List Value} {G : b_G} {B0 : Nat} (CX : b_Cx p s m args c cc nL RX15 G B0) {fs : List Value} (hP : b_at G a (.inr (1, fs)) H) {v : Value} (hv : fs[1]? = some v) (hdg : decode cc pc = .ok (.getfield 29, 3)) (kk : W p l e R s m args below meth c H locs cells slots Q (F0 m (pc + 3) ls (v :: rest))) : W p l e R s m args below meth c H locs cells slots Q (F0 m pc ls (.ref a :: rest)) := b_getN CX in_X2 rfl 1 (by decide) q178 (Or.inl rfl) hP hv hdg kk
theorem gf_X15_11_12 {p : Program} {l : Launch} {e : Env} {R : Room} {s : State} {m : MethodId} {args : Array Value} {below : List Frame} {meth : Method} {c : Code} {H : Heap} {locs : List Loc} {cells slots : Nat} {Q : State → Prop} {cc : ByteArray} {pc nL a : Nat} {ls : Array Slot} {rest : List Value} {G : b_G} {B0 : Nat} (CX : b_Cx p s m args c cc nL RX15 G B0) {fs : List Value} (hP : b_at G a (.inr (12, fs)) H) {v : Value} (hv : fs[2]? = some v) (hdg : decode cc pc = .ok (.getfield 11, 3)) (kk : W p l e R s m args below meth c H locs cells slots Q (F0 m (pc + 3) ls (v :: rest))) : W p l e R s m args below meth c H locs cells slots Q (F0 m pc ls (.ref a :: rest)) := b_get CX in_X15 rfl 2 (by decide) q1552 (Or.inl rfl) hP hv hdg kk
theorem cs_X15_35 {p : Program} {l : Launch} {e : Env} {R : Room} {s : State} {m : MethodId} {args : Array Value} {below : List Frame} {meth : Method} {c : Code} {H : Heap} {locs : List Loc} {cells slots : Nat} {cc : ByteArray} {pc nL a : Nat} {ls : Array Slot} {rest : List Value} {G : b_G} {B0 : Nat} (CX : b_Cx p s m args c cc nL RX15 G B0) (hls : ls.size = nL) {rm : Room} {mc ms : Nat} {As st0 : List Value} {Qc : Array Value → State → Outcome → State → Prop} (hM : Met l yJ2_get (ws_ yJ2_get cJ2_get 2 (Option.some (Jvm.ClassFile.FieldType.object "java/lang/Object"))) rm (b_Pc G B0 H (.ref a :: As)) Qc mc ms (b_A B0)) (hn : As.length = 1) {fs : List Value} {ci : Nat} {qc : vw_C} (hc : b_cl[ci]? = some qc) (hq : qc.1 = RJ2) (hP : b_at G a (.inr (ci, fs)) H) (hS : va_S (b_A B0) s.heap H locs) (hst : st0 = As.reverse ++ .ref a :: rest) (hr : rm.cells = mc ∧ rm.slots = ms ∧ rm.frames + 1 ≤ R.frames ∧ 8 + (2 + 11) + rm.locals ≤ R.locals) (hw : (rest.map fun v => v.category).sum ≤ 8) (hdg : decode cc pc = .ok (.invokevirtual 35, 3)) (hf : cells + mc ≤ R.cells ∧ slots + ms ≤ R.slots) : va_Run p l e R s m args below meth c H locs cells slots mc ms (F0 m pc ls st0) rest (Qc (Value.ref a :: As).toArray) (b_A B0) := va_runV CX.fix hM (cwV 1 CX.ts (lw_V q1295 q796 q797 q83 q798) rfl hr.1 hr.2.1 (by decide +kernel) ⟨hr.2.2.1, hr.2.2.2⟩) ⟨b_blind G B0 H _, by have h9 := b_recv CX.K hc hP; rw [hq] at h9; exact h9, b_pre _ CX.K hS⟩ rfl hn hls hst (lv_room hw) hdg hf
theorem gf_X15_14_12 {p : Program} {l : Launch} {e : Env} {R : Room} {s : State} {m : MethodId} {args : Array Value} {below : List Frame} {meth : Method} {c : Code} {H : Heap} {locs : List Loc} {cells slots : Nat} {Q : State → Prop} {cc : ByteArray} {pc nL a : Nat} {ls : Array Slot} {rest : List Value} {G : b_G} {B0 : Nat} (CX : b_Cx p s m args c cc nL RX15 G B0) {fs : List Value} (hP : b_at G a (.inr (12, fs)) H) {v : Value} (hv : fs[3]? = some v) (hdg : decode cc pc = .ok (.getfield 14, 3)) (kk : W p l e R s m args below meth c H locs cells slots Q (F0 m (pc + 3) ls (v :: rest))) : W p l e R s m args below meth c H locs cells slots Q (F0 m pc ls (.ref a :: rest)) := b_get CX in_X15 rfl 3 (by decide) q1553 (Or.inl rfl) hP hv hdg kk
theorem cx_X15_43 {p : Program} {l : Launch} {e : Env} {R : Room} {s : State} {m : MethodId} {args : Array Value} {below : List Frame} {meth : Method} {c : Code} {H : Heap} {locs : List Loc} {cells slots : Nat} {cc : ByteArray} {pc nL a : Nat} {ls : Array Slot} {rest : List Value} {G : b_G} {B0 : Nat} (CX : b_Cx p s m args c cc nL RX15 G B0) (hls : ls.size = nL) {rm : Room} {mc ms : Nat} {As st0 : List Value} {Qc : Array Value → State → Outcome → State → Prop} {XC : String → Addr → State → State → Prop} (hM : vx_Met l yX2_tryBreak (ws_ yX2_tryBreak cX2_tryBreak 4 (Option.none)) rm (b_Pc G B0 H (.ref a :: As)) Qc XC mc ms (b_A B0)) (hn : As.length = 3) {fs : List Value} {ci : Nat} {qc : vw_C} (hc : b_cl[ci]? = some qc) (hq : qc.1 = RX2) (hP : b_at G a (.inr (ci, fs)) H) (hS : va_S (b_A B0) s.heap H locs) (hst : st0 = As.reverse ++ .ref a :: rest) (hr : rm.cells = mc ∧ rm.slots = ms ∧ rm.frames + 1 ≤ R.frames ∧ 8 + (4 + 11) + rm.locals ≤ R.locals) (hw : (rest.map fun v => v.category).sum ≤ 8) (hdg : decode cc pc = .ok (.invokevirtual 43, 3)) (hf : cells + mc ≤ R.cells ∧ slots + ms ≤ R.slots) : vx_Run p l e R s m args below meth c H locs cells slots mc ms (F0 m pc ls st0) rest (Qc (Value.ref a :: As).toArray) XC (b_A B0) := vx_runV CX.fix hM (cwV 3 CX.ts (lw_V q1297 q1298 q1299 q80 q1300) rfl hr.1 hr.2.1 (by decide +kernel) ⟨hr.2.2.1, hr.2.2.2⟩) ⟨b_blind G B0 H _, by have h9 := b_recv CX.K hc hP; rw [hq] at h9; exact h9, b_pre _ CX.K hS⟩ rfl hn hls hst (lv_room hw) hdg hf
set_option maxHeartbeats 2000000 in
set_option maxRecDepth 100000 in
theorem m_X15_check (l : Launch) {G : b_G} {B0 : Nat} {H : Heap} {τ : b_T} {id : Nat} {F : Nat → Nat} {M : Nat → Int32} {E : Nat → Bool} {S : b_St} {Z : Nat → Nat → Int32} {da : Nat} {td : Nat} {a : Nat} {asv : Nat} {atx : Nat} {atk : Nat} {hs : Int64} {b : Nat} {s_ : Nat} {w_ : Int32} (hc_D : b_tt G B0 τ H da (td) (.inr (12, [.ref a, .int (nI b), .int (nI s_), .int w_, .ref a]))) (hc_X : b_tt G B0 τ H a 0 (.inr (0, [.ref ((F 0)), .ref asv, .ref atx, .ref atk, .long hs]))) (hL : LR G B0 τ id F M E H S Z) (hW : b_WF S) (hBb : b < nb S) (hSs_ : s_ < ns S) : vx_Met l yX15_check (ws_ yX15_check cX15_check 1 (Option.none)) ({ frames := 7, cells := 1, slots := 6, locals := 151 } : Room) (b_Pc G B0 H [.ref da]) (b_Qv B0 (fun H1 => ((a_break S s_ b w_) = nI 0) ∧ H1 = H)) (b_X B0 (fun E9 q9 H9 => e_px G B0 H (a_break S s_ b w_) E9 q9 H9)) 1 6 (b_A B0) := by
  refine b_ofX (by decide) (Nat.le_of_ble_eq_true rfl) ?_
  intro p e s m below meth c CX hr hlk htb hS ls hl
  have CX : b_Cx p s m _ c cX15_check 1 RX15 G B0 := CX
  have hx := CX.hx
  have hb := CX.hb
  have hl : lv_has ls 1 [(0, .ref da)] := hl
  generalize hQ : vx_MQ below (b_Qv B0 (fun H1 => ((a_break S s_ b w_) = nI 0) ∧ H1 = H)) (b_X B0 (fun E9 q9 H9 => e_px G B0 H (a_break S s_ b w_) E9 q9 H9)) ([.ref da] : List Value).toArray s 1 6 (b_A B0) = Q
  have hX : b_Ext H H := b_Ext.rf
  have hnb : nb S = nb S := rfl
  have hns : ns S = ns S := rfl
  have hn8 := hL.2.2.2.1
  have hn6 := hL.2.2.2.2
  refine lv_aload_n hx hb dX15_check_0 rfl (lv_at hl 0 rfl) ?_
  refine gf_X15_1_12 CX hc_D.at rfl dX15_check_1 ?_
  refine gf_X15_23_0 CX hc_X.at rfl dX15_check_4 ?_
  refine lv_aload_n hx hb dX15_check_7 rfl (lv_at hl 0 rfl) ?_
  refine gf_X15_7_12 CX hc_D.at rfl dX15_check_8 ?_
  refine lv_aload_n hx hb dX15_check_11 rfl (lv_at hl 0 rfl) ?_
  refine gf_X15_1_12 CX hc_D.at rfl dX15_check_12 ?_
  refine gf_X15_23_0 CX hc_X.at rfl dX15_check_15 ?_
  refine gf_X15_29_1 CX hL.loop.at rfl dX15_check_18 ?_
  refine lv_aload_n hx hb dX15_check_21 rfl (lv_at hl 0 rfl) ?_
  refine gf_X15_11_12 CX hc_D.at rfl dX15_check_22 ?_
  refine b_cq0 (cs_X15_35 (rest := [.int (nI b), .ref ((F 0))]) CX hl.1 (m_J2_get l (a := (F 3)) (ta := 1000 * id + 3) (mc := M 3) (ra := (F 4)) (tr := 1000 * id + 4) (f := (fun j => F (30 + j))) (n := ns S) (i := s_) (hL.alg3 hW (by omega)) (hL.arg4 (by omega)) (by omega) (by omega)) rfl rfl rfl (hL.alg3 hW (by omega)).at hS rfl ⟨rfl, rfl, Nat.le_of_ble_eq_true rfl, Nat.le_of_ble_eq_true rfl⟩ (Nat.le_of_ble_eq_true rfl) dX15_check_25 ⟨Nat.le_of_ble_eq_true rfl, Nat.le_of_ble_eq_true rfl⟩) hS (fun locs hS => ?_)
  refine b_cast CX (ci := 5) rfl (hL.shop (k := s_) (by omega)).at q1296 dX15_check_28 ?_
  refine lv_aload_n hx hb dX15_check_31 rfl (lv_at hl 0 rfl) ?_
  refine gf_X15_14_12 CX hc_D.at rfl dX15_check_32 ?_
  refine b_xv0 (cx_X15_43 (rest := []) CX hl.1 (m_X2_tryBreak l (b := b) (s_ := s_) (w_ := w_) hL hW (by omega) (by omega)) rfl rfl rfl hL.loop.at hS rfl ⟨rfl, rfl, Nat.le_of_ble_eq_true rfl, Nat.le_of_ble_eq_true rfl⟩ (Nat.le_of_ble_eq_true rfl) dX15_check_35 ⟨Nat.le_of_ble_eq_true rfl, Nat.le_of_ble_eq_true rfl⟩) hS (fun E9 q9 Hx1 locs hx9 hS he9 => ?_) (fun hk_35 locs hS => ?_)
  · rw [← hQ]
    exact b_xout htb hlk he9 hS (Nat.le_of_ble_eq_true rfl) (Nat.le_of_ble_eq_true rfl) (hx9)
  rw [← hQ]
  exact vx_ret (b_vret CX hr hlk hS (Nat.le_of_ble_eq_true rfl) (Nat.le_of_ble_eq_true rfl) dX15_check_38 (⟨(by exact hk_35), rfl⟩))
theorem cs_X15_47 {p : Program} {l : Launch} {e : Env} {R : Room} {s : State} {m : MethodId} {args : Array Value} {below : List Frame} {meth : Method} {c : Code} {H : Heap} {locs : List Loc} {cells slots : Nat} {cc : ByteArray} {pc nL a : Nat} {ls : Array Slot} {rest : List Value} {G : b_G} {B0 : Nat} (CX : b_Cx p s m args c cc nL RX15 G B0) (hls : ls.size = nL) {rm : Room} {mc ms : Nat} {As st0 : List Value} {Qc : Array Value → State → Outcome → State → Prop} (hM : Met l yX2_breaks (ws_ yX2_breaks cX2_breaks 6 (Option.some Jvm.ClassFile.FieldType.int)) rm (b_Pc G B0 H (.ref a :: As)) Qc mc ms (b_A B0)) (hn : As.length = 3) {fs : List Value} {ci : Nat} {qc : vw_C} (hc : b_cl[ci]? = some qc) (hq : qc.1 = RX2) (hP : b_at G a (.inr (ci, fs)) H) (hS : va_S (b_A B0) s.heap H locs) (hst : st0 = As.reverse ++ .ref a :: rest) (hr : rm.cells = mc ∧ rm.slots = ms ∧ rm.frames + 1 ≤ R.frames ∧ 8 + (6 + 11) + rm.locals ≤ R.locals) (hw : (rest.map fun v => v.category).sum ≤ 8) (hdg : decode cc pc = .ok (.invokevirtual 47, 3)) (hf : cells + mc ≤ R.cells ∧ slots + ms ≤ R.slots) : va_Run p l e R s m args below meth c H locs cells slots mc ms (F0 m pc ls st0) rest (Qc (Value.ref a :: As).toArray) (b_A B0) := va_runV CX.fix hM (cwV 3 CX.ts (lw_V q1390 q1391 q1392 q80 q1393) rfl hr.1 hr.2.1 (by decide +kernel) ⟨hr.2.2.1, hr.2.2.2⟩) ⟨b_blind G B0 H _, by have h9 := b_recv CX.K hc hP; rw [hq] at h9; exact h9, b_pre _ CX.K hS⟩ rfl hn hls hst (lv_room hw) hdg hf
set_option maxHeartbeats 2000000 in
set_option maxRecDepth 100000 in
theorem m_X15_does (l : Launch) {G : b_G} {B0 : Nat} {H : Heap} {τ : b_T} {id : Nat} {F : Nat → Nat} {M : Nat → Int32} {E : Nat → Bool} {S : b_St} {Z : Nat → Nat → Int32} {da : Nat} {td : Nat} {a : Nat} {asv : Nat} {atx : Nat} {atk : Nat} {hs : Int64} {b : Nat} {s_ : Nat} {w_ : Int32} (hc_D : b_tt G B0 τ H da (td) (.inr (12, [.ref a, .int (nI b), .int (nI s_), .int w_, .ref a]))) (hc_X : b_tt G B0 τ H a 0 (.inr (0, [.ref ((F 0)), .ref asv, .ref atx, .ref atk, .long hs]))) (hL : LR G B0 τ id F M E H S Z) (hW : b_WF S) (hBb : b < nb S) (hSs_ : s_ < ns S) (hi0 : 0 < id) (htd : td < 1000) : Met l yX15_does (ws_ yX15_does cX15_does 1 (Option.some Jvm.ClassFile.FieldType.int)) ({ frames := 4, cells := 0, slots := 0, locals := 89 } : Room) (b_Pc G B0 H [.ref da]) (b_Qi B0 (fun r H1 => r = p_paid S b w_ ∧ b_Fr τ (fun t => 1000 * id ≤ t ∧ t < 1000 * id + 1000) H H1 ∧ LR G B0 τ id F M E H1 ((s_break S s_ b w_)) Z)) 0 0 (b_A B0) := by
  refine b_of (by decide) (Nat.le_of_ble_eq_true rfl) ?_
  intro p e s m below meth c CX hr hlk hnm hS ls hl
  have CX : b_Cx p s m _ c cX15_does 1 RX15 G B0 := CX
  have hx := CX.hx
  have hb := CX.hb
  have hl : lv_has ls 1 [(0, .ref da)] := hl
  generalize hQ : MQ below (b_Qi B0 (fun r H1 => r = p_paid S b w_ ∧ b_Fr τ (fun t => 1000 * id ≤ t ∧ t < 1000 * id + 1000) H H1 ∧ LR G B0 τ id F M E H1 ((s_break S s_ b w_)) Z)) ([.ref da] : List Value).toArray s 0 0 (b_A B0) = Q
  have hF : b_Fr τ (fun t => 1000 * id ≤ t ∧ t < 1000 * id + 1000) H H := b_Fr.rf
  have hA : b_Ag τ τ H := b_Ag.rf
  have hnb : nb S = nb S := rfl
  have hns : ns S = ns S := rfl
  have hn8 := hL.2.2.2.1
  have hn6 := hL.2.2.2.2
  refine lv_aload_n hx hb dX15_does_0 rfl (lv_at hl 0 rfl) ?_
  refine gf_X15_1_12 CX hc_D.at rfl dX15_does_1 ?_
  refine gf_X15_23_0 CX hc_X.at rfl dX15_does_4 ?_
  refine lv_aload_n hx hb dX15_does_7 rfl (lv_at hl 0 rfl) ?_
  refine gf_X15_7_12 CX hc_D.at rfl dX15_does_8 ?_
  refine lv_aload_n hx hb dX15_does_11 rfl (lv_at hl 0 rfl) ?_
  refine gf_X15_1_12 CX hc_D.at rfl dX15_does_12 ?_
  refine gf_X15_23_0 CX hc_X.at rfl dX15_does_15 ?_
  refine gf_X15_29_1 CX hL.loop.at rfl dX15_does_18 ?_
  refine lv_aload_n hx hb dX15_does_21 rfl (lv_at hl 0 rfl) ?_
  refine gf_X15_11_12 CX hc_D.at rfl dX15_does_22 ?_
  refine b_cq0 (cs_X15_35 (rest := [.int (nI b), .ref ((F 0))]) CX hl.1 (m_J2_get l (a := (F 3)) (ta := 1000 * id + 3) (mc := M 3) (ra := (F 4)) (tr := 1000 * id + 4) (f := (fun j => F (30 + j))) (n := ns S) (i := s_) (hL.alg3 hW (by omega)) (hL.arg4 (by omega)) (by omega) (by omega)) rfl rfl rfl (hL.alg3 hW (by omega)).at hS rfl ⟨rfl, rfl, Nat.le_of_ble_eq_true rfl, Nat.le_of_ble_eq_true rfl⟩ (Nat.le_of_ble_eq_true rfl) dX15_does_25 ⟨Nat.le_of_ble_eq_true rfl, Nat.le_of_ble_eq_true rfl⟩) hS (fun locs hS => ?_)
  refine b_cast CX (ci := 5) rfl (hL.shop (k := s_) (by omega)).at q1296 dX15_does_28 ?_
  refine lv_aload_n hx hb dX15_does_31 rfl (lv_at hl 0 rfl) ?_
  refine gf_X15_14_12 CX hc_D.at rfl dX15_does_32 ?_
  refine b_ci (cs_X15_47 (rest := []) CX hl.1 (m_X2_breaks l (b := b) (s_ := s_) (n_ := w_) hL hW (by omega) (by omega)) rfl rfl rfl hL.loop.at hS rfl ⟨rfl, rfl, Nat.le_of_ble_eq_true rfl, Nat.le_of_ble_eq_true rfl⟩ (Nat.le_of_ble_eq_true rfl) dX15_does_35 ⟨Nat.le_of_ble_eq_true rfl, Nat.le_of_ble_eq_true rfl⟩) hS (fun r H1 locs hp hS => ?_)
  obtain ⟨rfl, hF9, hL9⟩ := hp
  have hc_D := hc_D.fr hF9 (show ¬ (1000 * id ≤ (td) ∧ (td) < 1000 * id + 1000) by omega)
  have hc_X := hc_X.fr hF9 (show ¬ (1000 * id ≤ 0 ∧ 0 < 1000 * id + 1000) by omega)
  have hF := hF.tr hA hF9 (fun q9 hq9 x9 => by have x8 : 1000 * id ≤ τ q9 ∧ τ q9 < 1000 * id + 1000 := x9; show 1000 * id ≤ τ q9 ∧ τ q9 < 1000 * id + 1000; omega)
  have hL : LR G B0 τ id F M E H1 ((s_break S s_ b w_)) Z := hL9
  rw [← hQ]
  exact b_iret CX hr hlk hS (Nat.le_of_ble_eq_true rfl) (Nat.le_of_ble_eq_true rfl) dX15_does_38 (⟨rfl, hF, hL⟩)
theorem cx_X6_15_12 {p : Program} {l : Launch} {e : Env} {R : Room} {s : State} {m : MethodId} {args : Array Value} {below : List Frame} {meth : Method} {c : Code} {H : Heap} {locs : List Loc} {cells slots : Nat} {cc : ByteArray} {pc nL a : Nat} {ls : Array Slot} {rest : List Value} {G : b_G} {B0 : Nat} (CX : b_Cx p s m args c cc nL RX6 G B0) (hls : ls.size = nL) {rm : Room} {mc ms : Nat} {As st0 : List Value} {Qc : Array Value → State → Outcome → State → Prop} {XC : String → Addr → State → State → Prop} (hM : vx_Met l yX15_check (ws_ yX15_check cX15_check 1 (Option.none)) rm (b_Pc G B0 H (.ref a :: As)) Qc XC mc ms (b_A B0)) (hn : As.length = 0) {fs : List Value} (hP : b_at G a (.inr (12, fs)) H) (hS : va_S (b_A B0) s.heap H locs) (hst : st0 = As.reverse ++ .ref a :: rest) (hr : rm.cells = mc ∧ rm.slots = ms ∧ rm.frames + 1 ≤ R.frames ∧ 8 + (1 + 11) + rm.locals ≤ R.locals) (hw : (rest.map fun v => v.category).sum ≤ 8) (hdg : decode cc pc = .ok (.invokevirtual 15, 3)) (hf : cells + mc ≤ R.cells ∧ slots + ms ≤ R.slots) : vx_Run p l e R s m args below meth c H locs cells slots mc ms (F0 m pc ls st0) rest (Qc (Value.ref a :: As).toArray) XC (b_A B0) := vx_runU CX.fix hM (va_cwA (C := RX15) (owner := RX6) 0 CX.ts (lw_U q1198 q1200 q1292 q1293 q113 q1294) rfl hr.1 hr.2.1 (CX.K.2.1 _ q1199 rfl) ⟨by decide, by decide, by decide +kernel⟩ ⟨hr.2.2.1, hr.2.2.2⟩) ⟨b_blind G B0 H _, b_recv CX.K (ci := 12) rfl hP, b_pre _ CX.K hS⟩ rfl hn hls hst (lv_room hw) hdg hf
set_option maxHeartbeats 2000000 in
set_option maxRecDepth 100000 in
theorem m_X6_reason_12 (l : Launch) {G : b_G} {B0 : Nat} {H : Heap} {τ : b_T} {id : Nat} {F : Nat → Nat} {M : Nat → Int32} {E : Nat → Bool} {S : b_St} {Z : Nat → Nat → Int32} {da : Nat} {td : Nat} {a : Nat} {asv : Nat} {atx : Nat} {atk : Nat} {hs : Int64} {b : Nat} {s_ : Nat} {w_ : Int32} (hc_D : b_tt G B0 τ H da (td) (.inr (12, [.ref a, .int (nI b), .int (nI s_), .int w_, .ref a]))) (hc_X : b_tt G B0 τ H a 0 (.inr (0, [.ref ((F 0)), .ref asv, .ref atx, .ref atk, .long hs]))) (hL : LR G B0 τ id F M E H S Z) (hW : b_WF S) (hBb : b < nb S) (hSs_ : s_ < ns S) : vx_Met l yX6_reason (wsW_ yX6_reason cX6_reason 2 (Option.some Jvm.ClassFile.FieldType.int) [((0 : Nat), (5 : Nat), (6 : Nat), (18 : Nat)), ((0 : Nat), (5 : Nat), (6 : Nat), (20 : Nat)), ((0 : Nat), (5 : Nat), (6 : Nat), (22 : Nat)), ((0 : Nat), (5 : Nat), (12 : Nat), (25 : Nat))]) ({ frames := 8, cells := 1, slots := 6, locals := 171 } : Room) (b_Pc G B0 H [.ref da]) (b_Qi B0 (fun r H1 => r = (a_break S s_ b w_) ∧ b_Ext H H1)) (b_X B0 (fun E9 q9 H9 => False)) 1 6 (b_A B0) := by
  refine b_ofXW (by decide) (Nat.le_of_ble_eq_true rfl) ?_
  intro p e s m below meth c CX hr hlk htb hS ls hl
  have CX : b_Cx p s m _ c cX6_reason 2 RX6 G B0 := CX
  have hx := CX.hx
  have hb := CX.hb
  have hl : lv_has ls 2 [(0, .ref da)] := hl
  generalize hQ : vx_MQ below (b_Qi B0 (fun r H1 => r = (a_break S s_ b w_) ∧ b_Ext H H1)) (b_X B0 (fun E9 q9 H9 => False)) ([.ref da] : List Value).toArray s 1 6 (b_A B0) = Q
  have hX : b_Ext H H := b_Ext.rf
  have hnb : nb S = nb S := rfl
  have hns : ns S = ns S := rfl
  have hn8 := hL.2.2.2.1
  have hn6 := hL.2.2.2.2
  refine lv_aload_n hx hb dX6_reason_0 rfl (lv_at hl 0 rfl) ?_
  refine b_xv0 (cx_X6_15_12 (rest := []) CX hl.1 (m_X15_check l (da := da) (td := td) (a := a) (asv := asv) (atx := atx) (atk := atk) (hs := hs) (b := b) (s_ := s_) (w_ := w_) hc_D hc_X hL hW (by omega) (by omega)) rfl hc_D.at hS rfl ⟨rfl, rfl, Nat.le_of_ble_eq_true rfl, Nat.le_of_ble_eq_true rfl⟩ (Nat.le_of_ble_eq_true rfl) dX6_reason_1 ⟨Nat.le_of_ble_eq_true rfl, Nat.le_of_ble_eq_true rfl⟩) hS (fun E9 q9 Hx1 locs hx9 hS he9 => ?_) (fun hk_1 locs hS => ?_)
  · obtain ⟨hE, hz, hB, v9, hv9, hcd, hnm9, hat⟩ := hx9
    rcases hv9 with rfl | rfl | rfl
    · obtain rfl := hnm9
      refine b_xcatch CX (E := "BottleLoop$NoBottles") (name := "BottleLoop$NoBottles") [] ⟨0, 5, 6, 18⟩ [⟨0, 5, 6, 20⟩, ⟨0, 5, 6, 22⟩, ⟨0, 5, 12, 25⟩] (by rw [htb]; rfl) (fun z hz9 => nomatch hz9) (by decide) (by decide) q1194 (CX.nw q1215 rfl rfl) he9 ?_
      have hc_D := hc_D.ad (tb := 101) hE hz
      have hc_X := hc_X.ad (tb := 101) hE hz
      have hL := hL.ad (tb := 101) hE hz
      have fr_ex : H.size ≤ q9 := Nat.le_trans hX.1 hz
      have hX := hX.tr hE
      have hc_ex : b_tt G B0 ((upT τ q9 101)) Hx1 q9 101 (.inr (18, [.null, .null, .null, .null, .null, .int (nI 0)])) := b_tt.mk hat hB
      refine lv_astore_n (lv' := [(1, .ref q9), (0, .ref da)]) hx hb dX6_reason_6 rfl hl (Nat.le_of_ble_eq_true rfl) rfl (fun ls hl => ?_)
      refine lv_aload_n hx hb dX6_reason_7 rfl (lv_at hl 0 rfl) ?_
      refine b_ci0 (cs_X6_24_18 (rest := []) CX hl.1 (m_X9_number l (a := q9) (ta := 101) hc_ex) rfl hc_ex.at hS rfl ⟨rfl, rfl, Nat.le_of_ble_eq_true rfl, Nat.le_of_ble_eq_true rfl⟩ (Nat.le_of_ble_eq_true rfl) dX6_reason_8 ⟨Nat.le_of_ble_eq_true rfl, Nat.le_of_ble_eq_true rfl⟩) hS (fun locs hS => ?_)
      rw [← hQ]
      exact vx_ret (b_iret CX hr hlk hS (Nat.le_of_ble_eq_true rfl) (Nat.le_of_ble_eq_true rfl) dX6_reason_11 (⟨(by first | exact hk_1.symm | exact hcd.symm), hX⟩))
    · obtain rfl := hnm9
      refine b_xcatch CX (E := "BottleLoop$NoCrates") (name := "BottleLoop$NoCrates") [⟨0, 5, 6, 18⟩] ⟨0, 5, 6, 20⟩ [⟨0, 5, 6, 22⟩, ⟨0, 5, 12, 25⟩] (by rw [htb]; rfl) (fun z hz9 => by rcases List.mem_cons.mp hz9 with rfl | h9; exact Or.inr ⟨by decide, "BottleLoop$NoBottles", q1194, by decide⟩; exact nomatch h9) (by decide) (by decide) q1195 (CX.nw q1242 rfl rfl) he9 ?_
      have hc_D := hc_D.ad (tb := 101) hE hz
      have hc_X := hc_X.ad (tb := 101) hE hz
      have hL := hL.ad (tb := 101) hE hz
      have fr_ex : H.size ≤ q9 := Nat.le_trans hX.1 hz
      have hX := hX.tr hE
      have hc_ex : b_tt G B0 ((upT τ q9 101)) Hx1 q9 101 (.inr (19, [.null, .null, .null, .null, .null, .int (nI 0)])) := b_tt.mk hat hB
      refine lv_astore_n (lv' := [(1, .ref q9), (0, .ref da)]) hx hb dX6_reason_6 rfl hl (Nat.le_of_ble_eq_true rfl) rfl (fun ls hl => ?_)
      refine lv_aload_n hx hb dX6_reason_7 rfl (lv_at hl 0 rfl) ?_
      refine b_ci0 (cs_X6_24_19 (rest := []) CX hl.1 (m_X10_number l (a := q9) (ta := 101) hc_ex) rfl hc_ex.at hS rfl ⟨rfl, rfl, Nat.le_of_ble_eq_true rfl, Nat.le_of_ble_eq_true rfl⟩ (Nat.le_of_ble_eq_true rfl) dX6_reason_8 ⟨Nat.le_of_ble_eq_true rfl, Nat.le_of_ble_eq_true rfl⟩) hS (fun locs hS => ?_)
      rw [← hQ]
      exact vx_ret (b_iret CX hr hlk hS (Nat.le_of_ble_eq_true rfl) (Nat.le_of_ble_eq_true rfl) dX6_reason_11 (⟨(by first | exact hk_1.symm | exact hcd.symm), hX⟩))
    · obtain rfl := hnm9
      refine b_xcatch CX (E := "BottleLoop$NoMoney") (name := "BottleLoop$NoMoney") [⟨0, 5, 6, 18⟩, ⟨0, 5, 6, 20⟩] ⟨0, 5, 6, 22⟩ [⟨0, 5, 12, 25⟩] (by rw [htb]; rfl) (fun z hz9 => by rcases List.mem_cons.mp hz9 with rfl | h9; exact Or.inr ⟨by decide, "BottleLoop$NoBottles", q1194, by decide⟩; rcases List.mem_cons.mp h9 with rfl | h8; exact Or.inr ⟨by decide, "BottleLoop$NoCrates", q1195, by decide⟩; exact nomatch h8) (by decide) (by decide) q1196 (CX.nw q1261 rfl rfl) he9 ?_
      have hc_D := hc_D.ad (tb := 101) hE hz
      have hc_X := hc_X.ad (tb := 101) hE hz
      have hL := hL.ad (tb := 101) hE hz
      have fr_ex : H.size ≤ q9 := Nat.le_trans hX.1 hz
      have hX := hX.tr hE
      have hc_ex : b_tt G B0 ((upT τ q9 101)) Hx1 q9 101 (.inr (20, [.null, .null, .null, .null, .null, .int (nI 0)])) := b_tt.mk hat hB
      refine lv_astore_n (lv' := [(1, .ref q9), (0, .ref da)]) hx hb dX6_reason_6 rfl hl (Nat.le_of_ble_eq_true rfl) rfl (fun ls hl => ?_)
      refine lv_aload_n hx hb dX6_reason_7 rfl (lv_at hl 0 rfl) ?_
      refine b_ci0 (cs_X6_24_20 (rest := []) CX hl.1 (m_X11_number l (a := q9) (ta := 101) hc_ex) rfl hc_ex.at hS rfl ⟨rfl, rfl, Nat.le_of_ble_eq_true rfl, Nat.le_of_ble_eq_true rfl⟩ (Nat.le_of_ble_eq_true rfl) dX6_reason_8 ⟨Nat.le_of_ble_eq_true rfl, Nat.le_of_ble_eq_true rfl⟩) hS (fun locs hS => ?_)
      rw [← hQ]
      exact vx_ret (b_iret CX hr hlk hS (Nat.le_of_ble_eq_true rfl) (Nat.le_of_ble_eq_true rfl) dX6_reason_11 (⟨(by first | exact hk_1.symm | exact hcd.symm), hX⟩))
  refine lv_iconst (v := nI 0) hx hb dX6_reason_4 rfl ?_
  rw [← hQ]
  exact vx_ret (b_iret CX hr hlk hS (Nat.le_of_ble_eq_true rfl) (Nat.le_of_ble_eq_true rfl) dX6_reason_5 (⟨(by first | exact hk_1.symm | exact hcd.symm), hX⟩))
theorem cs_X1_147 {p : Program} {l : Launch} {e : Env} {R : Room} {s : State} {m : MethodId} {args : Array Value} {below : List Frame} {meth : Method} {c : Code} {H : Heap} {locs : List Loc} {cells slots : Nat} {cc : ByteArray} {pc nL a : Nat} {ls : Array Slot} {rest : List Value} {G : b_G} {B0 : Nat} (CX : b_Cx p s m args c cc nL RX1 G B0) (hls : ls.size = nL) {rm : Room} {mc ms : Nat} {As st0 : List Value} {Qc : Array Value → State → Outcome → State → Prop} (hM : Met l yX15_init (ws_ yX15_init cX15_init 5 (Option.none)) rm (b_Pc G B0 H (.ref a :: As)) Qc mc ms (b_A B0)) (hn : As.length = 4) (hS : va_S (b_A B0) s.heap H locs) (hst : st0 = As.reverse ++ .ref a :: rest) (hr : rm.cells = mc ∧ rm.slots = ms ∧ rm.frames + 1 ≤ R.frames ∧ 8 + (5 + 11) + rm.locals ≤ R.locals) (hw : (rest.map fun v => v.category).sum ≤ 8) (hdg : decode cc pc = .ok (.invokespecial 147, 3)) (hf : cells + mc ≤ R.cells ∧ slots + ms ≤ R.slots) : va_Run p l e R s m args below meth c H locs cells slots mc ms (F0 m pc ls st0) rest (Qc (Value.ref a :: As).toArray) (b_A B0) := va_runI CX.fix hM (cwI 4 CX.ts (lw_meth q1549) rfl hr.1 hr.2.1 (CX.ts _ q113) (CX.ts _ q1547) (CX.ts _ q1548) rfl (by decide +kernel) ⟨hr.2.2.1, hr.2.2.2⟩) ⟨b_blind G B0 H _, b_pre _ CX.K hS⟩ rfl hn hls hst (lv_room hw) hdg hf
set_option maxHeartbeats 2000000 in
set_option maxRecDepth 100000 in
theorem m_X1_breaking (l : Launch) {G : b_G} {B0 : Nat} {H : Heap} {a : Nat} {b : Nat} {s_ : Nat} {w_ : Int32} : Met l yX1_breaking (ws_ yX1_breaking cX1_breaking 4 (Option.some (Jvm.ClassFile.FieldType.object "BottleLoop$Deed"))) ({ frames := 3, cells := 1, slots := 5, locals := 65 } : Room) (b_Pc G B0 H [.ref a, .int (nI s_), .int (nI b), .int w_]) (b_Qq B0 (fun r H1 => ∃ q : Nat, r = some q ∧ b_Ext H H1 ∧ H.size ≤ q ∧ B0 ≤ q ∧ b_at G q (.inr (12, [.ref a, .int (nI b), .int (nI s_), .int w_, .ref a])) H1)) 1 5 (b_A B0) := by
  refine b_of (by decide) (Nat.le_of_ble_eq_true rfl) ?_
  intro p e s m below meth c CX hr hlk hnm hS ls hl
  have CX : b_Cx p s m _ c cX1_breaking 4 RX1 G B0 := CX
  have hx := CX.hx
  have hb := CX.hb
  have hl : lv_has ls 4 [(0, .ref a), (1, .int (nI s_)), (2, .int (nI b)), (3, .int w_)] := hl
  generalize hQ : MQ below (b_Qq B0 (fun r H1 => ∃ q : Nat, r = some q ∧ b_Ext H H1 ∧ H.size ≤ q ∧ B0 ≤ q ∧ b_at G q (.inr (12, [.ref a, .int (nI b), .int (nI s_), .int w_, .ref a])) H1)) ([.ref a, .int (nI s_), .int (nI b), .int w_] : List Value).toArray s 1 5 (b_A B0) = Q
  have hX : b_Ext H H := b_Ext.rf
  obtain ⟨τ, -⟩ : ∃ τ : b_T, True := ⟨fun _ => 0, trivial⟩
  refine b_new CX in_X15 tyX15 tyX15_ok (ci := 12) rfl q1545 q1546 q113 (fs := [.null, .int (nI 0), .int (nI 0), .int (nI 0), .null]) (nofn_X15) hS (Nat.le_of_ble_eq_true rfl) (Nat.le_of_ble_eq_true rfl) dX1_breaking_0 (fun q1 H1 hq hB hat hsz hE hS => ?_)
  have fr_dd : H.size ≤ q1 := by rw [hq]; exact hX.1
  have hX := hX.tr hE
  have hc_dd : b_tt G B0 ((upT τ q1 100)) H1 q1 100 (.inr (12, [.null, .int (nI 0), .int (nI 0), .int (nI 0), .null])) := b_tt.mk hat hB
  refine lv_dup hx hb dX1_breaking_3 rfl ?_
  refine lv_aload_n hx hb dX1_breaking_4 rfl (lv_at hl 0 rfl) ?_
  refine lv_iload_n hx hb dX1_breaking_5 rfl (lv_at hl 2 rfl) ?_
  refine lv_iload_n hx hb dX1_breaking_6 rfl (lv_at hl 1 rfl) ?_
  refine lv_iload_n hx hb dX1_breaking_7 rfl (lv_at hl 3 rfl) ?_
  refine b_cv (cs_X1_147 (rest := [.ref q1]) CX hl.1 (m_X15_init l (a := q1) (ta := 100) (ax := a) (b := b) (s_ := s_) (w_ := w_) hc_dd) rfl hS rfl ⟨rfl, rfl, Nat.le_of_ble_eq_true rfl, Nat.le_of_ble_eq_true rfl⟩ (Nat.le_of_ble_eq_true rfl) dX1_breaking_8 ⟨Nat.le_of_ble_eq_true rfl, Nat.le_of_ble_eq_true rfl⟩) hS (fun H2 locs hp hS => ?_)
  obtain ⟨hu, hx0⟩ := hp
  have hX := hX.up hu fr_dd
  have hc_dd : b_tt G B0 ((upT τ q1 100)) H2 q1 100 (.inr (12, [.ref a, .int (nI b), .int (nI s_), .int w_, .ref a])) := hx0
  rw [← hQ]
  exact b_aret (v := some q1) CX hr (Or.inl ⟨_, rfl⟩) hlk hS (Nat.le_of_ble_eq_true rfl) (Nat.le_of_ble_eq_true rfl) dX1_breaking_11 (⟨_, rfl, hX, fr_dd, hc_dd.B, hc_dd.at⟩)
theorem pa_X6_3_13 {p : Program} {l : Launch} {e : Env} {R : Room} {s : State} {m : MethodId} {args : Array Value} {below : List Frame} {meth : Method} {c : Code} {H : Heap} {locs : List Loc} {cells slots : Nat} {Q : State → Prop} {cc : ByteArray} {pc nL a : Nat} {ls : Array Slot} {rest : List Value} {G : b_G} {B0 : Nat} (CX : b_Cx p s m args c cc nL RX6 G B0) (hin2 : meth.name = "<init>") {fs : List Value} (hP : b_at G a (.inr (13, fs)) H) (hS : va_S (b_A B0) s.heap H locs) (ha : B0 ≤ a) {v : Value} (hn : narrow (tyX17 0) v = v) (hfit : fits (tyX17 0) v = true) (hl : 0 < fs.length) (hl2 : 4 < fs.length) (hdg : decode cc pc = .ok (.putfield 3, 3)) (kk : ∀ (w : Value) (H1 : Heap) (locs1 : List Loc), (w = v ∨ fs[4]? = some w) → b_at G a (.inr (13, (fs.set 0 v).set 4 w)) H1 → b_Up a H H1 → va_S (b_A B0) s.heap H1 locs1 → W p l e R s m args below meth c H1 locs1 cells slots Q (F0 m (pc + 3) ls rest)) : W p l e R s m args below meth c H locs cells slots Q (F0 m pc ls (v :: .ref a :: rest)) := b_putFA CX in_X17 tyX17 tyX17_ok rfl 0 4 (by decide) (by decide +kernel) q1165 (Or.inl rfl) rfl hin2 rfl hP hS ha hn hfit hl hl2 (by decide) hdg kk
set_option maxHeartbeats 2000000 in
set_option maxRecDepth 100000 in
theorem m_X6_init_13 (l : Launch) {G : b_G} {B0 : Nat} {H : Heap} {τ : b_T} {a : Nat} {ta : Nat} {ax : Nat} {u0 : Value} {u1 : Value} {u2 : Value} {u3 : Value} (hc_th : b_tt G B0 τ H a (ta) (.inr (13, [u0, u1, u2, u3, .ref ax]))) : Met l yX6_init (ws_ yX6_init cX6_init 2 (Option.none)) ({ frames := 1, cells := 0, slots := 0, locals := 20 } : Room) (b_Pc G B0 H [.ref a, .ref ax]) (b_Qv B0 (fun H1 => b_Up a H H1 ∧ b_tt G B0 τ H1 a (ta) (.inr (13, [.ref ax, u1, u2, u3, .ref ax])))) 0 0 (b_A B0) := by
  refine b_of (by decide) (Nat.le_of_ble_eq_true rfl) ?_
  intro p e s m below meth c CX hr hlk hnm hS ls hl
  have CX : b_Cx p s m _ c cX6_init 2 RX6 G B0 := CX
  have hx := CX.hx
  have hb := CX.hb
  have hl : lv_has ls 2 [(0, .ref a), (1, .ref ax)] := hl
  generalize hQ : MQ below (b_Qv B0 (fun H1 => b_Up a H H1 ∧ b_tt G B0 τ H1 a (ta) (.inr (13, [.ref ax, u1, u2, u3, .ref ax])))) ([.ref a, .ref ax] : List Value).toArray s 0 0 (b_A B0) = Q
  have hU : b_Up a H H := b_Up.rf
  refine lv_aload_n hx hb dX6_init_0 rfl (lv_at hl 0 rfl) ?_
  refine lv_aload_n hx hb dX6_init_1 rfl (lv_at hl 1 rfl) ?_
  refine pa_X6_3_13 CX hnm hc_th.at hS hc_th.B rfl rfl (Nat.le_of_ble_eq_true rfl) (Nat.le_of_ble_eq_true rfl) dX6_init_2 (fun w1 H1 locs hw hat hu hS => ?_)
  obtain rfl := hw.elim (fun h9 => h9) (fun h9 => (Option.some.inj h9).symm)
  have hU := hU.tr hu
  have hc_th : b_tt G B0 τ H1 a (ta) (.inr (13, [.ref ax, u1, u2, u3, .ref ax])) := hc_th.set hat
  refine lv_aload_n hx hb dX6_init_5 rfl (lv_at hl 0 rfl) ?_
  refine W.objInit hx hb CX.ow (CX.ts _ q1161) (CX.ts _ q132) (CX.ts _ q133) rfl (by rw [CX.ml]; exact hl.1) rfl dX6_init_6 (Nat.le_of_ble_eq_true rfl) (Nat.le_of_ble_eq_true rfl) ?_
  refine W.eq (g2 := F0 m 9 ls []) rfl ?_
  rw [← hQ]
  exact b_vret CX hr hlk hS (Nat.le_of_ble_eq_true rfl) (Nat.le_of_ble_eq_true rfl) dX6_init_9 (⟨hU, hc_th⟩)
theorem pa_X17_1_13 {p : Program} {l : Launch} {e : Env} {R : Room} {s : State} {m : MethodId} {args : Array Value} {below : List Frame} {meth : Method} {c : Code} {H : Heap} {locs : List Loc} {cells slots : Nat} {Q : State → Prop} {cc : ByteArray} {pc nL a : Nat} {ls : Array Slot} {rest : List Value} {G : b_G} {B0 : Nat} (CX : b_Cx p s m args c cc nL RX17 G B0) (hin2 : meth.name = "<init>") {fs : List Value} (hP : b_at G a (.inr (13, fs)) H) (hS : va_S (b_A B0) s.heap H locs) (ha : B0 ≤ a) {v : Value} (hn : narrow (tyX17 4) v = v) (hfit : fits (tyX17 4) v = true) (hl : 4 < fs.length) (hl2 : 0 < fs.length) (hdg : decode cc pc = .ok (.putfield 1, 3)) (kk : ∀ (w : Value) (H1 : Heap) (locs1 : List Loc), (w = v ∨ fs[0]? = some w) → b_at G a (.inr (13, (fs.set 4 v).set 0 w)) H1 → b_Up a H H1 → va_S (b_A B0) s.heap H1 locs1 → W p l e R s m args below meth c H1 locs1 cells slots Q (F0 m (pc + 3) ls rest)) : W p l e R s m args below meth c H locs cells slots Q (F0 m pc ls (v :: .ref a :: rest)) := b_putFA CX in_X17 tyX17 tyX17_ok rfl 4 0 (by decide) (by decide +kernel) q1612 (Or.inl rfl) rfl hin2 rfl hP hS ha hn hfit hl hl2 (by decide) hdg kk
theorem pf_X17_7_13 {p : Program} {l : Launch} {e : Env} {R : Room} {s : State} {m : MethodId} {args : Array Value} {below : List Frame} {meth : Method} {c : Code} {H : Heap} {locs : List Loc} {cells slots : Nat} {Q : State → Prop} {cc : ByteArray} {pc nL a : Nat} {ls : Array Slot} {rest : List Value} {G : b_G} {B0 : Nat} (CX : b_Cx p s m args c cc nL RX17 G B0) (hin2 : meth.name = "<init>") {fs : List Value} (hP : b_at G a (.inr (13, fs)) H) (hS : va_S (b_A B0) s.heap H locs) (ha : B0 ≤ a) {v : Value} (hn : narrow (tyX17 1) v = v) (hfit : fits (tyX17 1) v = true) (hl : 1 < fs.length) (hdg : decode cc pc = .ok (.putfield 7, 3)) (kk : ∀ (H1 : Heap) (locs1 : List Loc), b_at G a (.inr (13, fs.set 1 v)) H1 → b_Up a H H1 → va_S (b_A B0) s.heap H1 locs1 → W p l e R s m args below meth c H1 locs1 cells slots Q (F0 m (pc + 3) ls rest)) : W p l e R s m args below meth c H locs cells slots Q (F0 m pc ls (v :: .ref a :: rest)) := b_putF CX in_X17 tyX17 tyX17_ok rfl 1 (by decide) (by decide +kernel) q1609 (Or.inl rfl) rfl hin2 rfl hP hS ha hn hfit hl hdg kk
theorem pf_X17_11_13 {p : Program} {l : Launch} {e : Env} {R : Room} {s : State} {m : MethodId} {args : Array Value} {below : List Frame} {meth : Method} {c : Code} {H : Heap} {locs : List Loc} {cells slots : Nat} {Q : State → Prop} {cc : ByteArray} {pc nL a : Nat} {ls : Array Slot} {rest : List Value} {G : b_G} {B0 : Nat} (CX : b_Cx p s m args c cc nL RX17 G B0) (hin2 : meth.name = "<init>") {fs : List Value} (hP : b_at G a (.inr (13, fs)) H) (hS : va_S (b_A B0) s.heap H locs) (ha : B0 ≤ a) {v : Value} (hn : narrow (tyX17 2) v = v) (hfit : fits (tyX17 2) v = true) (hl : 2 < fs.length) (hdg : decode cc pc = .ok (.putfield 11, 3)) (kk : ∀ (H1 : Heap) (locs1 : List Loc), b_at G a (.inr (13, fs.set 2 v)) H1 → b_Up a H H1 → va_S (b_A B0) s.heap H1 locs1 → W p l e R s m args below meth c H1 locs1 cells slots Q (F0 m (pc + 3) ls rest)) : W p l e R s m args below meth c H locs cells slots Q (F0 m pc ls (v :: .ref a :: rest)) := b_putF CX in_X17 tyX17 tyX17_ok rfl 2 (by decide) (by decide +kernel) q1610 (Or.inl rfl) rfl hin2 rfl hP hS ha hn hfit hl hdg kk
theorem pf_X17_14_13 {p : Program} {l : Launch} {e : Env} {R : Room} {s : State} {m : MethodId} {args : Array Value} {below : List Frame} {meth : Method} {c : Code} {H : Heap} {locs : List Loc} {cells slots : Nat} {Q : State → Prop} {cc : ByteArray} {pc nL a : Nat} {ls : Array Slot} {rest : List Value} {G : b_G} {B0 : Nat} (CX : b_Cx p s m args c cc nL RX17 G B0) (hin2 : meth.name = "<init>") {fs : List Value} (hP : b_at G a (.inr (13, fs)) H) (hS : va_S (b_A B0) s.heap H locs) (ha : B0 ≤ a) {v : Value} (hn : narrow (tyX17 3) v = v) (hfit : fits (tyX17 3) v = true) (hl : 3 < fs.length) (hdg : decode cc pc = .ok (.putfield 14, 3)) (kk : ∀ (H1 : Heap) (locs1 : List Loc), b_at G a (.inr (13, fs.set 3 v)) H1 → b_Up a H H1 → va_S (b_A B0) s.heap H1 locs1 → W p l e R s m args below meth c H1 locs1 cells slots Q (F0 m (pc + 3) ls rest)) : W p l e R s m args below meth c H locs cells slots Q (F0 m pc ls (v :: .ref a :: rest)) := b_putF CX in_X17 tyX17 tyX17_ok rfl 3 (by decide) (by decide +kernel) q1611 (Or.inl rfl) rfl hin2 rfl hP hS ha hn hfit hl hdg kk
theorem cs_X17_17 {p : Program} {l : Launch} {e : Env} {R : Room} {s : State} {m : MethodId} {args : Array Value} {below : List Frame} {meth : Method} {c : Code} {H : Heap} {locs : List Loc} {cells slots : Nat} {cc : ByteArray} {pc nL a : Nat} {ls : Array Slot} {rest : List Value} {G : b_G} {B0 : Nat} (CX : b_Cx p s m args c cc nL RX17 G B0) (hls : ls.size = nL) {rm : Room} {mc ms : Nat} {As st0 : List Value} {Qc : Array Value → State → Outcome → State → Prop} (hM : Met l yX6_init (ws_ yX6_init cX6_init 2 (Option.none)) rm (b_Pc G B0 H (.ref a :: As)) Qc mc ms (b_A B0)) (hn : As.length = 1) (hS : va_S (b_A B0) s.heap H locs) (hst : st0 = As.reverse ++ .ref a :: rest) (hr : rm.cells = mc ∧ rm.slots = ms ∧ rm.frames + 1 ≤ R.frames ∧ 8 + (2 + 11) + rm.locals ≤ R.locals) (hw : (rest.map fun v => v.category).sum ≤ 8) (hdg : decode cc pc = .ok (.invokespecial 17, 3)) (hf : cells + mc ≤ R.cells ∧ slots + ms ≤ R.slots) : va_Run p l e R s m args below meth c H locs cells slots mc ms (F0 m pc ls st0) rest (Qc (Value.ref a :: As).toArray) (b_A B0) := va_runIN CX.fix hM (⟨va_cnB 1 CX.ts (lw_meth q1160) rfl hr.1 hr.2.1 (CX.K.2.1 _ q1608 rfl) (CX.ts _ q104) (by decide +kernel) ⟨hr.2.2.1, hr.2.2.2⟩, rfl, CX.ts _ q1159⟩) ⟨b_blind G B0 H _, b_pre _ CX.K hS⟩ rfl hn hls hst (lv_room hw) hdg hf
set_option maxHeartbeats 2000000 in
set_option maxRecDepth 100000 in
theorem m_X17_init (l : Launch) {G : b_G} {B0 : Nat} {H : Heap} {τ : b_T} {a : Nat} {ta : Nat} {ax : Nat} {s_ : Nat} {k : Nat} {c_ : Nat} (hc_th : b_tt G B0 τ H a (ta) (.inr (13, [.null, .int (nI 0), .int (nI 0), .int (nI 0), .null]))) : Met l yX17_init (ws_ yX17_init cX17_init 5 (Option.none)) ({ frames := 2, cells := 0, slots := 0, locals := 41 } : Room) (b_Pc G B0 H [.ref a, .ref ax, .int (nI s_), .int (nI k), .int (nI c_)]) (b_Qv B0 (fun H1 => b_Up a H H1 ∧ b_tt G B0 τ H1 a (ta) (.inr (13, [.ref ax, .int (nI s_), .int (nI k), .int (nI c_), .ref ax])))) 0 0 (b_A B0) := by
  refine b_of (by decide) (Nat.le_of_ble_eq_true rfl) ?_
  intro p e s m below meth c CX hr hlk hnm hS ls hl
  have CX : b_Cx p s m _ c cX17_init 5 RX17 G B0 := CX
  have hx := CX.hx
  have hb := CX.hb
  have hl : lv_has ls 5 [(0, .ref a), (1, .ref ax), (2, .int (nI s_)), (3, .int (nI k)), (4, .int (nI c_))] := hl
  generalize hQ : MQ below (b_Qv B0 (fun H1 => b_Up a H H1 ∧ b_tt G B0 τ H1 a (ta) (.inr (13, [.ref ax, .int (nI s_), .int (nI k), .int (nI c_), .ref ax])))) ([.ref a, .ref ax, .int (nI s_), .int (nI k), .int (nI c_)] : List Value).toArray s 0 0 (b_A B0) = Q
  have hU : b_Up a H H := b_Up.rf
  refine lv_aload_n hx hb dX17_init_0 rfl (lv_at hl 0 rfl) ?_
  refine lv_aload_n hx hb dX17_init_1 rfl (lv_at hl 1 rfl) ?_
  refine pa_X17_1_13 CX hnm hc_th.at hS hc_th.B rfl rfl (Nat.le_of_ble_eq_true rfl) (Nat.le_of_ble_eq_true rfl) dX17_init_2 (fun w1 H1 locs hw hat hu hS => ?_)
  have hU := hU.tr hu
  have hc_th : b_tt G B0 τ H1 a (ta) (.inr (13, [w1, .int (nI 0), .int (nI 0), .int (nI 0), .ref ax])) := hc_th.set hat
  refine lv_aload_n hx hb dX17_init_5 rfl (lv_at hl 0 rfl) ?_
  refine lv_iload_n hx hb dX17_init_6 rfl (lv_at hl 2 rfl) ?_
  refine pf_X17_7_13 CX hnm hc_th.at hS hc_th.B rfl rfl (Nat.le_of_ble_eq_true rfl) dX17_init_7 (fun H2 locs hat hu hS => ?_)
  have hU := hU.tr hu
  have hc_th : b_tt G B0 τ H2 a (ta) (.inr (13, [w1, .int (nI s_), .int (nI 0), .int (nI 0), .ref ax])) := hc_th.set hat
  refine lv_aload_n hx hb dX17_init_10 rfl (lv_at hl 0 rfl) ?_
  refine lv_iload_n hx hb dX17_init_11 rfl (lv_at hl 3 rfl) ?_
  refine pf_X17_11_13 CX hnm hc_th.at hS hc_th.B rfl rfl (Nat.le_of_ble_eq_true rfl) dX17_init_12 (fun H3 locs hat hu hS => ?_)
  have hU := hU.tr hu
  have hc_th : b_tt G B0 τ H3 a (ta) (.inr (13, [w1, .int (nI s_), .int (nI k), .int (nI 0), .ref ax])) := hc_th.set hat
  refine lv_aload_n hx hb dX17_init_15 rfl (lv_at hl 0 rfl) ?_
  refine lv_iload hx hb dX17_init_16 (lv_at hl 4 rfl) ?_
  refine pf_X17_14_13 CX hnm hc_th.at hS hc_th.B rfl rfl (Nat.le_of_ble_eq_true rfl) dX17_init_18 (fun H4 locs hat hu hS => ?_)
  have hU := hU.tr hu
  have hc_th : b_tt G B0 τ H4 a (ta) (.inr (13, [w1, .int (nI s_), .int (nI k), .int (nI c_), .ref ax])) := hc_th.set hat
  refine lv_aload_n hx hb dX17_init_21 rfl (lv_at hl 0 rfl) ?_
  refine lv_aload_n hx hb dX17_init_22 rfl (lv_at hl 1 rfl) ?_
  refine b_cv (cs_X17_17 (rest := []) CX hl.1 (m_X6_init_13 l (a := a) (ta := ta) (u0 := w1) (u1 := .int (nI s_)) (u2 := .int (nI k)) (u3 := .int (nI c_)) (ax := ax) hc_th) rfl hS rfl ⟨rfl, rfl, Nat.le_of_ble_eq_true rfl, Nat.le_of_ble_eq_true rfl⟩ (Nat.le_of_ble_eq_true rfl) dX17_init_23 ⟨Nat.le_of_ble_eq_true rfl, Nat.le_of_ble_eq_true rfl⟩) hS (fun H5 locs hp hS => ?_)
  obtain ⟨hu, hx0⟩ := hp
  have hU := hU.tr hu
  have hc_th : b_tt G B0 τ H5 a (ta) (.inr (13, [.ref ax, (.int (nI s_)), (.int (nI k)), (.int (nI c_)), .ref ax])) := hx0
  rw [← hQ]
  exact b_vret CX hr hlk hS (Nat.le_of_ble_eq_true rfl) (Nat.le_of_ble_eq_true rfl) dX17_init_26 (⟨hU, hc_th⟩)
theorem gf_X17_1_13 {p : Program} {l : Launch} {e : Env} {R : Room} {s : State} {m : MethodId} {args : Array Value} {below : List Frame} {meth : Method} {c : Code} {H : Heap} {locs : List Loc} {cells slots : Nat} {Q : State → Prop} {cc : ByteArray} {pc nL a : Nat} {ls : Array Slot} {rest : List Value} {G : b_G} {B0 : Nat} (CX : b_Cx p s m args c cc nL RX17 G B0) {fs : List Value} (hP : b_at G a (.inr (13, fs)) H) {v : Value} (hv : fs[4]? = some v) (hdg : decode cc pc = .ok (.getfield 1, 3)) (kk : W p l e R s m args below meth c H locs cells slots Q (F0 m (pc + 3) ls (v :: rest))) : W p l e R s m args below meth c H locs cells slots Q (F0 m pc ls (.ref a :: rest)) := b_get CX in_X17 rfl 4 (by decide) q1612 (Or.inl rfl) hP hv hdg kk
theorem gf_X17_23_0 {p : Program} {l : Launch} {e : Env} {R : Room} {s : State} {m : MethodId} {args : Array Value} {below : List Frame} {meth : Method} {c : Code} {H : Heap} {locs : List Loc} {cells slots : Nat} {Q : State → Prop} {cc : ByteArray} {pc nL a : Nat} {ls : Array Slot} {rest : List Value} {G : b_G} {B0 : Nat} (CX : b_Cx p s m args c cc nL RX17 G B0) {fs : List Value} (hP : b_at G a (.inr (0, fs)) H) {v : Value} (hv : fs[0]? = some v) (hdg : decode cc pc = .ok (.getfield 23, 3)) (kk : W p l e R s m args below meth c H locs cells slots Q (F0 m (pc + 3) ls (v :: rest))) : W p l e R s m args below meth c H locs cells slots Q (F0 m pc ls (.ref a :: rest)) := b_getN CX in_X1 rfl 0 (by decide) q252 (Or.inl rfl) hP hv hdg kk
theorem gf_X17_29_1 {p : Program} {l : Launch} {e : Env} {R : Room} {s : State} {m : MethodId} {args : Array Value} {below : List Frame} {meth : Method} {c : Code} {H : Heap} {locs : List Loc} {cells slots : Nat} {Q : State → Prop} {cc : ByteArray} {pc nL a : Nat} {ls : Array Slot} {rest : List Value} {G : b_G} {B0 : Nat} (CX : b_Cx p s m args c cc nL RX17 G B0) {fs : List Value} (hP : b_at G a (.inr (1, fs)) H) {v : Value} (hv : fs[1]? = some v) (hdg : decode cc pc = .ok (.getfield 29, 3)) (kk : W p l e R s m args below meth c H locs cells slots Q (F0 m (pc + 3) ls (v :: rest))) : W p l e R s m args below meth c H locs cells slots Q (F0 m pc ls (.ref a :: rest)) := b_getN CX in_X2 rfl 1 (by decide) q174 (Or.inl rfl) hP hv hdg kk
theorem gf_X17_7_13 {p : Program} {l : Launch} {e : Env} {R : Room} {s : State} {m : MethodId} {args : Array Value} {below : List Frame} {meth : Method} {c : Code} {H : Heap} {locs : List Loc} {cells slots : Nat} {Q : State → Prop} {cc : ByteArray} {pc nL a : Nat} {ls : Array Slot} {rest : List Value} {G : b_G} {B0 : Nat} (CX : b_Cx p s m args c cc nL RX17 G B0) {fs : List Value} (hP : b_at G a (.inr (13, fs)) H) {v : Value} (hv : fs[1]? = some v) (hdg : decode cc pc = .ok (.getfield 7, 3)) (kk : W p l e R s m args below meth c H locs cells slots Q (F0 m (pc + 3) ls (v :: rest))) : W p l e R s m args below meth c H locs cells slots Q (F0 m pc ls (.ref a :: rest)) := b_get CX in_X17 rfl 1 (by decide) q1609 (Or.inl rfl) hP hv hdg kk
theorem cs_X17_35 {p : Program} {l : Launch} {e : Env} {R : Room} {s : State} {m : MethodId} {args : Array Value} {below : List Frame} {meth : Method} {c : Code} {H : Heap} {locs : List Loc} {cells slots : Nat} {cc : ByteArray} {pc nL a : Nat} {ls : Array Slot} {rest : List Value} {G : b_G} {B0 : Nat} (CX : b_Cx p s m args c cc nL RX17 G B0) (hls : ls.size = nL) {rm : Room} {mc ms : Nat} {As st0 : List Value} {Qc : Array Value → State → Outcome → State → Prop} (hM : Met l yJ2_get (ws_ yJ2_get cJ2_get 2 (Option.some (Jvm.ClassFile.FieldType.object "java/lang/Object"))) rm (b_Pc G B0 H (.ref a :: As)) Qc mc ms (b_A B0)) (hn : As.length = 1) {fs : List Value} {ci : Nat} {qc : vw_C} (hc : b_cl[ci]? = some qc) (hq : qc.1 = RJ2) (hP : b_at G a (.inr (ci, fs)) H) (hS : va_S (b_A B0) s.heap H locs) (hst : st0 = As.reverse ++ .ref a :: rest) (hr : rm.cells = mc ∧ rm.slots = ms ∧ rm.frames + 1 ≤ R.frames ∧ 8 + (2 + 11) + rm.locals ≤ R.locals) (hw : (rest.map fun v => v.category).sum ≤ 8) (hdg : decode cc pc = .ok (.invokevirtual 35, 3)) (hf : cells + mc ≤ R.cells ∧ slots + ms ≤ R.slots) : va_Run p l e R s m args below meth c H locs cells slots mc ms (F0 m pc ls st0) rest (Qc (Value.ref a :: As).toArray) (b_A B0) := va_runV CX.fix hM (cwV 1 CX.ts (lw_V q1304 q796 q797 q83 q798) rfl hr.1 hr.2.1 (by decide +kernel) ⟨hr.2.2.1, hr.2.2.2⟩) ⟨b_blind G B0 H _, by have h9 := b_recv CX.K hc hP; rw [hq] at h9; exact h9, b_pre _ CX.K hS⟩ rfl hn hls hst (lv_room hw) hdg hf
theorem gf_X17_11_13 {p : Program} {l : Launch} {e : Env} {R : Room} {s : State} {m : MethodId} {args : Array Value} {below : List Frame} {meth : Method} {c : Code} {H : Heap} {locs : List Loc} {cells slots : Nat} {Q : State → Prop} {cc : ByteArray} {pc nL a : Nat} {ls : Array Slot} {rest : List Value} {G : b_G} {B0 : Nat} (CX : b_Cx p s m args c cc nL RX17 G B0) {fs : List Value} (hP : b_at G a (.inr (13, fs)) H) {v : Value} (hv : fs[2]? = some v) (hdg : decode cc pc = .ok (.getfield 11, 3)) (kk : W p l e R s m args below meth c H locs cells slots Q (F0 m (pc + 3) ls (v :: rest))) : W p l e R s m args below meth c H locs cells slots Q (F0 m pc ls (.ref a :: rest)) := b_get CX in_X17 rfl 2 (by decide) q1610 (Or.inl rfl) hP hv hdg kk
theorem gf_X17_14_13 {p : Program} {l : Launch} {e : Env} {R : Room} {s : State} {m : MethodId} {args : Array Value} {below : List Frame} {meth : Method} {c : Code} {H : Heap} {locs : List Loc} {cells slots : Nat} {Q : State → Prop} {cc : ByteArray} {pc nL a : Nat} {ls : Array Slot} {rest : List Value} {G : b_G} {B0 : Nat} (CX : b_Cx p s m args c cc nL RX17 G B0) {fs : List Value} (hP : b_at G a (.inr (13, fs)) H) {v : Value} (hv : fs[3]? = some v) (hdg : decode cc pc = .ok (.getfield 14, 3)) (kk : W p l e R s m args below meth c H locs cells slots Q (F0 m (pc + 3) ls (v :: rest))) : W p l e R s m args below meth c H locs cells slots Q (F0 m pc ls (.ref a :: rest)) := b_get CX in_X17 rfl 3 (by decide) q1611 (Or.inl rfl) hP hv hdg kk
theorem cx_X17_43 {p : Program} {l : Launch} {e : Env} {R : Room} {s : State} {m : MethodId} {args : Array Value} {below : List Frame} {meth : Method} {c : Code} {H : Heap} {locs : List Loc} {cells slots : Nat} {cc : ByteArray} {pc nL a : Nat} {ls : Array Slot} {rest : List Value} {G : b_G} {B0 : Nat} (CX : b_Cx p s m args c cc nL RX17 G B0) (hls : ls.size = nL) {rm : Room} {mc ms : Nat} {As st0 : List Value} {Qc : Array Value → State → Outcome → State → Prop} {XC : String → Addr → State → State → Prop} (hM : vx_Met l yX2_tryCollect (ws_ yX2_tryCollect cX2_tryCollect 4 (Option.none)) rm (b_Pc G B0 H (.ref a :: As)) Qc XC mc ms (b_A B0)) (hn : As.length = 3) {fs : List Value} {ci : Nat} {qc : vw_C} (hc : b_cl[ci]? = some qc) (hq : qc.1 = RX2) (hP : b_at G a (.inr (ci, fs)) H) (hS : va_S (b_A B0) s.heap H locs) (hst : st0 = As.reverse ++ .ref a :: rest) (hr : rm.cells = mc ∧ rm.slots = ms ∧ rm.frames + 1 ≤ R.frames ∧ 8 + (4 + 11) + rm.locals ≤ R.locals) (hw : (rest.map fun v => v.category).sum ≤ 8) (hdg : decode cc pc = .ok (.invokevirtual 43, 3)) (hf : cells + mc ≤ R.cells ∧ slots + ms ≤ R.slots) : vx_Run p l e R s m args below meth c H locs cells slots mc ms (F0 m pc ls st0) rest (Qc (Value.ref a :: As).toArray) XC (b_A B0) := vx_runV CX.fix hM (cwV 3 CX.ts (lw_V q1306 q1307 q1308 q80 q1309) rfl hr.1 hr.2.1 (by decide +kernel) ⟨hr.2.2.1, hr.2.2.2⟩) ⟨b_blind G B0 H _, by have h9 := b_recv CX.K hc hP; rw [hq] at h9; exact h9, b_pre _ CX.K hS⟩ rfl hn hls hst (lv_room hw) hdg hf
set_option maxHeartbeats 2000000 in
set_option maxRecDepth 100000 in
theorem m_X17_check (l : Launch) {G : b_G} {B0 : Nat} {H : Heap} {τ : b_T} {id : Nat} {F : Nat → Nat} {M : Nat → Int32} {E : Nat → Bool} {S : b_St} {Z : Nat → Nat → Int32} {da : Nat} {td : Nat} {a : Nat} {asv : Nat} {atx : Nat} {atk : Nat} {hs : Int64} {s_ : Nat} {k : Nat} {c_ : Nat} (hc_D : b_tt G B0 τ H da (td) (.inr (13, [.ref a, .int (nI s_), .int (nI k), .int (nI c_), .ref a]))) (hc_X : b_tt G B0 τ H a 0 (.inr (0, [.ref ((F 0)), .ref asv, .ref atx, .ref atk, .long hs]))) (hL : LR G B0 τ id F M E H S Z) (hW : b_WF S) (hSs_ : s_ < ns S) (hk : k < 3) : vx_Met l yX17_check (ws_ yX17_check cX17_check 1 (Option.none)) ({ frames := 7, cells := 2, slots := 12, locals := 151 } : Room) (b_Pc G B0 H [.ref da]) (b_Qv B0 (fun H1 => ((a_collect S s_ k (nI c_)) = nI 0) ∧ H1 = H)) (b_X B0 (fun E9 q9 H9 => e_px G B0 H (a_collect S s_ k (nI c_)) E9 q9 H9)) 2 12 (b_A B0) := by
  refine b_ofX (by decide) (Nat.le_of_ble_eq_true rfl) ?_
  intro p e s m below meth c CX hr hlk htb hS ls hl
  have CX : b_Cx p s m _ c cX17_check 1 RX17 G B0 := CX
  have hx := CX.hx
  have hb := CX.hb
  have hl : lv_has ls 1 [(0, .ref da)] := hl
  generalize hQ : vx_MQ below (b_Qv B0 (fun H1 => ((a_collect S s_ k (nI c_)) = nI 0) ∧ H1 = H)) (b_X B0 (fun E9 q9 H9 => e_px G B0 H (a_collect S s_ k (nI c_)) E9 q9 H9)) ([.ref da] : List Value).toArray s 2 12 (b_A B0) = Q
  have hX : b_Ext H H := b_Ext.rf
  have hnb : nb S = nb S := rfl
  have hns : ns S = ns S := rfl
  have hn8 := hL.2.2.2.1
  have hn6 := hL.2.2.2.2
  refine lv_aload_n hx hb dX17_check_0 rfl (lv_at hl 0 rfl) ?_
  refine gf_X17_1_13 CX hc_D.at rfl dX17_check_1 ?_
  refine gf_X17_23_0 CX hc_X.at rfl dX17_check_4 ?_
  refine lv_aload_n hx hb dX17_check_7 rfl (lv_at hl 0 rfl) ?_
  refine gf_X17_1_13 CX hc_D.at rfl dX17_check_8 ?_
  refine gf_X17_23_0 CX hc_X.at rfl dX17_check_11 ?_
  refine gf_X17_29_1 CX hL.loop.at rfl dX17_check_14 ?_
  refine lv_aload_n hx hb dX17_check_17 rfl (lv_at hl 0 rfl) ?_
  refine gf_X17_7_13 CX hc_D.at rfl dX17_check_18 ?_
  refine b_cq0 (cs_X17_35 (rest := [.ref ((F 0))]) CX hl.1 (m_J2_get l (a := (F 3)) (ta := 1000 * id + 3) (mc := M 3) (ra := (F 4)) (tr := 1000 * id + 4) (f := (fun j => F (30 + j))) (n := ns S) (i := s_) (hL.alg3 hW (by omega)) (hL.arg4 (by omega)) (by omega) (by omega)) rfl rfl rfl (hL.alg3 hW (by omega)).at hS rfl ⟨rfl, rfl, Nat.le_of_ble_eq_true rfl, Nat.le_of_ble_eq_true rfl⟩ (Nat.le_of_ble_eq_true rfl) dX17_check_21 ⟨Nat.le_of_ble_eq_true rfl, Nat.le_of_ble_eq_true rfl⟩) hS (fun locs hS => ?_)
  refine b_cast CX (ci := 5) rfl (hL.shop (k := s_) (by omega)).at q1305 dX17_check_24 ?_
  refine lv_aload_n hx hb dX17_check_27 rfl (lv_at hl 0 rfl) ?_
  refine gf_X17_11_13 CX hc_D.at rfl dX17_check_28 ?_
  refine lv_aload_n hx hb dX17_check_31 rfl (lv_at hl 0 rfl) ?_
  refine gf_X17_14_13 CX hc_D.at rfl dX17_check_32 ?_
  refine b_xv0 (cx_X17_43 (rest := []) CX hl.1 (m_X2_tryCollect l (s_ := s_) (k := k) (c_ := nI c_) hL hW (by omega) (by omega)) rfl rfl rfl hL.loop.at hS rfl ⟨rfl, rfl, Nat.le_of_ble_eq_true rfl, Nat.le_of_ble_eq_true rfl⟩ (Nat.le_of_ble_eq_true rfl) dX17_check_35 ⟨Nat.le_of_ble_eq_true rfl, Nat.le_of_ble_eq_true rfl⟩) hS (fun E9 q9 Hx1 locs hx9 hS he9 => ?_) (fun hk_35 locs hS => ?_)
  · rw [← hQ]
    exact b_xout htb hlk he9 hS (Nat.le_of_ble_eq_true rfl) (Nat.le_of_ble_eq_true rfl) (hx9)
  rw [← hQ]
  exact vx_ret (b_vret CX hr hlk hS (Nat.le_of_ble_eq_true rfl) (Nat.le_of_ble_eq_true rfl) dX17_check_38 (⟨(by exact hk_35), rfl⟩))
theorem gf_X17_47_0 {p : Program} {l : Launch} {e : Env} {R : Room} {s : State} {m : MethodId} {args : Array Value} {below : List Frame} {meth : Method} {c : Code} {H : Heap} {locs : List Loc} {cells slots : Nat} {Q : State → Prop} {cc : ByteArray} {pc nL a : Nat} {ls : Array Slot} {rest : List Value} {G : b_G} {B0 : Nat} (CX : b_Cx p s m args c cc nL RX17 G B0) {fs : List Value} (hP : b_at G a (.inr (0, fs)) H) {v : Value} (hv : fs[3]? = some v) (hdg : decode cc pc = .ok (.getfield 47, 3)) (kk : W p l e R s m args below meth c H locs cells slots Q (F0 m (pc + 3) ls (v :: rest))) : W p l e R s m args below meth c H locs cells slots Q (F0 m pc ls (.ref a :: rest)) := b_getN CX in_X1 rfl 3 (by decide) q261 (Or.inl rfl) hP hv hdg kk
theorem cs_X17_51 {p : Program} {l : Launch} {e : Env} {R : Room} {s : State} {m : MethodId} {args : Array Value} {below : List Frame} {meth : Method} {c : Code} {H : Heap} {locs : List Loc} {cells slots : Nat} {cc : ByteArray} {pc nL a : Nat} {ls : Array Slot} {rest : List Value} {G : b_G} {B0 : Nat} (CX : b_Cx p s m args c cc nL RX17 G B0) (hls : ls.size = nL) {rm : Room} {mc ms : Nat} {As st0 : List Value} {Qc : Array Value → State → Outcome → State → Prop} (hM : Met l yX2_collect (ws_ yX2_collect cX2_collect 6 (Option.some Jvm.ClassFile.FieldType.int)) rm (b_Pc G B0 H (.ref a :: As)) Qc mc ms (b_A B0)) (hn : As.length = 4) {fs : List Value} {ci : Nat} {qc : vw_C} (hc : b_cl[ci]? = some qc) (hq : qc.1 = RX2) (hP : b_at G a (.inr (ci, fs)) H) (hS : va_S (b_A B0) s.heap H locs) (hst : st0 = As.reverse ++ .ref a :: rest) (hr : rm.cells = mc ∧ rm.slots = ms ∧ rm.frames + 1 ≤ R.frames ∧ 8 + (6 + 11) + rm.locals ≤ R.locals) (hw : (rest.map fun v => v.category).sum ≤ 8) (hdg : decode cc pc = .ok (.invokevirtual 51, 3)) (hf : cells + mc ≤ R.cells ∧ slots + ms ≤ R.slots) : va_Run p l e R s m args below meth c H locs cells slots mc ms (F0 m pc ls st0) rest (Qc (Value.ref a :: As).toArray) (b_A B0) := va_runV CX.fix hM (cwV 4 CX.ts (lw_V q1398 q1399 q1400 q80 q1401) rfl hr.1 hr.2.1 (by decide +kernel) ⟨hr.2.2.1, hr.2.2.2⟩) ⟨b_blind G B0 H _, by have h9 := b_recv CX.K hc hP; rw [hq] at h9; exact h9, b_pre _ CX.K hS⟩ rfl hn hls hst (lv_room hw) hdg hf
set_option maxHeartbeats 2000000 in
set_option maxRecDepth 100000 in
theorem m_X17_does (l : Launch) {G : b_G} {B0 : Nat} {H : Heap} {τ : b_T} {id : Nat} {F : Nat → Nat} {M : Nat → Int32} {E : Nat → Bool} {S : b_St} {Z : Nat → Nat → Int32} {da : Nat} {td : Nat} {a : Nat} {asv : Nat} {atx : Nat} {atk : Nat} {hs : Int64} {s_ : Nat} {k : Nat} {c_ : Nat} {f : Nat → Int32} (hc_D : b_tt G B0 τ H da (td) (.inr (13, [.ref a, .int (nI s_), .int (nI k), .int (nI c_), .ref a]))) (hc_X : b_tt G B0 τ H a 0 (.inr (0, [.ref ((F 0)), .ref asv, .ref atx, .ref atk, .long hs]))) (hc_tk : b_tt G B0 τ H atk 5 (.inl (G.2.1 0, 8, .inl f))) (hL : LR G B0 τ id F M E H S Z) (hW : b_WF S) (hSs_ : s_ < ns S) (hk : k < 3) (hi0 : 0 < id) (htd : td < 1000) (hc : c_ ≤ 50) (hpk : p_picks S s_ k c_) (ht5 : ¬ td = 5) : Met l yX17_does (ws_ yX17_does cX17_does 1 (Option.some Jvm.ClassFile.FieldType.int)) ({ frames := 5, cells := 0, slots := 0, locals := 117 } : Room) (b_Pc G B0 H [.ref da]) (b_Qi B0 (fun r H1 => r = p_deps S k (nI c_) ∧ b_Fr τ (fun t => (1000 * id ≤ t ∧ t < 1000 * id + 1000) ∨ t = 5) H H1 ∧ b_tt G B0 τ H1 atk 5 (.inl (G.2.1 0, 8, .inl ((fun q => nI (p_tk S s_ k (12 * c_) q))))) ∧ LR G B0 τ id F M E H1 ((s_collect S s_ k c_)) Z)) 0 0 (b_A B0) := by
  refine b_of (by decide) (Nat.le_of_ble_eq_true rfl) ?_
  intro p e s m below meth c CX hr hlk hnm hS ls hl
  have CX : b_Cx p s m _ c cX17_does 1 RX17 G B0 := CX
  have hx := CX.hx
  have hb := CX.hb
  have hl : lv_has ls 1 [(0, .ref da)] := hl
  generalize hQ : MQ below (b_Qi B0 (fun r H1 => r = p_deps S k (nI c_) ∧ b_Fr τ (fun t => (1000 * id ≤ t ∧ t < 1000 * id + 1000) ∨ t = 5) H H1 ∧ b_tt G B0 τ H1 atk 5 (.inl (G.2.1 0, 8, .inl ((fun q => nI (p_tk S s_ k (12 * c_) q))))) ∧ LR G B0 τ id F M E H1 ((s_collect S s_ k c_)) Z)) ([.ref da] : List Value).toArray s 0 0 (b_A B0) = Q
  have hF : b_Fr τ (fun t => (1000 * id ≤ t ∧ t < 1000 * id + 1000) ∨ t = 5) H H := b_Fr.rf
  have hA : b_Ag τ τ H := b_Ag.rf
  have hnb : nb S = nb S := rfl
  have hns : ns S = ns S := rfl
  have hn8 := hL.2.2.2.1
  have hn6 := hL.2.2.2.2
  refine lv_aload_n hx hb dX17_does_0 rfl (lv_at hl 0 rfl) ?_
  refine gf_X17_1_13 CX hc_D.at rfl dX17_does_1 ?_
  refine gf_X17_23_0 CX hc_X.at rfl dX17_does_4 ?_
  refine lv_aload_n hx hb dX17_does_7 rfl (lv_at hl 0 rfl) ?_
  refine gf_X17_1_13 CX hc_D.at rfl dX17_does_8 ?_
  refine gf_X17_23_0 CX hc_X.at rfl dX17_does_11 ?_
  refine gf_X17_29_1 CX hL.loop.at rfl dX17_does_14 ?_
  refine lv_aload_n hx hb dX17_does_17 rfl (lv_at hl 0 rfl) ?_
  refine gf_X17_7_13 CX hc_D.at rfl dX17_does_18 ?_
  refine b_cq0 (cs_X17_35 (rest := [.ref ((F 0))]) CX hl.1 (m_J2_get l (a := (F 3)) (ta := 1000 * id + 3) (mc := M 3) (ra := (F 4)) (tr := 1000 * id + 4) (f := (fun j => F (30 + j))) (n := ns S) (i := s_) (hL.alg3 hW (by omega)) (hL.arg4 (by omega)) (by omega) (by omega)) rfl rfl rfl (hL.alg3 hW (by omega)).at hS rfl ⟨rfl, rfl, Nat.le_of_ble_eq_true rfl, Nat.le_of_ble_eq_true rfl⟩ (Nat.le_of_ble_eq_true rfl) dX17_does_21 ⟨Nat.le_of_ble_eq_true rfl, Nat.le_of_ble_eq_true rfl⟩) hS (fun locs hS => ?_)
  refine b_cast CX (ci := 5) rfl (hL.shop (k := s_) (by omega)).at q1305 dX17_does_24 ?_
  refine lv_aload_n hx hb dX17_does_27 rfl (lv_at hl 0 rfl) ?_
  refine gf_X17_11_13 CX hc_D.at rfl dX17_does_28 ?_
  refine lv_aload_n hx hb dX17_does_31 rfl (lv_at hl 0 rfl) ?_
  refine gf_X17_14_13 CX hc_D.at rfl dX17_does_32 ?_
  refine lv_aload_n hx hb dX17_does_35 rfl (lv_at hl 0 rfl) ?_
  refine gf_X17_1_13 CX hc_D.at rfl dX17_does_36 ?_
  refine gf_X17_47_0 CX hc_X.at rfl dX17_does_39 ?_
  refine b_ci (cs_X17_51 (rest := []) CX hl.1 (m_X2_collect l (s_ := s_) (k := k) (c_ := c_) (k0 := atk) (tg := 5) (f := f) hc_tk hL hW (by omega) (by omega) (by omega) hpk (by omega)) rfl rfl rfl hL.loop.at hS rfl ⟨rfl, rfl, Nat.le_of_ble_eq_true rfl, Nat.le_of_ble_eq_true rfl⟩ (Nat.le_of_ble_eq_true rfl) dX17_does_42 ⟨Nat.le_of_ble_eq_true rfl, Nat.le_of_ble_eq_true rfl⟩) hS (fun r H1 locs hp hS => ?_)
  obtain ⟨rfl, hF9, hx0, hL9⟩ := hp
  have hc_D := hc_D.fr hF9 (show ¬ ((1000 * id ≤ (td) ∧ (td) < 1000 * id + 1000) ∨ (td) = 5) by omega)
  have hc_X := hc_X.fr hF9 (show ¬ ((1000 * id ≤ 0 ∧ 0 < 1000 * id + 1000) ∨ 0 = 5) by omega)
  have hF := hF.tr hA hF9 (fun q9 hq9 x9 => by have x8 : (1000 * id ≤ τ q9 ∧ τ q9 < 1000 * id + 1000) ∨ τ q9 = 5 := x9; show (1000 * id ≤ τ q9 ∧ τ q9 < 1000 * id + 1000) ∨ τ q9 = 5; omega)
  have hc_tk : b_tt G B0 τ H1 atk 5 (.inl (G.2.1 0, 8, .inl ((fun q => nI (p_tk S s_ k (12 * c_) q))))) := hx0
  have hL : LR G B0 τ id F M E H1 ((s_collect S s_ k c_)) Z := hL9
  rw [← hQ]
  exact b_iret CX hr hlk hS (Nat.le_of_ble_eq_true rfl) (Nat.le_of_ble_eq_true rfl) dX17_does_45 (⟨rfl, hF, hc_tk, hL⟩)
theorem cx_X6_15_13 {p : Program} {l : Launch} {e : Env} {R : Room} {s : State} {m : MethodId} {args : Array Value} {below : List Frame} {meth : Method} {c : Code} {H : Heap} {locs : List Loc} {cells slots : Nat} {cc : ByteArray} {pc nL a : Nat} {ls : Array Slot} {rest : List Value} {G : b_G} {B0 : Nat} (CX : b_Cx p s m args c cc nL RX6 G B0) (hls : ls.size = nL) {rm : Room} {mc ms : Nat} {As st0 : List Value} {Qc : Array Value → State → Outcome → State → Prop} {XC : String → Addr → State → State → Prop} (hM : vx_Met l yX17_check (ws_ yX17_check cX17_check 1 (Option.none)) rm (b_Pc G B0 H (.ref a :: As)) Qc XC mc ms (b_A B0)) (hn : As.length = 0) {fs : List Value} (hP : b_at G a (.inr (13, fs)) H) (hS : va_S (b_A B0) s.heap H locs) (hst : st0 = As.reverse ++ .ref a :: rest) (hr : rm.cells = mc ∧ rm.slots = ms ∧ rm.frames + 1 ≤ R.frames ∧ 8 + (1 + 11) + rm.locals ≤ R.locals) (hw : (rest.map fun v => v.category).sum ≤ 8) (hdg : decode cc pc = .ok (.invokevirtual 15, 3)) (hf : cells + mc ≤ R.cells ∧ slots + ms ≤ R.slots) : vx_Run p l e R s m args below meth c H locs cells slots mc ms (F0 m pc ls st0) rest (Qc (Value.ref a :: As).toArray) XC (b_A B0) := vx_runU CX.fix hM (va_cwA (C := RX17) (owner := RX6) 0 CX.ts (lw_U q1198 q1200 q1301 q1302 q115 q1303) rfl hr.1 hr.2.1 (CX.K.2.1 _ q1199 rfl) ⟨by decide, by decide, by decide +kernel⟩ ⟨hr.2.2.1, hr.2.2.2⟩) ⟨b_blind G B0 H _, b_recv CX.K (ci := 13) rfl hP, b_pre _ CX.K hS⟩ rfl hn hls hst (lv_room hw) hdg hf
set_option maxHeartbeats 2000000 in
set_option maxRecDepth 100000 in
theorem m_X6_reason_13 (l : Launch) {G : b_G} {B0 : Nat} {H : Heap} {τ : b_T} {id : Nat} {F : Nat → Nat} {M : Nat → Int32} {E : Nat → Bool} {S : b_St} {Z : Nat → Nat → Int32} {da : Nat} {td : Nat} {a : Nat} {asv : Nat} {atx : Nat} {atk : Nat} {hs : Int64} {s_ : Nat} {k : Nat} {c_ : Nat} (hc_D : b_tt G B0 τ H da (td) (.inr (13, [.ref a, .int (nI s_), .int (nI k), .int (nI c_), .ref a]))) (hc_X : b_tt G B0 τ H a 0 (.inr (0, [.ref ((F 0)), .ref asv, .ref atx, .ref atk, .long hs]))) (hL : LR G B0 τ id F M E H S Z) (hW : b_WF S) (hSs_ : s_ < ns S) (hk : k < 3) : vx_Met l yX6_reason (wsW_ yX6_reason cX6_reason 2 (Option.some Jvm.ClassFile.FieldType.int) [((0 : Nat), (5 : Nat), (6 : Nat), (18 : Nat)), ((0 : Nat), (5 : Nat), (6 : Nat), (20 : Nat)), ((0 : Nat), (5 : Nat), (6 : Nat), (22 : Nat)), ((0 : Nat), (5 : Nat), (12 : Nat), (25 : Nat))]) ({ frames := 8, cells := 2, slots := 12, locals := 171 } : Room) (b_Pc G B0 H [.ref da]) (b_Qi B0 (fun r H1 => r = (a_collect S s_ k (nI c_)) ∧ b_Ext H H1)) (b_X B0 (fun E9 q9 H9 => False)) 2 12 (b_A B0) := by
  refine b_ofXW (by decide) (Nat.le_of_ble_eq_true rfl) ?_
  intro p e s m below meth c CX hr hlk htb hS ls hl
  have CX : b_Cx p s m _ c cX6_reason 2 RX6 G B0 := CX
  have hx := CX.hx
  have hb := CX.hb
  have hl : lv_has ls 2 [(0, .ref da)] := hl
  generalize hQ : vx_MQ below (b_Qi B0 (fun r H1 => r = (a_collect S s_ k (nI c_)) ∧ b_Ext H H1)) (b_X B0 (fun E9 q9 H9 => False)) ([.ref da] : List Value).toArray s 2 12 (b_A B0) = Q
  have hX : b_Ext H H := b_Ext.rf
  have hnb : nb S = nb S := rfl
  have hns : ns S = ns S := rfl
  have hn8 := hL.2.2.2.1
  have hn6 := hL.2.2.2.2
  refine lv_aload_n hx hb dX6_reason_0 rfl (lv_at hl 0 rfl) ?_
  refine b_xv0 (cx_X6_15_13 (rest := []) CX hl.1 (m_X17_check l (da := da) (td := td) (a := a) (asv := asv) (atx := atx) (atk := atk) (hs := hs) (s_ := s_) (k := k) (c_ := c_) hc_D hc_X hL hW (by omega) (by omega)) rfl hc_D.at hS rfl ⟨rfl, rfl, Nat.le_of_ble_eq_true rfl, Nat.le_of_ble_eq_true rfl⟩ (Nat.le_of_ble_eq_true rfl) dX6_reason_1 ⟨Nat.le_of_ble_eq_true rfl, Nat.le_of_ble_eq_true rfl⟩) hS (fun E9 q9 Hx1 locs hx9 hS he9 => ?_) (fun hk_1 locs hS => ?_)
  · obtain ⟨hE, hz, hB, v9, hv9, hcd, hnm9, hat⟩ := hx9
    rcases hv9 with rfl | rfl | rfl
    · obtain rfl := hnm9
      refine b_xcatch CX (E := "BottleLoop$NoBottles") (name := "BottleLoop$NoBottles") [] ⟨0, 5, 6, 18⟩ [⟨0, 5, 6, 20⟩, ⟨0, 5, 6, 22⟩, ⟨0, 5, 12, 25⟩] (by rw [htb]; rfl) (fun z hz9 => nomatch hz9) (by decide) (by decide) q1194 (CX.nw q1215 rfl rfl) he9 ?_
      have hc_D := hc_D.ad (tb := 101) hE hz
      have hc_X := hc_X.ad (tb := 101) hE hz
      have hL := hL.ad (tb := 101) hE hz
      have fr_ex : H.size ≤ q9 := Nat.le_trans hX.1 hz
      have hX := hX.tr hE
      have hc_ex : b_tt G B0 ((upT τ q9 101)) Hx1 q9 101 (.inr (18, [.null, .null, .null, .null, .null, .int (nI 0)])) := b_tt.mk hat hB
      refine lv_astore_n (lv' := [(1, .ref q9), (0, .ref da)]) hx hb dX6_reason_6 rfl hl (Nat.le_of_ble_eq_true rfl) rfl (fun ls hl => ?_)
      refine lv_aload_n hx hb dX6_reason_7 rfl (lv_at hl 0 rfl) ?_
      refine b_ci0 (cs_X6_24_18 (rest := []) CX hl.1 (m_X9_number l (a := q9) (ta := 101) hc_ex) rfl hc_ex.at hS rfl ⟨rfl, rfl, Nat.le_of_ble_eq_true rfl, Nat.le_of_ble_eq_true rfl⟩ (Nat.le_of_ble_eq_true rfl) dX6_reason_8 ⟨Nat.le_of_ble_eq_true rfl, Nat.le_of_ble_eq_true rfl⟩) hS (fun locs hS => ?_)
      rw [← hQ]
      exact vx_ret (b_iret CX hr hlk hS (Nat.le_of_ble_eq_true rfl) (Nat.le_of_ble_eq_true rfl) dX6_reason_11 (⟨(by first | exact hk_1.symm | exact hcd.symm), hX⟩))
    · obtain rfl := hnm9
      refine b_xcatch CX (E := "BottleLoop$NoCrates") (name := "BottleLoop$NoCrates") [⟨0, 5, 6, 18⟩] ⟨0, 5, 6, 20⟩ [⟨0, 5, 6, 22⟩, ⟨0, 5, 12, 25⟩] (by rw [htb]; rfl) (fun z hz9 => by rcases List.mem_cons.mp hz9 with rfl | h9; exact Or.inr ⟨by decide, "BottleLoop$NoBottles", q1194, by decide⟩; exact nomatch h9) (by decide) (by decide) q1195 (CX.nw q1242 rfl rfl) he9 ?_
      have hc_D := hc_D.ad (tb := 101) hE hz
      have hc_X := hc_X.ad (tb := 101) hE hz
      have hL := hL.ad (tb := 101) hE hz
      have fr_ex : H.size ≤ q9 := Nat.le_trans hX.1 hz
      have hX := hX.tr hE
      have hc_ex : b_tt G B0 ((upT τ q9 101)) Hx1 q9 101 (.inr (19, [.null, .null, .null, .null, .null, .int (nI 0)])) := b_tt.mk hat hB
      refine lv_astore_n (lv' := [(1, .ref q9), (0, .ref da)]) hx hb dX6_reason_6 rfl hl (Nat.le_of_ble_eq_true rfl) rfl (fun ls hl => ?_)
      refine lv_aload_n hx hb dX6_reason_7 rfl (lv_at hl 0 rfl) ?_
      refine b_ci0 (cs_X6_24_19 (rest := []) CX hl.1 (m_X10_number l (a := q9) (ta := 101) hc_ex) rfl hc_ex.at hS rfl ⟨rfl, rfl, Nat.le_of_ble_eq_true rfl, Nat.le_of_ble_eq_true rfl⟩ (Nat.le_of_ble_eq_true rfl) dX6_reason_8 ⟨Nat.le_of_ble_eq_true rfl, Nat.le_of_ble_eq_true rfl⟩) hS (fun locs hS => ?_)
      rw [← hQ]
      exact vx_ret (b_iret CX hr hlk hS (Nat.le_of_ble_eq_true rfl) (Nat.le_of_ble_eq_true rfl) dX6_reason_11 (⟨(by first | exact hk_1.symm | exact hcd.symm), hX⟩))
    · obtain rfl := hnm9
      refine b_xcatch CX (E := "BottleLoop$NoMoney") (name := "BottleLoop$NoMoney") [⟨0, 5, 6, 18⟩, ⟨0, 5, 6, 20⟩] ⟨0, 5, 6, 22⟩ [⟨0, 5, 12, 25⟩] (by rw [htb]; rfl) (fun z hz9 => by rcases List.mem_cons.mp hz9 with rfl | h9; exact Or.inr ⟨by decide, "BottleLoop$NoBottles", q1194, by decide⟩; rcases List.mem_cons.mp h9 with rfl | h8; exact Or.inr ⟨by decide, "BottleLoop$NoCrates", q1195, by decide⟩; exact nomatch h8) (by decide) (by decide) q1196 (CX.nw q1261 rfl rfl) he9 ?_
      have hc_D := hc_D.ad (tb := 101) hE hz
      have hc_X := hc_X.ad (tb := 101) hE hz
      have hL := hL.ad (tb := 101) hE hz
      have fr_ex : H.size ≤ q9 := Nat.le_trans hX.1 hz
      have hX := hX.tr hE
      have hc_ex : b_tt G B0 ((upT τ q9 101)) Hx1 q9 101 (.inr (20, [.null, .null, .null, .null, .null, .int (nI 0)])) := b_tt.mk hat hB
      refine lv_astore_n (lv' := [(1, .ref q9), (0, .ref da)]) hx hb dX6_reason_6 rfl hl (Nat.le_of_ble_eq_true rfl) rfl (fun ls hl => ?_)
      refine lv_aload_n hx hb dX6_reason_7 rfl (lv_at hl 0 rfl) ?_
      refine b_ci0 (cs_X6_24_20 (rest := []) CX hl.1 (m_X11_number l (a := q9) (ta := 101) hc_ex) rfl hc_ex.at hS rfl ⟨rfl, rfl, Nat.le_of_ble_eq_true rfl, Nat.le_of_ble_eq_true rfl⟩ (Nat.le_of_ble_eq_true rfl) dX6_reason_8 ⟨Nat.le_of_ble_eq_true rfl, Nat.le_of_ble_eq_true rfl⟩) hS (fun locs hS => ?_)
      rw [← hQ]
      exact vx_ret (b_iret CX hr hlk hS (Nat.le_of_ble_eq_true rfl) (Nat.le_of_ble_eq_true rfl) dX6_reason_11 (⟨(by first | exact hk_1.symm | exact hcd.symm), hX⟩))
  refine lv_iconst (v := nI 0) hx hb dX6_reason_4 rfl ?_
  rw [← hQ]
  exact vx_ret (b_iret CX hr hlk hS (Nat.le_of_ble_eq_true rfl) (Nat.le_of_ble_eq_true rfl) dX6_reason_5 (⟨(by first | exact hk_1.symm | exact hcd.symm), hX⟩))
theorem cs_X1_150 {p : Program} {l : Launch} {e : Env} {R : Room} {s : State} {m : MethodId} {args : Array Value} {below : List Frame} {meth : Method} {c : Code} {H : Heap} {locs : List Loc} {cells slots : Nat} {cc : ByteArray} {pc nL a : Nat} {ls : Array Slot} {rest : List Value} {G : b_G} {B0 : Nat} (CX : b_Cx p s m args c cc nL RX1 G B0) (hls : ls.size = nL) {rm : Room} {mc ms : Nat} {As st0 : List Value} {Qc : Array Value → State → Outcome → State → Prop} (hM : Met l yX17_init (ws_ yX17_init cX17_init 5 (Option.none)) rm (b_Pc G B0 H (.ref a :: As)) Qc mc ms (b_A B0)) (hn : As.length = 4) (hS : va_S (b_A B0) s.heap H locs) (hst : st0 = As.reverse ++ .ref a :: rest) (hr : rm.cells = mc ∧ rm.slots = ms ∧ rm.frames + 1 ≤ R.frames ∧ 8 + (5 + 11) + rm.locals ≤ R.locals) (hw : (rest.map fun v => v.category).sum ≤ 8) (hdg : decode cc pc = .ok (.invokespecial 150, 3)) (hf : cells + mc ≤ R.cells ∧ slots + ms ≤ R.slots) : va_Run p l e R s m args below meth c H locs cells slots mc ms (F0 m pc ls st0) rest (Qc (Value.ref a :: As).toArray) (b_A B0) := va_runI CX.fix hM (cwI 4 CX.ts (lw_meth q1607) rfl hr.1 hr.2.1 (CX.ts _ q115) (CX.ts _ q1605) (CX.ts _ q1606) rfl (by decide +kernel) ⟨hr.2.2.1, hr.2.2.2⟩) ⟨b_blind G B0 H _, b_pre _ CX.K hS⟩ rfl hn hls hst (lv_room hw) hdg hf
set_option maxHeartbeats 2000000 in
set_option maxRecDepth 100000 in
theorem m_X1_collecting (l : Launch) {G : b_G} {B0 : Nat} {H : Heap} {a : Nat} {s_ : Nat} {k : Nat} {c_ : Nat} : Met l yX1_collecting (ws_ yX1_collecting cX1_collecting 4 (Option.some (Jvm.ClassFile.FieldType.object "BottleLoop$Deed"))) ({ frames := 3, cells := 1, slots := 5, locals := 65 } : Room) (b_Pc G B0 H [.ref a, .int (nI s_), .int (nI k), .int (nI c_)]) (b_Qq B0 (fun r H1 => ∃ q : Nat, r = some q ∧ b_Ext H H1 ∧ H.size ≤ q ∧ B0 ≤ q ∧ b_at G q (.inr (13, [.ref a, .int (nI s_), .int (nI k), .int (nI c_), .ref a])) H1)) 1 5 (b_A B0) := by
  refine b_of (by decide) (Nat.le_of_ble_eq_true rfl) ?_
  intro p e s m below meth c CX hr hlk hnm hS ls hl
  have CX : b_Cx p s m _ c cX1_collecting 4 RX1 G B0 := CX
  have hx := CX.hx
  have hb := CX.hb
  have hl : lv_has ls 4 [(0, .ref a), (1, .int (nI s_)), (2, .int (nI k)), (3, .int (nI c_))] := hl
  generalize hQ : MQ below (b_Qq B0 (fun r H1 => ∃ q : Nat, r = some q ∧ b_Ext H H1 ∧ H.size ≤ q ∧ B0 ≤ q ∧ b_at G q (.inr (13, [.ref a, .int (nI s_), .int (nI k), .int (nI c_), .ref a])) H1)) ([.ref a, .int (nI s_), .int (nI k), .int (nI c_)] : List Value).toArray s 1 5 (b_A B0) = Q
  have hX : b_Ext H H := b_Ext.rf
  obtain ⟨τ, -⟩ : ∃ τ : b_T, True := ⟨fun _ => 0, trivial⟩
  refine b_new CX in_X17 tyX17 tyX17_ok (ci := 13) rfl q1603 q1604 q115 (fs := [.null, .int (nI 0), .int (nI 0), .int (nI 0), .null]) (nofn_X17) hS (Nat.le_of_ble_eq_true rfl) (Nat.le_of_ble_eq_true rfl) dX1_collecting_0 (fun q1 H1 hq hB hat hsz hE hS => ?_)
  have fr_dd : H.size ≤ q1 := by rw [hq]; exact hX.1
  have hX := hX.tr hE
  have hc_dd : b_tt G B0 ((upT τ q1 100)) H1 q1 100 (.inr (13, [.null, .int (nI 0), .int (nI 0), .int (nI 0), .null])) := b_tt.mk hat hB
  refine lv_dup hx hb dX1_collecting_3 rfl ?_
  refine lv_aload_n hx hb dX1_collecting_4 rfl (lv_at hl 0 rfl) ?_
  refine lv_iload_n hx hb dX1_collecting_5 rfl (lv_at hl 1 rfl) ?_
  refine lv_iload_n hx hb dX1_collecting_6 rfl (lv_at hl 2 rfl) ?_
  refine lv_iload_n hx hb dX1_collecting_7 rfl (lv_at hl 3 rfl) ?_
  refine b_cv (cs_X1_150 (rest := [.ref q1]) CX hl.1 (m_X17_init l (a := q1) (ta := 100) (ax := a) (s_ := s_) (k := k) (c_ := c_) hc_dd) rfl hS rfl ⟨rfl, rfl, Nat.le_of_ble_eq_true rfl, Nat.le_of_ble_eq_true rfl⟩ (Nat.le_of_ble_eq_true rfl) dX1_collecting_8 ⟨Nat.le_of_ble_eq_true rfl, Nat.le_of_ble_eq_true rfl⟩) hS (fun H2 locs hp hS => ?_)
  obtain ⟨hu, hx0⟩ := hp
  have hX := hX.up hu fr_dd
  have hc_dd : b_tt G B0 ((upT τ q1 100)) H2 q1 100 (.inr (13, [.ref a, .int (nI s_), .int (nI k), .int (nI c_), .ref a])) := hx0
  rw [← hQ]
  exact b_aret (v := some q1) CX hr (Or.inl ⟨_, rfl⟩) hlk hS (Nat.le_of_ble_eq_true rfl) (Nat.le_of_ble_eq_true rfl) dX1_collecting_11 (⟨_, rfl, hX, fr_dd, hc_dd.B, hc_dd.at⟩)
theorem pa_X6_3_14 {p : Program} {l : Launch} {e : Env} {R : Room} {s : State} {m : MethodId} {args : Array Value} {below : List Frame} {meth : Method} {c : Code} {H : Heap} {locs : List Loc} {cells slots : Nat} {Q : State → Prop} {cc : ByteArray} {pc nL a : Nat} {ls : Array Slot} {rest : List Value} {G : b_G} {B0 : Nat} (CX : b_Cx p s m args c cc nL RX6 G B0) (hin2 : meth.name = "<init>") {fs : List Value} (hP : b_at G a (.inr (14, fs)) H) (hS : va_S (b_A B0) s.heap H locs) (ha : B0 ≤ a) {v : Value} (hn : narrow (tyX7 0) v = v) (hfit : fits (tyX7 0) v = true) (hl : 0 < fs.length) (hl2 : 3 < fs.length) (hdg : decode cc pc = .ok (.putfield 3, 3)) (kk : ∀ (w : Value) (H1 : Heap) (locs1 : List Loc), (w = v ∨ fs[3]? = some w) → b_at G a (.inr (14, (fs.set 0 v).set 3 w)) H1 → b_Up a H H1 → va_S (b_A B0) s.heap H1 locs1 → W p l e R s m args below meth c H1 locs1 cells slots Q (F0 m (pc + 3) ls rest)) : W p l e R s m args below meth c H locs cells slots Q (F0 m pc ls (v :: .ref a :: rest)) := b_putFA CX in_X7 tyX7 tyX7_ok rfl 0 3 (by decide) (by decide +kernel) q1165 (Or.inl rfl) rfl hin2 rfl hP hS ha hn hfit hl hl2 (by decide) hdg kk
set_option maxHeartbeats 2000000 in
set_option maxRecDepth 100000 in
theorem m_X6_init_14 (l : Launch) {G : b_G} {B0 : Nat} {H : Heap} {τ : b_T} {a : Nat} {ta : Nat} {ax : Nat} {u0 : Value} {u1 : Value} {u2 : Value} (hc_th : b_tt G B0 τ H a (ta) (.inr (14, [u0, u1, u2, .ref ax]))) : Met l yX6_init (ws_ yX6_init cX6_init 2 (Option.none)) ({ frames := 1, cells := 0, slots := 0, locals := 20 } : Room) (b_Pc G B0 H [.ref a, .ref ax]) (b_Qv B0 (fun H1 => b_Up a H H1 ∧ b_tt G B0 τ H1 a (ta) (.inr (14, [.ref ax, u1, u2, .ref ax])))) 0 0 (b_A B0) := by
  refine b_of (by decide) (Nat.le_of_ble_eq_true rfl) ?_
  intro p e s m below meth c CX hr hlk hnm hS ls hl
  have CX : b_Cx p s m _ c cX6_init 2 RX6 G B0 := CX
  have hx := CX.hx
  have hb := CX.hb
  have hl : lv_has ls 2 [(0, .ref a), (1, .ref ax)] := hl
  generalize hQ : MQ below (b_Qv B0 (fun H1 => b_Up a H H1 ∧ b_tt G B0 τ H1 a (ta) (.inr (14, [.ref ax, u1, u2, .ref ax])))) ([.ref a, .ref ax] : List Value).toArray s 0 0 (b_A B0) = Q
  have hU : b_Up a H H := b_Up.rf
  refine lv_aload_n hx hb dX6_init_0 rfl (lv_at hl 0 rfl) ?_
  refine lv_aload_n hx hb dX6_init_1 rfl (lv_at hl 1 rfl) ?_
  refine pa_X6_3_14 CX hnm hc_th.at hS hc_th.B rfl rfl (Nat.le_of_ble_eq_true rfl) (Nat.le_of_ble_eq_true rfl) dX6_init_2 (fun w1 H1 locs hw hat hu hS => ?_)
  obtain rfl := hw.elim (fun h9 => h9) (fun h9 => (Option.some.inj h9).symm)
  have hU := hU.tr hu
  have hc_th : b_tt G B0 τ H1 a (ta) (.inr (14, [.ref ax, u1, u2, .ref ax])) := hc_th.set hat
  refine lv_aload_n hx hb dX6_init_5 rfl (lv_at hl 0 rfl) ?_
  refine W.objInit hx hb CX.ow (CX.ts _ q1161) (CX.ts _ q132) (CX.ts _ q133) rfl (by rw [CX.ml]; exact hl.1) rfl dX6_init_6 (Nat.le_of_ble_eq_true rfl) (Nat.le_of_ble_eq_true rfl) ?_
  refine W.eq (g2 := F0 m 9 ls []) rfl ?_
  rw [← hQ]
  exact b_vret CX hr hlk hS (Nat.le_of_ble_eq_true rfl) (Nat.le_of_ble_eq_true rfl) dX6_init_9 (⟨hU, hc_th⟩)
theorem pa_X7_1_14 {p : Program} {l : Launch} {e : Env} {R : Room} {s : State} {m : MethodId} {args : Array Value} {below : List Frame} {meth : Method} {c : Code} {H : Heap} {locs : List Loc} {cells slots : Nat} {Q : State → Prop} {cc : ByteArray} {pc nL a : Nat} {ls : Array Slot} {rest : List Value} {G : b_G} {B0 : Nat} (CX : b_Cx p s m args c cc nL RX7 G B0) (hin2 : meth.name = "<init>") {fs : List Value} (hP : b_at G a (.inr (14, fs)) H) (hS : va_S (b_A B0) s.heap H locs) (ha : B0 ≤ a) {v : Value} (hn : narrow (tyX7 3) v = v) (hfit : fits (tyX7 3) v = true) (hl : 3 < fs.length) (hl2 : 0 < fs.length) (hdg : decode cc pc = .ok (.putfield 1, 3)) (kk : ∀ (w : Value) (H1 : Heap) (locs1 : List Loc), (w = v ∨ fs[0]? = some w) → b_at G a (.inr (14, (fs.set 3 v).set 0 w)) H1 → b_Up a H H1 → va_S (b_A B0) s.heap H1 locs1 → W p l e R s m args below meth c H1 locs1 cells slots Q (F0 m (pc + 3) ls rest)) : W p l e R s m args below meth c H locs cells slots Q (F0 m pc ls (v :: .ref a :: rest)) := b_putFA CX in_X7 tyX7 tyX7_ok rfl 3 0 (by decide) (by decide +kernel) q1164 (Or.inl rfl) rfl hin2 rfl hP hS ha hn hfit hl hl2 (by decide) hdg kk
theorem pf_X7_7_14 {p : Program} {l : Launch} {e : Env} {R : Room} {s : State} {m : MethodId} {args : Array Value} {below : List Frame} {meth : Method} {c : Code} {H : Heap} {locs : List Loc} {cells slots : Nat} {Q : State → Prop} {cc : ByteArray} {pc nL a : Nat} {ls : Array Slot} {rest : List Value} {G : b_G} {B0 : Nat} (CX : b_Cx p s m args c cc nL RX7 G B0) (hin2 : meth.name = "<init>") {fs : List Value} (hP : b_at G a (.inr (14, fs)) H) (hS : va_S (b_A B0) s.heap H locs) (ha : B0 ≤ a) {v : Value} (hn : narrow (tyX7 1) v = v) (hfit : fits (tyX7 1) v = true) (hl : 1 < fs.length) (hdg : decode cc pc = .ok (.putfield 7, 3)) (kk : ∀ (H1 : Heap) (locs1 : List Loc), b_at G a (.inr (14, fs.set 1 v)) H1 → b_Up a H H1 → va_S (b_A B0) s.heap H1 locs1 → W p l e R s m args below meth c H1 locs1 cells slots Q (F0 m (pc + 3) ls rest)) : W p l e R s m args below meth c H locs cells slots Q (F0 m pc ls (v :: .ref a :: rest)) := b_putF CX in_X7 tyX7 tyX7_ok rfl 1 (by decide) (by decide +kernel) q1162 (Or.inl rfl) rfl hin2 rfl hP hS ha hn hfit hl hdg kk
theorem pf_X7_11_14 {p : Program} {l : Launch} {e : Env} {R : Room} {s : State} {m : MethodId} {args : Array Value} {below : List Frame} {meth : Method} {c : Code} {H : Heap} {locs : List Loc} {cells slots : Nat} {Q : State → Prop} {cc : ByteArray} {pc nL a : Nat} {ls : Array Slot} {rest : List Value} {G : b_G} {B0 : Nat} (CX : b_Cx p s m args c cc nL RX7 G B0) (hin2 : meth.name = "<init>") {fs : List Value} (hP : b_at G a (.inr (14, fs)) H) (hS : va_S (b_A B0) s.heap H locs) (ha : B0 ≤ a) {v : Value} (hn : narrow (tyX7 2) v = v) (hfit : fits (tyX7 2) v = true) (hl : 2 < fs.length) (hdg : decode cc pc = .ok (.putfield 11, 3)) (kk : ∀ (H1 : Heap) (locs1 : List Loc), b_at G a (.inr (14, fs.set 2 v)) H1 → b_Up a H H1 → va_S (b_A B0) s.heap H1 locs1 → W p l e R s m args below meth c H1 locs1 cells slots Q (F0 m (pc + 3) ls rest)) : W p l e R s m args below meth c H locs cells slots Q (F0 m pc ls (v :: .ref a :: rest)) := b_putF CX in_X7 tyX7 tyX7_ok rfl 2 (by decide) (by decide +kernel) q1163 (Or.inl rfl) rfl hin2 rfl hP hS ha hn hfit hl hdg kk
theorem cs_X7_14 {p : Program} {l : Launch} {e : Env} {R : Room} {s : State} {m : MethodId} {args : Array Value} {below : List Frame} {meth : Method} {c : Code} {H : Heap} {locs : List Loc} {cells slots : Nat} {cc : ByteArray} {pc nL a : Nat} {ls : Array Slot} {rest : List Value} {G : b_G} {B0 : Nat} (CX : b_Cx p s m args c cc nL RX7 G B0) (hls : ls.size = nL) {rm : Room} {mc ms : Nat} {As st0 : List Value} {Qc : Array Value → State → Outcome → State → Prop} (hM : Met l yX6_init (ws_ yX6_init cX6_init 2 (Option.none)) rm (b_Pc G B0 H (.ref a :: As)) Qc mc ms (b_A B0)) (hn : As.length = 1) (hS : va_S (b_A B0) s.heap H locs) (hst : st0 = As.reverse ++ .ref a :: rest) (hr : rm.cells = mc ∧ rm.slots = ms ∧ rm.frames + 1 ≤ R.frames ∧ 8 + (2 + 11) + rm.locals ≤ R.locals) (hw : (rest.map fun v => v.category).sum ≤ 8) (hdg : decode cc pc = .ok (.invokespecial 14, 3)) (hf : cells + mc ≤ R.cells ∧ slots + ms ≤ R.slots) : va_Run p l e R s m args below meth c H locs cells slots mc ms (F0 m pc ls st0) rest (Qc (Value.ref a :: As).toArray) (b_A B0) := va_runIN CX.fix hM (⟨va_cnB 1 CX.ts (lw_meth q1160) rfl hr.1 hr.2.1 (CX.K.2.1 _ q1158 rfl) (CX.ts _ q104) (by decide +kernel) ⟨hr.2.2.1, hr.2.2.2⟩, rfl, CX.ts _ q1159⟩) ⟨b_blind G B0 H _, b_pre _ CX.K hS⟩ rfl hn hls hst (lv_room hw) hdg hf
set_option maxHeartbeats 2000000 in
set_option maxRecDepth 100000 in
theorem m_X7_init (l : Launch) {G : b_G} {B0 : Nat} {H : Heap} {τ : b_T} {a : Nat} {ta : Nat} {ax : Nat} {b : Nat} {w_ : Int32} (hc_th : b_tt G B0 τ H a (ta) (.inr (14, [.null, .int (nI 0), .int (nI 0), .null]))) : Met l yX7_init (ws_ yX7_init cX7_init 4 (Option.none)) ({ frames := 2, cells := 0, slots := 0, locals := 41 } : Room) (b_Pc G B0 H [.ref a, .ref ax, .int (nI b), .int w_]) (b_Qv B0 (fun H1 => b_Up a H H1 ∧ b_tt G B0 τ H1 a (ta) (.inr (14, [.ref ax, .int (nI b), .int w_, .ref ax])))) 0 0 (b_A B0) := by
  refine b_of (by decide) (Nat.le_of_ble_eq_true rfl) ?_
  intro p e s m below meth c CX hr hlk hnm hS ls hl
  have CX : b_Cx p s m _ c cX7_init 4 RX7 G B0 := CX
  have hx := CX.hx
  have hb := CX.hb
  have hl : lv_has ls 4 [(0, .ref a), (1, .ref ax), (2, .int (nI b)), (3, .int w_)] := hl
  generalize hQ : MQ below (b_Qv B0 (fun H1 => b_Up a H H1 ∧ b_tt G B0 τ H1 a (ta) (.inr (14, [.ref ax, .int (nI b), .int w_, .ref ax])))) ([.ref a, .ref ax, .int (nI b), .int w_] : List Value).toArray s 0 0 (b_A B0) = Q
  have hU : b_Up a H H := b_Up.rf
  refine lv_aload_n hx hb dX7_init_0 rfl (lv_at hl 0 rfl) ?_
  refine lv_aload_n hx hb dX7_init_1 rfl (lv_at hl 1 rfl) ?_
  refine pa_X7_1_14 CX hnm hc_th.at hS hc_th.B rfl rfl (Nat.le_of_ble_eq_true rfl) (Nat.le_of_ble_eq_true rfl) dX7_init_2 (fun w1 H1 locs hw hat hu hS => ?_)
  have hU := hU.tr hu
  have hc_th : b_tt G B0 τ H1 a (ta) (.inr (14, [w1, .int (nI 0), .int (nI 0), .ref ax])) := hc_th.set hat
  refine lv_aload_n hx hb dX7_init_5 rfl (lv_at hl 0 rfl) ?_
  refine lv_iload_n hx hb dX7_init_6 rfl (lv_at hl 2 rfl) ?_
  refine pf_X7_7_14 CX hnm hc_th.at hS hc_th.B rfl rfl (Nat.le_of_ble_eq_true rfl) dX7_init_7 (fun H2 locs hat hu hS => ?_)
  have hU := hU.tr hu
  have hc_th : b_tt G B0 τ H2 a (ta) (.inr (14, [w1, .int (nI b), .int (nI 0), .ref ax])) := hc_th.set hat
  refine lv_aload_n hx hb dX7_init_10 rfl (lv_at hl 0 rfl) ?_
  refine lv_iload_n hx hb dX7_init_11 rfl (lv_at hl 3 rfl) ?_
  refine pf_X7_11_14 CX hnm hc_th.at hS hc_th.B rfl rfl (Nat.le_of_ble_eq_true rfl) dX7_init_12 (fun H3 locs hat hu hS => ?_)
  have hU := hU.tr hu
  have hc_th : b_tt G B0 τ H3 a (ta) (.inr (14, [w1, .int (nI b), .int w_, .ref ax])) := hc_th.set hat
  refine lv_aload_n hx hb dX7_init_15 rfl (lv_at hl 0 rfl) ?_
  refine lv_aload_n hx hb dX7_init_16 rfl (lv_at hl 1 rfl) ?_
  refine b_cv (cs_X7_14 (rest := []) CX hl.1 (m_X6_init_14 l (a := a) (ta := ta) (u0 := w1) (u1 := .int (nI b)) (u2 := .int w_) (ax := ax) hc_th) rfl hS rfl ⟨rfl, rfl, Nat.le_of_ble_eq_true rfl, Nat.le_of_ble_eq_true rfl⟩ (Nat.le_of_ble_eq_true rfl) dX7_init_17 ⟨Nat.le_of_ble_eq_true rfl, Nat.le_of_ble_eq_true rfl⟩) hS (fun H4 locs hp hS => ?_)
  obtain ⟨hu, hx0⟩ := hp
  have hU := hU.tr hu
  have hc_th : b_tt G B0 τ H4 a (ta) (.inr (14, [.ref ax, (.int (nI b)), (.int w_), .ref ax])) := hx0
  rw [← hQ]
  exact b_vret CX hr hlk hS (Nat.le_of_ble_eq_true rfl) (Nat.le_of_ble_eq_true rfl) dX7_init_20 (⟨hU, hc_th⟩)
theorem gf_X7_1_14 {p : Program} {l : Launch} {e : Env} {R : Room} {s : State} {m : MethodId} {args : Array Value} {below : List Frame} {meth : Method} {c : Code} {H : Heap} {locs : List Loc} {cells slots : Nat} {Q : State → Prop} {cc : ByteArray} {pc nL a : Nat} {ls : Array Slot} {rest : List Value} {G : b_G} {B0 : Nat} (CX : b_Cx p s m args c cc nL RX7 G B0) {fs : List Value} (hP : b_at G a (.inr (14, fs)) H) {v : Value} (hv : fs[3]? = some v) (hdg : decode cc pc = .ok (.getfield 1, 3)) (kk : W p l e R s m args below meth c H locs cells slots Q (F0 m (pc + 3) ls (v :: rest))) : W p l e R s m args below meth c H locs cells slots Q (F0 m pc ls (.ref a :: rest)) := b_get CX in_X7 rfl 3 (by decide) q1164 (Or.inl rfl) hP hv hdg kk
theorem gf_X7_20_0 {p : Program} {l : Launch} {e : Env} {R : Room} {s : State} {m : MethodId} {args : Array Value} {below : List Frame} {meth : Method} {c : Code} {H : Heap} {locs : List Loc} {cells slots : Nat} {Q : State → Prop} {cc : ByteArray} {pc nL a : Nat} {ls : Array Slot} {rest : List Value} {G : b_G} {B0 : Nat} (CX : b_Cx p s m args c cc nL RX7 G B0) {fs : List Value} (hP : b_at G a (.inr (0, fs)) H) {v : Value} (hv : fs[0]? = some v) (hdg : decode cc pc = .ok (.getfield 20, 3)) (kk : W p l e R s m args below meth c H locs cells slots Q (F0 m (pc + 3) ls (v :: rest))) : W p l e R s m args below meth c H locs cells slots Q (F0 m pc ls (.ref a :: rest)) := b_getN CX in_X1 rfl 0 (by decide) q253 (Or.inl rfl) hP hv hdg kk
theorem gf_X7_26_1 {p : Program} {l : Launch} {e : Env} {R : Room} {s : State} {m : MethodId} {args : Array Value} {below : List Frame} {meth : Method} {c : Code} {H : Heap} {locs : List Loc} {cells slots : Nat} {Q : State → Prop} {cc : ByteArray} {pc nL a : Nat} {ls : Array Slot} {rest : List Value} {G : b_G} {B0 : Nat} (CX : b_Cx p s m args c cc nL RX7 G B0) {fs : List Value} (hP : b_at G a (.inr (1, fs)) H) {v : Value} (hv : fs[0]? = some v) (hdg : decode cc pc = .ok (.getfield 26, 3)) (kk : W p l e R s m args below meth c H locs cells slots Q (F0 m (pc + 3) ls (v :: rest))) : W p l e R s m args below meth c H locs cells slots Q (F0 m pc ls (.ref a :: rest)) := b_getN CX in_X2 rfl 0 (by decide) q169 (Or.inl rfl) hP hv hdg kk
theorem gf_X7_7_14 {p : Program} {l : Launch} {e : Env} {R : Room} {s : State} {m : MethodId} {args : Array Value} {below : List Frame} {meth : Method} {c : Code} {H : Heap} {locs : List Loc} {cells slots : Nat} {Q : State → Prop} {cc : ByteArray} {pc nL a : Nat} {ls : Array Slot} {rest : List Value} {G : b_G} {B0 : Nat} (CX : b_Cx p s m args c cc nL RX7 G B0) {fs : List Value} (hP : b_at G a (.inr (14, fs)) H) {v : Value} (hv : fs[1]? = some v) (hdg : decode cc pc = .ok (.getfield 7, 3)) (kk : W p l e R s m args below meth c H locs cells slots Q (F0 m (pc + 3) ls (v :: rest))) : W p l e R s m args below meth c H locs cells slots Q (F0 m pc ls (.ref a :: rest)) := b_get CX in_X7 rfl 1 (by decide) q1162 (Or.inl rfl) hP hv hdg kk
theorem cs_X7_32 {p : Program} {l : Launch} {e : Env} {R : Room} {s : State} {m : MethodId} {args : Array Value} {below : List Frame} {meth : Method} {c : Code} {H : Heap} {locs : List Loc} {cells slots : Nat} {cc : ByteArray} {pc nL a : Nat} {ls : Array Slot} {rest : List Value} {G : b_G} {B0 : Nat} (CX : b_Cx p s m args c cc nL RX7 G B0) (hls : ls.size = nL) {rm : Room} {mc ms : Nat} {As st0 : List Value} {Qc : Array Value → State → Outcome → State → Prop} (hM : Met l yJ2_get (ws_ yJ2_get cJ2_get 2 (Option.some (Jvm.ClassFile.FieldType.object "java/lang/Object"))) rm (b_Pc G B0 H (.ref a :: As)) Qc mc ms (b_A B0)) (hn : As.length = 1) {fs : List Value} {ci : Nat} {qc : vw_C} (hc : b_cl[ci]? = some qc) (hq : qc.1 = RJ2) (hP : b_at G a (.inr (ci, fs)) H) (hS : va_S (b_A B0) s.heap H locs) (hst : st0 = As.reverse ++ .ref a :: rest) (hr : rm.cells = mc ∧ rm.slots = ms ∧ rm.frames + 1 ≤ R.frames ∧ 8 + (2 + 11) + rm.locals ≤ R.locals) (hw : (rest.map fun v => v.category).sum ≤ 8) (hdg : decode cc pc = .ok (.invokevirtual 32, 3)) (hf : cells + mc ≤ R.cells ∧ slots + ms ≤ R.slots) : va_Run p l e R s m args below meth c H locs cells slots mc ms (F0 m pc ls st0) rest (Qc (Value.ref a :: As).toArray) (b_A B0) := va_runV CX.fix hM (cwV 1 CX.ts (lw_V q1314 q796 q797 q83 q798) rfl hr.1 hr.2.1 (by decide +kernel) ⟨hr.2.2.1, hr.2.2.2⟩) ⟨b_blind G B0 H _, by have h9 := b_recv CX.K hc hP; rw [hq] at h9; exact h9, b_pre _ CX.K hS⟩ rfl hn hls hst (lv_room hw) hdg hf
theorem gf_X7_11_14 {p : Program} {l : Launch} {e : Env} {R : Room} {s : State} {m : MethodId} {args : Array Value} {below : List Frame} {meth : Method} {c : Code} {H : Heap} {locs : List Loc} {cells slots : Nat} {Q : State → Prop} {cc : ByteArray} {pc nL a : Nat} {ls : Array Slot} {rest : List Value} {G : b_G} {B0 : Nat} (CX : b_Cx p s m args c cc nL RX7 G B0) {fs : List Value} (hP : b_at G a (.inr (14, fs)) H) {v : Value} (hv : fs[2]? = some v) (hdg : decode cc pc = .ok (.getfield 11, 3)) (kk : W p l e R s m args below meth c H locs cells slots Q (F0 m (pc + 3) ls (v :: rest))) : W p l e R s m args below meth c H locs cells slots Q (F0 m pc ls (.ref a :: rest)) := b_get CX in_X7 rfl 2 (by decide) q1163 (Or.inl rfl) hP hv hdg kk
theorem cx_X7_40 {p : Program} {l : Launch} {e : Env} {R : Room} {s : State} {m : MethodId} {args : Array Value} {below : List Frame} {meth : Method} {c : Code} {H : Heap} {locs : List Loc} {cells slots : Nat} {cc : ByteArray} {pc nL a : Nat} {ls : Array Slot} {rest : List Value} {G : b_G} {B0 : Nat} (CX : b_Cx p s m args c cc nL RX7 G B0) (hls : ls.size = nL) {rm : Room} {mc ms : Nat} {As st0 : List Value} {Qc : Array Value → State → Outcome → State → Prop} {XC : String → Addr → State → State → Prop} (hM : vx_Met l yX2_tryFill (ws_ yX2_tryFill cX2_tryFill 3 (Option.none)) rm (b_Pc G B0 H (.ref a :: As)) Qc XC mc ms (b_A B0)) (hn : As.length = 2) {fs : List Value} {ci : Nat} {qc : vw_C} (hc : b_cl[ci]? = some qc) (hq : qc.1 = RX2) (hP : b_at G a (.inr (ci, fs)) H) (hS : va_S (b_A B0) s.heap H locs) (hst : st0 = As.reverse ++ .ref a :: rest) (hr : rm.cells = mc ∧ rm.slots = ms ∧ rm.frames + 1 ≤ R.frames ∧ 8 + (3 + 11) + rm.locals ≤ R.locals) (hw : (rest.map fun v => v.category).sum ≤ 8) (hdg : decode cc pc = .ok (.invokevirtual 40, 3)) (hf : cells + mc ≤ R.cells ∧ slots + ms ≤ R.slots) : vx_Run p l e R s m args below meth c H locs cells slots mc ms (F0 m pc ls st0) rest (Qc (Value.ref a :: As).toArray) XC (b_A B0) := vx_runV CX.fix hM (cwV 2 CX.ts (lw_V q1316 q1317 q1318 q80 q1319) rfl hr.1 hr.2.1 (by decide +kernel) ⟨hr.2.2.1, hr.2.2.2⟩) ⟨b_blind G B0 H _, by have h9 := b_recv CX.K hc hP; rw [hq] at h9; exact h9, b_pre _ CX.K hS⟩ rfl hn hls hst (lv_room hw) hdg hf
set_option maxHeartbeats 2000000 in
set_option maxRecDepth 100000 in
theorem m_X7_check (l : Launch) {G : b_G} {B0 : Nat} {H : Heap} {τ : b_T} {id : Nat} {F : Nat → Nat} {M : Nat → Int32} {E : Nat → Bool} {S : b_St} {Z : Nat → Nat → Int32} {da : Nat} {td : Nat} {a : Nat} {asv : Nat} {atx : Nat} {atk : Nat} {hs : Int64} {b : Nat} {w_ : Int32} (hc_D : b_tt G B0 τ H da (td) (.inr (14, [.ref a, .int (nI b), .int w_, .ref a]))) (hc_X : b_tt G B0 τ H a 0 (.inr (0, [.ref ((F 0)), .ref asv, .ref atx, .ref atk, .long hs]))) (hL : LR G B0 τ id F M E H S Z) (hW : b_WF S) (hBb : b < nb S) : vx_Met l yX7_check (ws_ yX7_check cX7_check 1 (Option.none)) ({ frames := 7, cells := 1, slots := 6, locals := 150 } : Room) (b_Pc G B0 H [.ref da]) (b_Qv B0 (fun H1 => ((c_lt (S 1 b 1) w_) = nI 0) ∧ H1 = H)) (b_X B0 (fun E9 q9 H9 => e_px G B0 H (c_lt (S 1 b 1) w_) E9 q9 H9)) 1 6 (b_A B0) := by
  refine b_ofX (by decide) (Nat.le_of_ble_eq_true rfl) ?_
  intro p e s m below meth c CX hr hlk htb hS ls hl
  have CX : b_Cx p s m _ c cX7_check 1 RX7 G B0 := CX
  have hx := CX.hx
  have hb := CX.hb
  have hl : lv_has ls 1 [(0, .ref da)] := hl
  generalize hQ : vx_MQ below (b_Qv B0 (fun H1 => ((c_lt (S 1 b 1) w_) = nI 0) ∧ H1 = H)) (b_X B0 (fun E9 q9 H9 => e_px G B0 H (c_lt (S 1 b 1) w_) E9 q9 H9)) ([.ref da] : List Value).toArray s 1 6 (b_A B0) = Q
  have hX : b_Ext H H := b_Ext.rf
  have hnb : nb S = nb S := rfl
  have hns : ns S = ns S := rfl
  have hn8 := hL.2.2.2.1
  have hn6 := hL.2.2.2.2
  refine lv_aload_n hx hb dX7_check_0 rfl (lv_at hl 0 rfl) ?_
  refine gf_X7_1_14 CX hc_D.at rfl dX7_check_1 ?_
  refine gf_X7_20_0 CX hc_X.at rfl dX7_check_4 ?_
  refine lv_aload_n hx hb dX7_check_7 rfl (lv_at hl 0 rfl) ?_
  refine gf_X7_1_14 CX hc_D.at rfl dX7_check_8 ?_
  refine gf_X7_20_0 CX hc_X.at rfl dX7_check_11 ?_
  refine gf_X7_26_1 CX hL.loop.at rfl dX7_check_14 ?_
  refine lv_aload_n hx hb dX7_check_17 rfl (lv_at hl 0 rfl) ?_
  refine gf_X7_7_14 CX hc_D.at rfl dX7_check_18 ?_
  refine b_cq0 (cs_X7_32 (rest := [.ref ((F 0))]) CX hl.1 (m_J2_get l (a := (F 1)) (ta := 1000 * id + 1) (mc := M 1) (ra := (F 2)) (tr := 1000 * id + 2) (f := (fun j => F (20 + j))) (n := nb S) (i := b) (hL.alg1 hW (by omega)) (hL.arg2 (by omega)) (by omega) (by omega)) rfl rfl rfl (hL.alg1 hW (by omega)).at hS rfl ⟨rfl, rfl, Nat.le_of_ble_eq_true rfl, Nat.le_of_ble_eq_true rfl⟩ (Nat.le_of_ble_eq_true rfl) dX7_check_21 ⟨Nat.le_of_ble_eq_true rfl, Nat.le_of_ble_eq_true rfl⟩) hS (fun locs hS => ?_)
  refine b_cast CX (ci := 4) rfl (hL.brand (k := b) (by omega)).at q1315 dX7_check_24 ?_
  refine lv_aload_n hx hb dX7_check_27 rfl (lv_at hl 0 rfl) ?_
  refine gf_X7_11_14 CX hc_D.at rfl dX7_check_28 ?_
  refine b_xv0 (cx_X7_40 (rest := []) CX hl.1 (m_X2_tryFill l (b := b) (w_ := w_) hL hW (by omega)) rfl rfl rfl hL.loop.at hS rfl ⟨rfl, rfl, Nat.le_of_ble_eq_true rfl, Nat.le_of_ble_eq_true rfl⟩ (Nat.le_of_ble_eq_true rfl) dX7_check_31 ⟨Nat.le_of_ble_eq_true rfl, Nat.le_of_ble_eq_true rfl⟩) hS (fun E9 q9 Hx1 locs hx9 hS he9 => ?_) (fun hk_31 locs hS => ?_)
  · rw [← hQ]
    exact b_xout htb hlk he9 hS (Nat.le_of_ble_eq_true rfl) (Nat.le_of_ble_eq_true rfl) (hx9)
  rw [← hQ]
  exact vx_ret (b_vret CX hr hlk hS (Nat.le_of_ble_eq_true rfl) (Nat.le_of_ble_eq_true rfl) dX7_check_34 (⟨(by exact hk_31), rfl⟩))
theorem cs_X7_44 {p : Program} {l : Launch} {e : Env} {R : Room} {s : State} {m : MethodId} {args : Array Value} {below : List Frame} {meth : Method} {c : Code} {H : Heap} {locs : List Loc} {cells slots : Nat} {cc : ByteArray} {pc nL a : Nat} {ls : Array Slot} {rest : List Value} {G : b_G} {B0 : Nat} (CX : b_Cx p s m args c cc nL RX7 G B0) (hls : ls.size = nL) {rm : Room} {mc ms : Nat} {As st0 : List Value} {Qc : Array Value → State → Outcome → State → Prop} (hM : Met l yX2_fill (ws_ yX2_fill cX2_fill 4 (Option.some Jvm.ClassFile.FieldType.int)) rm (b_Pc G B0 H (.ref a :: As)) Qc mc ms (b_A B0)) (hn : As.length = 2) {fs : List Value} {ci : Nat} {qc : vw_C} (hc : b_cl[ci]? = some qc) (hq : qc.1 = RX2) (hP : b_at G a (.inr (ci, fs)) H) (hS : va_S (b_A B0) s.heap H locs) (hst : st0 = As.reverse ++ .ref a :: rest) (hr : rm.cells = mc ∧ rm.slots = ms ∧ rm.frames + 1 ≤ R.frames ∧ 8 + (4 + 11) + rm.locals ≤ R.locals) (hw : (rest.map fun v => v.category).sum ≤ 8) (hdg : decode cc pc = .ok (.invokevirtual 44, 3)) (hf : cells + mc ≤ R.cells ∧ slots + ms ≤ R.slots) : va_Run p l e R s m args below meth c H locs cells slots mc ms (F0 m pc ls st0) rest (Qc (Value.ref a :: As).toArray) (b_A B0) := va_runV CX.fix hM (cwV 2 CX.ts (lw_V q1406 q1407 q1408 q80 q1409) rfl hr.1 hr.2.1 (by decide +kernel) ⟨hr.2.2.1, hr.2.2.2⟩) ⟨b_blind G B0 H _, by have h9 := b_recv CX.K hc hP; rw [hq] at h9; exact h9, b_pre _ CX.K hS⟩ rfl hn hls hst (lv_room hw) hdg hf
set_option maxHeartbeats 2000000 in
set_option maxRecDepth 100000 in
theorem m_X7_does (l : Launch) {G : b_G} {B0 : Nat} {H : Heap} {τ : b_T} {id : Nat} {F : Nat → Nat} {M : Nat → Int32} {E : Nat → Bool} {S : b_St} {Z : Nat → Nat → Int32} {da : Nat} {td : Nat} {a : Nat} {asv : Nat} {atx : Nat} {atk : Nat} {hs : Int64} {b : Nat} {w_ : Int32} (hc_D : b_tt G B0 τ H da (td) (.inr (14, [.ref a, .int (nI b), .int w_, .ref a]))) (hc_X : b_tt G B0 τ H a 0 (.inr (0, [.ref ((F 0)), .ref asv, .ref atx, .ref atk, .long hs]))) (hL : LR G B0 τ id F M E H S Z) (hW : b_WF S) (hBb : b < nb S) (hi0 : 0 < id) (htd : td < 1000) : Met l yX7_does (ws_ yX7_does cX7_does 1 (Option.some Jvm.ClassFile.FieldType.int)) ({ frames := 3, cells := 0, slots := 0, locals := 64 } : Room) (b_Pc G B0 H [.ref da]) (b_Qi B0 (fun r H1 => r = p_full S b w_ ∧ b_Fr τ (fun t => 1000 * id ≤ t ∧ t < 1000 * id + 1000) H H1 ∧ LR G B0 τ id F M E H1 ((s_fill S b w_)) Z)) 0 0 (b_A B0) := by
  refine b_of (by decide) (Nat.le_of_ble_eq_true rfl) ?_
  intro p e s m below meth c CX hr hlk hnm hS ls hl
  have CX : b_Cx p s m _ c cX7_does 1 RX7 G B0 := CX
  have hx := CX.hx
  have hb := CX.hb
  have hl : lv_has ls 1 [(0, .ref da)] := hl
  generalize hQ : MQ below (b_Qi B0 (fun r H1 => r = p_full S b w_ ∧ b_Fr τ (fun t => 1000 * id ≤ t ∧ t < 1000 * id + 1000) H H1 ∧ LR G B0 τ id F M E H1 ((s_fill S b w_)) Z)) ([.ref da] : List Value).toArray s 0 0 (b_A B0) = Q
  have hF : b_Fr τ (fun t => 1000 * id ≤ t ∧ t < 1000 * id + 1000) H H := b_Fr.rf
  have hA : b_Ag τ τ H := b_Ag.rf
  have hnb : nb S = nb S := rfl
  have hns : ns S = ns S := rfl
  have hn8 := hL.2.2.2.1
  have hn6 := hL.2.2.2.2
  refine lv_aload_n hx hb dX7_does_0 rfl (lv_at hl 0 rfl) ?_
  refine gf_X7_1_14 CX hc_D.at rfl dX7_does_1 ?_
  refine gf_X7_20_0 CX hc_X.at rfl dX7_does_4 ?_
  refine lv_aload_n hx hb dX7_does_7 rfl (lv_at hl 0 rfl) ?_
  refine gf_X7_1_14 CX hc_D.at rfl dX7_does_8 ?_
  refine gf_X7_20_0 CX hc_X.at rfl dX7_does_11 ?_
  refine gf_X7_26_1 CX hL.loop.at rfl dX7_does_14 ?_
  refine lv_aload_n hx hb dX7_does_17 rfl (lv_at hl 0 rfl) ?_
  refine gf_X7_7_14 CX hc_D.at rfl dX7_does_18 ?_
  refine b_cq0 (cs_X7_32 (rest := [.ref ((F 0))]) CX hl.1 (m_J2_get l (a := (F 1)) (ta := 1000 * id + 1) (mc := M 1) (ra := (F 2)) (tr := 1000 * id + 2) (f := (fun j => F (20 + j))) (n := nb S) (i := b) (hL.alg1 hW (by omega)) (hL.arg2 (by omega)) (by omega) (by omega)) rfl rfl rfl (hL.alg1 hW (by omega)).at hS rfl ⟨rfl, rfl, Nat.le_of_ble_eq_true rfl, Nat.le_of_ble_eq_true rfl⟩ (Nat.le_of_ble_eq_true rfl) dX7_does_21 ⟨Nat.le_of_ble_eq_true rfl, Nat.le_of_ble_eq_true rfl⟩) hS (fun locs hS => ?_)
  refine b_cast CX (ci := 4) rfl (hL.brand (k := b) (by omega)).at q1315 dX7_does_24 ?_
  refine lv_aload_n hx hb dX7_does_27 rfl (lv_at hl 0 rfl) ?_
  refine gf_X7_11_14 CX hc_D.at rfl dX7_does_28 ?_
  refine b_ci (cs_X7_44 (rest := []) CX hl.1 (m_X2_fill l (b := b) (n_ := w_) hL hW (by omega)) rfl rfl rfl hL.loop.at hS rfl ⟨rfl, rfl, Nat.le_of_ble_eq_true rfl, Nat.le_of_ble_eq_true rfl⟩ (Nat.le_of_ble_eq_true rfl) dX7_does_31 ⟨Nat.le_of_ble_eq_true rfl, Nat.le_of_ble_eq_true rfl⟩) hS (fun r H1 locs hp hS => ?_)
  obtain ⟨rfl, hF9, hL9⟩ := hp
  have hc_D := hc_D.fr hF9 (show ¬ (1000 * id ≤ (td) ∧ (td) < 1000 * id + 1000) by omega)
  have hc_X := hc_X.fr hF9 (show ¬ (1000 * id ≤ 0 ∧ 0 < 1000 * id + 1000) by omega)
  have hF := hF.tr hA hF9 (fun q9 hq9 x9 => by have x8 : 1000 * id ≤ τ q9 ∧ τ q9 < 1000 * id + 1000 := x9; show 1000 * id ≤ τ q9 ∧ τ q9 < 1000 * id + 1000; omega)
  have hL : LR G B0 τ id F M E H1 ((s_fill S b w_)) Z := hL9
  rw [← hQ]
  exact b_iret CX hr hlk hS (Nat.le_of_ble_eq_true rfl) (Nat.le_of_ble_eq_true rfl) dX7_does_34 (⟨rfl, hF, hL⟩)
theorem cx_X6_15_14 {p : Program} {l : Launch} {e : Env} {R : Room} {s : State} {m : MethodId} {args : Array Value} {below : List Frame} {meth : Method} {c : Code} {H : Heap} {locs : List Loc} {cells slots : Nat} {cc : ByteArray} {pc nL a : Nat} {ls : Array Slot} {rest : List Value} {G : b_G} {B0 : Nat} (CX : b_Cx p s m args c cc nL RX6 G B0) (hls : ls.size = nL) {rm : Room} {mc ms : Nat} {As st0 : List Value} {Qc : Array Value → State → Outcome → State → Prop} {XC : String → Addr → State → State → Prop} (hM : vx_Met l yX7_check (ws_ yX7_check cX7_check 1 (Option.none)) rm (b_Pc G B0 H (.ref a :: As)) Qc XC mc ms (b_A B0)) (hn : As.length = 0) {fs : List Value} (hP : b_at G a (.inr (14, fs)) H) (hS : va_S (b_A B0) s.heap H locs) (hst : st0 = As.reverse ++ .ref a :: rest) (hr : rm.cells = mc ∧ rm.slots = ms ∧ rm.frames + 1 ≤ R.frames ∧ 8 + (1 + 11) + rm.locals ≤ R.locals) (hw : (rest.map fun v => v.category).sum ≤ 8) (hdg : decode cc pc = .ok (.invokevirtual 15, 3)) (hf : cells + mc ≤ R.cells ∧ slots + ms ≤ R.slots) : vx_Run p l e R s m args below meth c H locs cells slots mc ms (F0 m pc ls st0) rest (Qc (Value.ref a :: As).toArray) XC (b_A B0) := vx_runU CX.fix hM (va_cwA (C := RX7) (owner := RX6) 0 CX.ts (lw_U q1198 q1200 q1311 q1312 q105 q1313) rfl hr.1 hr.2.1 (CX.K.2.1 _ q1199 rfl) ⟨by decide, by decide, by decide +kernel⟩ ⟨hr.2.2.1, hr.2.2.2⟩) ⟨b_blind G B0 H _, b_recv CX.K (ci := 14) rfl hP, b_pre _ CX.K hS⟩ rfl hn hls hst (lv_room hw) hdg hf
set_option maxHeartbeats 2000000 in
set_option maxRecDepth 100000 in
theorem m_X6_reason_14 (l : Launch) {G : b_G} {B0 : Nat} {H : Heap} {τ : b_T} {id : Nat} {F : Nat → Nat} {M : Nat → Int32} {E : Nat → Bool} {S : b_St} {Z : Nat → Nat → Int32} {da : Nat} {td : Nat} {a : Nat} {asv : Nat} {atx : Nat} {atk : Nat} {hs : Int64} {b : Nat} {w_ : Int32} (hc_D : b_tt G B0 τ H da (td) (.inr (14, [.ref a, .int (nI b), .int w_, .ref a]))) (hc_X : b_tt G B0 τ H a 0 (.inr (0, [.ref ((F 0)), .ref asv, .ref atx, .ref atk, .long hs]))) (hL : LR G B0 τ id F M E H S Z) (hW : b_WF S) (hBb : b < nb S) : vx_Met l yX6_reason (wsW_ yX6_reason cX6_reason 2 (Option.some Jvm.ClassFile.FieldType.int) [((0 : Nat), (5 : Nat), (6 : Nat), (18 : Nat)), ((0 : Nat), (5 : Nat), (6 : Nat), (20 : Nat)), ((0 : Nat), (5 : Nat), (6 : Nat), (22 : Nat)), ((0 : Nat), (5 : Nat), (12 : Nat), (25 : Nat))]) ({ frames := 8, cells := 1, slots := 6, locals := 170 } : Room) (b_Pc G B0 H [.ref da]) (b_Qi B0 (fun r H1 => r = (c_lt (S 1 b 1) w_) ∧ b_Ext H H1)) (b_X B0 (fun E9 q9 H9 => False)) 1 6 (b_A B0) := by
  refine b_ofXW (by decide) (Nat.le_of_ble_eq_true rfl) ?_
  intro p e s m below meth c CX hr hlk htb hS ls hl
  have CX : b_Cx p s m _ c cX6_reason 2 RX6 G B0 := CX
  have hx := CX.hx
  have hb := CX.hb
  have hl : lv_has ls 2 [(0, .ref da)] := hl
  generalize hQ : vx_MQ below (b_Qi B0 (fun r H1 => r = (c_lt (S 1 b 1) w_) ∧ b_Ext H H1)) (b_X B0 (fun E9 q9 H9 => False)) ([.ref da] : List Value).toArray s 1 6 (b_A B0) = Q
  have hX : b_Ext H H := b_Ext.rf
  have hnb : nb S = nb S := rfl
  have hns : ns S = ns S := rfl
  have hn8 := hL.2.2.2.1
  have hn6 := hL.2.2.2.2
  refine lv_aload_n hx hb dX6_reason_0 rfl (lv_at hl 0 rfl) ?_
  refine b_xv0 (cx_X6_15_14 (rest := []) CX hl.1 (m_X7_check l (da := da) (td := td) (a := a) (asv := asv) (atx := atx) (atk := atk) (hs := hs) (b := b) (w_ := w_) hc_D hc_X hL hW (by omega)) rfl hc_D.at hS rfl ⟨rfl, rfl, Nat.le_of_ble_eq_true rfl, Nat.le_of_ble_eq_true rfl⟩ (Nat.le_of_ble_eq_true rfl) dX6_reason_1 ⟨Nat.le_of_ble_eq_true rfl, Nat.le_of_ble_eq_true rfl⟩) hS (fun E9 q9 Hx1 locs hx9 hS he9 => ?_) (fun hk_1 locs hS => ?_)
  · obtain ⟨hE, hz, hB, v9, hv9, hcd, hnm9, hat⟩ := hx9
    rcases hv9 with rfl | rfl | rfl
    · obtain rfl := hnm9
      refine b_xcatch CX (E := "BottleLoop$NoBottles") (name := "BottleLoop$NoBottles") [] ⟨0, 5, 6, 18⟩ [⟨0, 5, 6, 20⟩, ⟨0, 5, 6, 22⟩, ⟨0, 5, 12, 25⟩] (by rw [htb]; rfl) (fun z hz9 => nomatch hz9) (by decide) (by decide) q1194 (CX.nw q1215 rfl rfl) he9 ?_
      have hc_D := hc_D.ad (tb := 101) hE hz
      have hc_X := hc_X.ad (tb := 101) hE hz
      have hL := hL.ad (tb := 101) hE hz
      have fr_ex : H.size ≤ q9 := Nat.le_trans hX.1 hz
      have hX := hX.tr hE
      have hc_ex : b_tt G B0 ((upT τ q9 101)) Hx1 q9 101 (.inr (18, [.null, .null, .null, .null, .null, .int (nI 0)])) := b_tt.mk hat hB
      refine lv_astore_n (lv' := [(1, .ref q9), (0, .ref da)]) hx hb dX6_reason_6 rfl hl (Nat.le_of_ble_eq_true rfl) rfl (fun ls hl => ?_)
      refine lv_aload_n hx hb dX6_reason_7 rfl (lv_at hl 0 rfl) ?_
      refine b_ci0 (cs_X6_24_18 (rest := []) CX hl.1 (m_X9_number l (a := q9) (ta := 101) hc_ex) rfl hc_ex.at hS rfl ⟨rfl, rfl, Nat.le_of_ble_eq_true rfl, Nat.le_of_ble_eq_true rfl⟩ (Nat.le_of_ble_eq_true rfl) dX6_reason_8 ⟨Nat.le_of_ble_eq_true rfl, Nat.le_of_ble_eq_true rfl⟩) hS (fun locs hS => ?_)
      rw [← hQ]
      exact vx_ret (b_iret CX hr hlk hS (Nat.le_of_ble_eq_true rfl) (Nat.le_of_ble_eq_true rfl) dX6_reason_11 (⟨(by first | exact hk_1.symm | exact hcd.symm), hX⟩))
    · obtain rfl := hnm9
      refine b_xcatch CX (E := "BottleLoop$NoCrates") (name := "BottleLoop$NoCrates") [⟨0, 5, 6, 18⟩] ⟨0, 5, 6, 20⟩ [⟨0, 5, 6, 22⟩, ⟨0, 5, 12, 25⟩] (by rw [htb]; rfl) (fun z hz9 => by rcases List.mem_cons.mp hz9 with rfl | h9; exact Or.inr ⟨by decide, "BottleLoop$NoBottles", q1194, by decide⟩; exact nomatch h9) (by decide) (by decide) q1195 (CX.nw q1242 rfl rfl) he9 ?_
      have hc_D := hc_D.ad (tb := 101) hE hz
      have hc_X := hc_X.ad (tb := 101) hE hz
      have hL := hL.ad (tb := 101) hE hz
      have fr_ex : H.size ≤ q9 := Nat.le_trans hX.1 hz
      have hX := hX.tr hE
      have hc_ex : b_tt G B0 ((upT τ q9 101)) Hx1 q9 101 (.inr (19, [.null, .null, .null, .null, .null, .int (nI 0)])) := b_tt.mk hat hB
      refine lv_astore_n (lv' := [(1, .ref q9), (0, .ref da)]) hx hb dX6_reason_6 rfl hl (Nat.le_of_ble_eq_true rfl) rfl (fun ls hl => ?_)
      refine lv_aload_n hx hb dX6_reason_7 rfl (lv_at hl 0 rfl) ?_
      refine b_ci0 (cs_X6_24_19 (rest := []) CX hl.1 (m_X10_number l (a := q9) (ta := 101) hc_ex) rfl hc_ex.at hS rfl ⟨rfl, rfl, Nat.le_of_ble_eq_true rfl, Nat.le_of_ble_eq_true rfl⟩ (Nat.le_of_ble_eq_true rfl) dX6_reason_8 ⟨Nat.le_of_ble_eq_true rfl, Nat.le_of_ble_eq_true rfl⟩) hS (fun locs hS => ?_)
      rw [← hQ]
      exact vx_ret (b_iret CX hr hlk hS (Nat.le_of_ble_eq_true rfl) (Nat.le_of_ble_eq_true rfl) dX6_reason_11 (⟨(by first | exact hk_1.symm | exact hcd.symm), hX⟩))
    · obtain rfl := hnm9
      refine b_xcatch CX (E := "BottleLoop$NoMoney") (name := "BottleLoop$NoMoney") [⟨0, 5, 6, 18⟩, ⟨0, 5, 6, 20⟩] ⟨0, 5, 6, 22⟩ [⟨0, 5, 12, 25⟩] (by rw [htb]; rfl) (fun z hz9 => by rcases List.mem_cons.mp hz9 with rfl | h9; exact Or.inr ⟨by decide, "BottleLoop$NoBottles", q1194, by decide⟩; rcases List.mem_cons.mp h9 with rfl | h8; exact Or.inr ⟨by decide, "BottleLoop$NoCrates", q1195, by decide⟩; exact nomatch h8) (by decide) (by decide) q1196 (CX.nw q1261 rfl rfl) he9 ?_
      have hc_D := hc_D.ad (tb := 101) hE hz
      have hc_X := hc_X.ad (tb := 101) hE hz
      have hL := hL.ad (tb := 101) hE hz
      have fr_ex : H.size ≤ q9 := Nat.le_trans hX.1 hz
      have hX := hX.tr hE
      have hc_ex : b_tt G B0 ((upT τ q9 101)) Hx1 q9 101 (.inr (20, [.null, .null, .null, .null, .null, .int (nI 0)])) := b_tt.mk hat hB
      refine lv_astore_n (lv' := [(1, .ref q9), (0, .ref da)]) hx hb dX6_reason_6 rfl hl (Nat.le_of_ble_eq_true rfl) rfl (fun ls hl => ?_)
      refine lv_aload_n hx hb dX6_reason_7 rfl (lv_at hl 0 rfl) ?_
      refine b_ci0 (cs_X6_24_20 (rest := []) CX hl.1 (m_X11_number l (a := q9) (ta := 101) hc_ex) rfl hc_ex.at hS rfl ⟨rfl, rfl, Nat.le_of_ble_eq_true rfl, Nat.le_of_ble_eq_true rfl⟩ (Nat.le_of_ble_eq_true rfl) dX6_reason_8 ⟨Nat.le_of_ble_eq_true rfl, Nat.le_of_ble_eq_true rfl⟩) hS (fun locs hS => ?_)
      rw [← hQ]
      exact vx_ret (b_iret CX hr hlk hS (Nat.le_of_ble_eq_true rfl) (Nat.le_of_ble_eq_true rfl) dX6_reason_11 (⟨(by first | exact hk_1.symm | exact hcd.symm), hX⟩))
  refine lv_iconst (v := nI 0) hx hb dX6_reason_4 rfl ?_
  rw [← hQ]
  exact vx_ret (b_iret CX hr hlk hS (Nat.le_of_ble_eq_true rfl) (Nat.le_of_ble_eq_true rfl) dX6_reason_5 (⟨(by first | exact hk_1.symm | exact hcd.symm), hX⟩))
theorem pa_X6_3_15 {p : Program} {l : Launch} {e : Env} {R : Room} {s : State} {m : MethodId} {args : Array Value} {below : List Frame} {meth : Method} {c : Code} {H : Heap} {locs : List Loc} {cells slots : Nat} {Q : State → Prop} {cc : ByteArray} {pc nL a : Nat} {ls : Array Slot} {rest : List Value} {G : b_G} {B0 : Nat} (CX : b_Cx p s m args c cc nL RX6 G B0) (hin2 : meth.name = "<init>") {fs : List Value} (hP : b_at G a (.inr (15, fs)) H) (hS : va_S (b_A B0) s.heap H locs) (ha : B0 ≤ a) {v : Value} (hn : narrow (tyX16 0) v = v) (hfit : fits (tyX16 0) v = true) (hl : 0 < fs.length) (hl2 : 3 < fs.length) (hdg : decode cc pc = .ok (.putfield 3, 3)) (kk : ∀ (w : Value) (H1 : Heap) (locs1 : List Loc), (w = v ∨ fs[3]? = some w) → b_at G a (.inr (15, (fs.set 0 v).set 3 w)) H1 → b_Up a H H1 → va_S (b_A B0) s.heap H1 locs1 → W p l e R s m args below meth c H1 locs1 cells slots Q (F0 m (pc + 3) ls rest)) : W p l e R s m args below meth c H locs cells slots Q (F0 m pc ls (v :: .ref a :: rest)) := b_putFA CX in_X16 tyX16 tyX16_ok rfl 0 3 (by decide) (by decide +kernel) q1165 (Or.inl rfl) rfl hin2 rfl hP hS ha hn hfit hl hl2 (by decide) hdg kk
set_option maxHeartbeats 2000000 in
set_option maxRecDepth 100000 in
theorem m_X6_init_15 (l : Launch) {G : b_G} {B0 : Nat} {H : Heap} {τ : b_T} {a : Nat} {ta : Nat} {ax : Nat} {u0 : Value} {u1 : Value} {u2 : Value} (hc_th : b_tt G B0 τ H a (ta) (.inr (15, [u0, u1, u2, .ref ax]))) : Met l yX6_init (ws_ yX6_init cX6_init 2 (Option.none)) ({ frames := 1, cells := 0, slots := 0, locals := 20 } : Room) (b_Pc G B0 H [.ref a, .ref ax]) (b_Qv B0 (fun H1 => b_Up a H H1 ∧ b_tt G B0 τ H1 a (ta) (.inr (15, [.ref ax, u1, u2, .ref ax])))) 0 0 (b_A B0) := by
  refine b_of (by decide) (Nat.le_of_ble_eq_true rfl) ?_
  intro p e s m below meth c CX hr hlk hnm hS ls hl
  have CX : b_Cx p s m _ c cX6_init 2 RX6 G B0 := CX
  have hx := CX.hx
  have hb := CX.hb
  have hl : lv_has ls 2 [(0, .ref a), (1, .ref ax)] := hl
  generalize hQ : MQ below (b_Qv B0 (fun H1 => b_Up a H H1 ∧ b_tt G B0 τ H1 a (ta) (.inr (15, [.ref ax, u1, u2, .ref ax])))) ([.ref a, .ref ax] : List Value).toArray s 0 0 (b_A B0) = Q
  have hU : b_Up a H H := b_Up.rf
  refine lv_aload_n hx hb dX6_init_0 rfl (lv_at hl 0 rfl) ?_
  refine lv_aload_n hx hb dX6_init_1 rfl (lv_at hl 1 rfl) ?_
  refine pa_X6_3_15 CX hnm hc_th.at hS hc_th.B rfl rfl (Nat.le_of_ble_eq_true rfl) (Nat.le_of_ble_eq_true rfl) dX6_init_2 (fun w1 H1 locs hw hat hu hS => ?_)
  obtain rfl := hw.elim (fun h9 => h9) (fun h9 => (Option.some.inj h9).symm)
  have hU := hU.tr hu
  have hc_th : b_tt G B0 τ H1 a (ta) (.inr (15, [.ref ax, u1, u2, .ref ax])) := hc_th.set hat
  refine lv_aload_n hx hb dX6_init_5 rfl (lv_at hl 0 rfl) ?_
  refine W.objInit hx hb CX.ow (CX.ts _ q1161) (CX.ts _ q132) (CX.ts _ q133) rfl (by rw [CX.ml]; exact hl.1) rfl dX6_init_6 (Nat.le_of_ble_eq_true rfl) (Nat.le_of_ble_eq_true rfl) ?_
  refine W.eq (g2 := F0 m 9 ls []) rfl ?_
  rw [← hQ]
  exact b_vret CX hr hlk hS (Nat.le_of_ble_eq_true rfl) (Nat.le_of_ble_eq_true rfl) dX6_init_9 (⟨hU, hc_th⟩)
theorem pa_X16_1_15 {p : Program} {l : Launch} {e : Env} {R : Room} {s : State} {m : MethodId} {args : Array Value} {below : List Frame} {meth : Method} {c : Code} {H : Heap} {locs : List Loc} {cells slots : Nat} {Q : State → Prop} {cc : ByteArray} {pc nL a : Nat} {ls : Array Slot} {rest : List Value} {G : b_G} {B0 : Nat} (CX : b_Cx p s m args c cc nL RX16 G B0) (hin2 : meth.name = "<init>") {fs : List Value} (hP : b_at G a (.inr (15, fs)) H) (hS : va_S (b_A B0) s.heap H locs) (ha : B0 ≤ a) {v : Value} (hn : narrow (tyX16 3) v = v) (hfit : fits (tyX16 3) v = true) (hl : 3 < fs.length) (hl2 : 0 < fs.length) (hdg : decode cc pc = .ok (.putfield 1, 3)) (kk : ∀ (w : Value) (H1 : Heap) (locs1 : List Loc), (w = v ∨ fs[0]? = some w) → b_at G a (.inr (15, (fs.set 3 v).set 0 w)) H1 → b_Up a H H1 → va_S (b_A B0) s.heap H1 locs1 → W p l e R s m args below meth c H1 locs1 cells slots Q (F0 m (pc + 3) ls rest)) : W p l e R s m args below meth c H locs cells slots Q (F0 m pc ls (v :: .ref a :: rest)) := b_putFA CX in_X16 tyX16 tyX16_ok rfl 3 0 (by decide) (by decide +kernel) q1580 (Or.inl rfl) rfl hin2 rfl hP hS ha hn hfit hl hl2 (by decide) hdg kk
theorem pf_X16_7_15 {p : Program} {l : Launch} {e : Env} {R : Room} {s : State} {m : MethodId} {args : Array Value} {below : List Frame} {meth : Method} {c : Code} {H : Heap} {locs : List Loc} {cells slots : Nat} {Q : State → Prop} {cc : ByteArray} {pc nL a : Nat} {ls : Array Slot} {rest : List Value} {G : b_G} {B0 : Nat} (CX : b_Cx p s m args c cc nL RX16 G B0) (hin2 : meth.name = "<init>") {fs : List Value} (hP : b_at G a (.inr (15, fs)) H) (hS : va_S (b_A B0) s.heap H locs) (ha : B0 ≤ a) {v : Value} (hn : narrow (tyX16 1) v = v) (hfit : fits (tyX16 1) v = true) (hl : 1 < fs.length) (hdg : decode cc pc = .ok (.putfield 7, 3)) (kk : ∀ (H1 : Heap) (locs1 : List Loc), b_at G a (.inr (15, fs.set 1 v)) H1 → b_Up a H H1 → va_S (b_A B0) s.heap H1 locs1 → W p l e R s m args below meth c H1 locs1 cells slots Q (F0 m (pc + 3) ls rest)) : W p l e R s m args below meth c H locs cells slots Q (F0 m pc ls (v :: .ref a :: rest)) := b_putF CX in_X16 tyX16 tyX16_ok rfl 1 (by decide) (by decide +kernel) q1578 (Or.inl rfl) rfl hin2 rfl hP hS ha hn hfit hl hdg kk
theorem pf_X16_11_15 {p : Program} {l : Launch} {e : Env} {R : Room} {s : State} {m : MethodId} {args : Array Value} {below : List Frame} {meth : Method} {c : Code} {H : Heap} {locs : List Loc} {cells slots : Nat} {Q : State → Prop} {cc : ByteArray} {pc nL a : Nat} {ls : Array Slot} {rest : List Value} {G : b_G} {B0 : Nat} (CX : b_Cx p s m args c cc nL RX16 G B0) (hin2 : meth.name = "<init>") {fs : List Value} (hP : b_at G a (.inr (15, fs)) H) (hS : va_S (b_A B0) s.heap H locs) (ha : B0 ≤ a) {v : Value} (hn : narrow (tyX16 2) v = v) (hfit : fits (tyX16 2) v = true) (hl : 2 < fs.length) (hdg : decode cc pc = .ok (.putfield 11, 3)) (kk : ∀ (H1 : Heap) (locs1 : List Loc), b_at G a (.inr (15, fs.set 2 v)) H1 → b_Up a H H1 → va_S (b_A B0) s.heap H1 locs1 → W p l e R s m args below meth c H1 locs1 cells slots Q (F0 m (pc + 3) ls rest)) : W p l e R s m args below meth c H locs cells slots Q (F0 m pc ls (v :: .ref a :: rest)) := b_putF CX in_X16 tyX16 tyX16_ok rfl 2 (by decide) (by decide +kernel) q1579 (Or.inl rfl) rfl hin2 rfl hP hS ha hn hfit hl hdg kk
theorem cs_X16_14 {p : Program} {l : Launch} {e : Env} {R : Room} {s : State} {m : MethodId} {args : Array Value} {below : List Frame} {meth : Method} {c : Code} {H : Heap} {locs : List Loc} {cells slots : Nat} {cc : ByteArray} {pc nL a : Nat} {ls : Array Slot} {rest : List Value} {G : b_G} {B0 : Nat} (CX : b_Cx p s m args c cc nL RX16 G B0) (hls : ls.size = nL) {rm : Room} {mc ms : Nat} {As st0 : List Value} {Qc : Array Value → State → Outcome → State → Prop} (hM : Met l yX6_init (ws_ yX6_init cX6_init 2 (Option.none)) rm (b_Pc G B0 H (.ref a :: As)) Qc mc ms (b_A B0)) (hn : As.length = 1) (hS : va_S (b_A B0) s.heap H locs) (hst : st0 = As.reverse ++ .ref a :: rest) (hr : rm.cells = mc ∧ rm.slots = ms ∧ rm.frames + 1 ≤ R.frames ∧ 8 + (2 + 11) + rm.locals ≤ R.locals) (hw : (rest.map fun v => v.category).sum ≤ 8) (hdg : decode cc pc = .ok (.invokespecial 14, 3)) (hf : cells + mc ≤ R.cells ∧ slots + ms ≤ R.slots) : va_Run p l e R s m args below meth c H locs cells slots mc ms (F0 m pc ls st0) rest (Qc (Value.ref a :: As).toArray) (b_A B0) := va_runIN CX.fix hM (⟨va_cnB 1 CX.ts (lw_meth q1160) rfl hr.1 hr.2.1 (CX.K.2.1 _ q1577 rfl) (CX.ts _ q104) (by decide +kernel) ⟨hr.2.2.1, hr.2.2.2⟩, rfl, CX.ts _ q1159⟩) ⟨b_blind G B0 H _, b_pre _ CX.K hS⟩ rfl hn hls hst (lv_room hw) hdg hf
set_option maxHeartbeats 2000000 in
set_option maxRecDepth 100000 in
theorem m_X16_init (l : Launch) {G : b_G} {B0 : Nat} {H : Heap} {τ : b_T} {a : Nat} {ta : Nat} {ax : Nat} {b : Nat} {w_ : Int32} (hc_th : b_tt G B0 τ H a (ta) (.inr (15, [.null, .int (nI 0), .int (nI 0), .null]))) : Met l yX16_init (ws_ yX16_init cX16_init 4 (Option.none)) ({ frames := 2, cells := 0, slots := 0, locals := 41 } : Room) (b_Pc G B0 H [.ref a, .ref ax, .int (nI b), .int w_]) (b_Qv B0 (fun H1 => b_Up a H H1 ∧ b_tt G B0 τ H1 a (ta) (.inr (15, [.ref ax, .int (nI b), .int w_, .ref ax])))) 0 0 (b_A B0) := by
  refine b_of (by decide) (Nat.le_of_ble_eq_true rfl) ?_
  intro p e s m below meth c CX hr hlk hnm hS ls hl
  have CX : b_Cx p s m _ c cX16_init 4 RX16 G B0 := CX
  have hx := CX.hx
  have hb := CX.hb
  have hl : lv_has ls 4 [(0, .ref a), (1, .ref ax), (2, .int (nI b)), (3, .int w_)] := hl
  generalize hQ : MQ below (b_Qv B0 (fun H1 => b_Up a H H1 ∧ b_tt G B0 τ H1 a (ta) (.inr (15, [.ref ax, .int (nI b), .int w_, .ref ax])))) ([.ref a, .ref ax, .int (nI b), .int w_] : List Value).toArray s 0 0 (b_A B0) = Q
  have hU : b_Up a H H := b_Up.rf
  refine lv_aload_n hx hb dX16_init_0 rfl (lv_at hl 0 rfl) ?_
  refine lv_aload_n hx hb dX16_init_1 rfl (lv_at hl 1 rfl) ?_
  refine pa_X16_1_15 CX hnm hc_th.at hS hc_th.B rfl rfl (Nat.le_of_ble_eq_true rfl) (Nat.le_of_ble_eq_true rfl) dX16_init_2 (fun w1 H1 locs hw hat hu hS => ?_)
  have hU := hU.tr hu
  have hc_th : b_tt G B0 τ H1 a (ta) (.inr (15, [w1, .int (nI 0), .int (nI 0), .ref ax])) := hc_th.set hat
  refine lv_aload_n hx hb dX16_init_5 rfl (lv_at hl 0 rfl) ?_
  refine lv_iload_n hx hb dX16_init_6 rfl (lv_at hl 2 rfl) ?_
  refine pf_X16_7_15 CX hnm hc_th.at hS hc_th.B rfl rfl (Nat.le_of_ble_eq_true rfl) dX16_init_7 (fun H2 locs hat hu hS => ?_)
  have hU := hU.tr hu
  have hc_th : b_tt G B0 τ H2 a (ta) (.inr (15, [w1, .int (nI b), .int (nI 0), .ref ax])) := hc_th.set hat
  refine lv_aload_n hx hb dX16_init_10 rfl (lv_at hl 0 rfl) ?_
  refine lv_iload_n hx hb dX16_init_11 rfl (lv_at hl 3 rfl) ?_
  refine pf_X16_11_15 CX hnm hc_th.at hS hc_th.B rfl rfl (Nat.le_of_ble_eq_true rfl) dX16_init_12 (fun H3 locs hat hu hS => ?_)
  have hU := hU.tr hu
  have hc_th : b_tt G B0 τ H3 a (ta) (.inr (15, [w1, .int (nI b), .int w_, .ref ax])) := hc_th.set hat
  refine lv_aload_n hx hb dX16_init_15 rfl (lv_at hl 0 rfl) ?_
  refine lv_aload_n hx hb dX16_init_16 rfl (lv_at hl 1 rfl) ?_
  refine b_cv (cs_X16_14 (rest := []) CX hl.1 (m_X6_init_15 l (a := a) (ta := ta) (u0 := w1) (u1 := .int (nI b)) (u2 := .int w_) (ax := ax) hc_th) rfl hS rfl ⟨rfl, rfl, Nat.le_of_ble_eq_true rfl, Nat.le_of_ble_eq_true rfl⟩ (Nat.le_of_ble_eq_true rfl) dX16_init_17 ⟨Nat.le_of_ble_eq_true rfl, Nat.le_of_ble_eq_true rfl⟩) hS (fun H4 locs hp hS => ?_)
  obtain ⟨hu, hx0⟩ := hp
  have hU := hU.tr hu
  have hc_th : b_tt G B0 τ H4 a (ta) (.inr (15, [.ref ax, (.int (nI b)), (.int w_), .ref ax])) := hx0
  rw [← hQ]
  exact b_vret CX hr hlk hS (Nat.le_of_ble_eq_true rfl) (Nat.le_of_ble_eq_true rfl) dX16_init_20 (⟨hU, hc_th⟩)
theorem gf_X16_1_15 {p : Program} {l : Launch} {e : Env} {R : Room} {s : State} {m : MethodId} {args : Array Value} {below : List Frame} {meth : Method} {c : Code} {H : Heap} {locs : List Loc} {cells slots : Nat} {Q : State → Prop} {cc : ByteArray} {pc nL a : Nat} {ls : Array Slot} {rest : List Value} {G : b_G} {B0 : Nat} (CX : b_Cx p s m args c cc nL RX16 G B0) {fs : List Value} (hP : b_at G a (.inr (15, fs)) H) {v : Value} (hv : fs[3]? = some v) (hdg : decode cc pc = .ok (.getfield 1, 3)) (kk : W p l e R s m args below meth c H locs cells slots Q (F0 m (pc + 3) ls (v :: rest))) : W p l e R s m args below meth c H locs cells slots Q (F0 m pc ls (.ref a :: rest)) := b_get CX in_X16 rfl 3 (by decide) q1580 (Or.inl rfl) hP hv hdg kk
theorem gf_X16_20_0 {p : Program} {l : Launch} {e : Env} {R : Room} {s : State} {m : MethodId} {args : Array Value} {below : List Frame} {meth : Method} {c : Code} {H : Heap} {locs : List Loc} {cells slots : Nat} {Q : State → Prop} {cc : ByteArray} {pc nL a : Nat} {ls : Array Slot} {rest : List Value} {G : b_G} {B0 : Nat} (CX : b_Cx p s m args c cc nL RX16 G B0) {fs : List Value} (hP : b_at G a (.inr (0, fs)) H) {v : Value} (hv : fs[0]? = some v) (hdg : decode cc pc = .ok (.getfield 20, 3)) (kk : W p l e R s m args below meth c H locs cells slots Q (F0 m (pc + 3) ls (v :: rest))) : W p l e R s m args below meth c H locs cells slots Q (F0 m pc ls (.ref a :: rest)) := b_getN CX in_X1 rfl 0 (by decide) q254 (Or.inl rfl) hP hv hdg kk
theorem gf_X16_26_1 {p : Program} {l : Launch} {e : Env} {R : Room} {s : State} {m : MethodId} {args : Array Value} {below : List Frame} {meth : Method} {c : Code} {H : Heap} {locs : List Loc} {cells slots : Nat} {Q : State → Prop} {cc : ByteArray} {pc nL a : Nat} {ls : Array Slot} {rest : List Value} {G : b_G} {B0 : Nat} (CX : b_Cx p s m args c cc nL RX16 G B0) {fs : List Value} (hP : b_at G a (.inr (1, fs)) H) {v : Value} (hv : fs[0]? = some v) (hdg : decode cc pc = .ok (.getfield 26, 3)) (kk : W p l e R s m args below meth c H locs cells slots Q (F0 m (pc + 3) ls (v :: rest))) : W p l e R s m args below meth c H locs cells slots Q (F0 m pc ls (.ref a :: rest)) := b_getN CX in_X2 rfl 0 (by decide) q170 (Or.inl rfl) hP hv hdg kk
theorem gf_X16_7_15 {p : Program} {l : Launch} {e : Env} {R : Room} {s : State} {m : MethodId} {args : Array Value} {below : List Frame} {meth : Method} {c : Code} {H : Heap} {locs : List Loc} {cells slots : Nat} {Q : State → Prop} {cc : ByteArray} {pc nL a : Nat} {ls : Array Slot} {rest : List Value} {G : b_G} {B0 : Nat} (CX : b_Cx p s m args c cc nL RX16 G B0) {fs : List Value} (hP : b_at G a (.inr (15, fs)) H) {v : Value} (hv : fs[1]? = some v) (hdg : decode cc pc = .ok (.getfield 7, 3)) (kk : W p l e R s m args below meth c H locs cells slots Q (F0 m (pc + 3) ls (v :: rest))) : W p l e R s m args below meth c H locs cells slots Q (F0 m pc ls (.ref a :: rest)) := b_get CX in_X16 rfl 1 (by decide) q1578 (Or.inl rfl) hP hv hdg kk
theorem cs_X16_32 {p : Program} {l : Launch} {e : Env} {R : Room} {s : State} {m : MethodId} {args : Array Value} {below : List Frame} {meth : Method} {c : Code} {H : Heap} {locs : List Loc} {cells slots : Nat} {cc : ByteArray} {pc nL a : Nat} {ls : Array Slot} {rest : List Value} {G : b_G} {B0 : Nat} (CX : b_Cx p s m args c cc nL RX16 G B0) (hls : ls.size = nL) {rm : Room} {mc ms : Nat} {As st0 : List Value} {Qc : Array Value → State → Outcome → State → Prop} (hM : Met l yJ2_get (ws_ yJ2_get cJ2_get 2 (Option.some (Jvm.ClassFile.FieldType.object "java/lang/Object"))) rm (b_Pc G B0 H (.ref a :: As)) Qc mc ms (b_A B0)) (hn : As.length = 1) {fs : List Value} {ci : Nat} {qc : vw_C} (hc : b_cl[ci]? = some qc) (hq : qc.1 = RJ2) (hP : b_at G a (.inr (ci, fs)) H) (hS : va_S (b_A B0) s.heap H locs) (hst : st0 = As.reverse ++ .ref a :: rest) (hr : rm.cells = mc ∧ rm.slots = ms ∧ rm.frames + 1 ≤ R.frames ∧ 8 + (2 + 11) + rm.locals ≤ R.locals) (hw : (rest.map fun v => v.category).sum ≤ 8) (hdg : decode cc pc = .ok (.invokevirtual 32, 3)) (hf : cells + mc ≤ R.cells ∧ slots + ms ≤ R.slots) : va_Run p l e R s m args below meth c H locs cells slots mc ms (F0 m pc ls st0) rest (Qc (Value.ref a :: As).toArray) (b_A B0) := va_runV CX.fix hM (cwV 1 CX.ts (lw_V q1323 q796 q797 q83 q798) rfl hr.1 hr.2.1 (by decide +kernel) ⟨hr.2.2.1, hr.2.2.2⟩) ⟨b_blind G B0 H _, by have h9 := b_recv CX.K hc hP; rw [hq] at h9; exact h9, b_pre _ CX.K hS⟩ rfl hn hls hst (lv_room hw) hdg hf
theorem gf_X16_11_15 {p : Program} {l : Launch} {e : Env} {R : Room} {s : State} {m : MethodId} {args : Array Value} {below : List Frame} {meth : Method} {c : Code} {H : Heap} {locs : List Loc} {cells slots : Nat} {Q : State → Prop} {cc : ByteArray} {pc nL a : Nat} {ls : Array Slot} {rest : List Value} {G : b_G} {B0 : Nat} (CX : b_Cx p s m args c cc nL RX16 G B0) {fs : List Value} (hP : b_at G a (.inr (15, fs)) H) {v : Value} (hv : fs[2]? = some v) (hdg : decode cc pc = .ok (.getfield 11, 3)) (kk : W p l e R s m args below meth c H locs cells slots Q (F0 m (pc + 3) ls (v :: rest))) : W p l e R s m args below meth c H locs cells slots Q (F0 m pc ls (.ref a :: rest)) := b_get CX in_X16 rfl 2 (by decide) q1579 (Or.inl rfl) hP hv hdg kk
theorem cx_X16_40 {p : Program} {l : Launch} {e : Env} {R : Room} {s : State} {m : MethodId} {args : Array Value} {below : List Frame} {meth : Method} {c : Code} {H : Heap} {locs : List Loc} {cells slots : Nat} {cc : ByteArray} {pc nL a : Nat} {ls : Array Slot} {rest : List Value} {G : b_G} {B0 : Nat} (CX : b_Cx p s m args c cc nL RX16 G B0) (hls : ls.size = nL) {rm : Room} {mc ms : Nat} {As st0 : List Value} {Qc : Array Value → State → Outcome → State → Prop} {XC : String → Addr → State → State → Prop} (hM : vx_Met l yX2_tryLose (ws_ yX2_tryLose cX2_tryLose 3 (Option.none)) rm (b_Pc G B0 H (.ref a :: As)) Qc XC mc ms (b_A B0)) (hn : As.length = 2) {fs : List Value} {ci : Nat} {qc : vw_C} (hc : b_cl[ci]? = some qc) (hq : qc.1 = RX2) (hP : b_at G a (.inr (ci, fs)) H) (hS : va_S (b_A B0) s.heap H locs) (hst : st0 = As.reverse ++ .ref a :: rest) (hr : rm.cells = mc ∧ rm.slots = ms ∧ rm.frames + 1 ≤ R.frames ∧ 8 + (3 + 11) + rm.locals ≤ R.locals) (hw : (rest.map fun v => v.category).sum ≤ 8) (hdg : decode cc pc = .ok (.invokevirtual 40, 3)) (hf : cells + mc ≤ R.cells ∧ slots + ms ≤ R.slots) : vx_Run p l e R s m args below meth c H locs cells slots mc ms (F0 m pc ls st0) rest (Qc (Value.ref a :: As).toArray) XC (b_A B0) := vx_runV CX.fix hM (cwV 2 CX.ts (lw_V q1325 q1326 q1327 q80 q1328) rfl hr.1 hr.2.1 (by decide +kernel) ⟨hr.2.2.1, hr.2.2.2⟩) ⟨b_blind G B0 H _, by have h9 := b_recv CX.K hc hP; rw [hq] at h9; exact h9, b_pre _ CX.K hS⟩ rfl hn hls hst (lv_room hw) hdg hf
set_option maxHeartbeats 2000000 in
set_option maxRecDepth 100000 in
theorem m_X16_check (l : Launch) {G : b_G} {B0 : Nat} {H : Heap} {τ : b_T} {id : Nat} {F : Nat → Nat} {M : Nat → Int32} {E : Nat → Bool} {S : b_St} {Z : Nat → Nat → Int32} {da : Nat} {td : Nat} {a : Nat} {asv : Nat} {atx : Nat} {atk : Nat} {hs : Int64} {b : Nat} {w_ : Int32} (hc_D : b_tt G B0 τ H da (td) (.inr (15, [.ref a, .int (nI b), .int w_, .ref a]))) (hc_X : b_tt G B0 τ H a 0 (.inr (0, [.ref ((F 0)), .ref asv, .ref atx, .ref atk, .long hs]))) (hL : LR G B0 τ id F M E H S Z) (hW : b_WF S) (hBb : b < nb S) : vx_Met l yX16_check (ws_ yX16_check cX16_check 1 (Option.none)) ({ frames := 7, cells := 1, slots := 6, locals := 150 } : Room) (b_Pc G B0 H [.ref da]) (b_Qv B0 (fun H1 => ((c_lt (S 1 b 3) w_) = nI 0) ∧ H1 = H)) (b_X B0 (fun E9 q9 H9 => e_px G B0 H (c_lt (S 1 b 3) w_) E9 q9 H9)) 1 6 (b_A B0) := by
  refine b_ofX (by decide) (Nat.le_of_ble_eq_true rfl) ?_
  intro p e s m below meth c CX hr hlk htb hS ls hl
  have CX : b_Cx p s m _ c cX16_check 1 RX16 G B0 := CX
  have hx := CX.hx
  have hb := CX.hb
  have hl : lv_has ls 1 [(0, .ref da)] := hl
  generalize hQ : vx_MQ below (b_Qv B0 (fun H1 => ((c_lt (S 1 b 3) w_) = nI 0) ∧ H1 = H)) (b_X B0 (fun E9 q9 H9 => e_px G B0 H (c_lt (S 1 b 3) w_) E9 q9 H9)) ([.ref da] : List Value).toArray s 1 6 (b_A B0) = Q
  have hX : b_Ext H H := b_Ext.rf
  have hnb : nb S = nb S := rfl
  have hns : ns S = ns S := rfl
  have hn8 := hL.2.2.2.1
  have hn6 := hL.2.2.2.2
  refine lv_aload_n hx hb dX16_check_0 rfl (lv_at hl 0 rfl) ?_
  refine gf_X16_1_15 CX hc_D.at rfl dX16_check_1 ?_
  refine gf_X16_20_0 CX hc_X.at rfl dX16_check_4 ?_
  refine lv_aload_n hx hb dX16_check_7 rfl (lv_at hl 0 rfl) ?_
  refine gf_X16_1_15 CX hc_D.at rfl dX16_check_8 ?_
  refine gf_X16_20_0 CX hc_X.at rfl dX16_check_11 ?_
  refine gf_X16_26_1 CX hL.loop.at rfl dX16_check_14 ?_
  refine lv_aload_n hx hb dX16_check_17 rfl (lv_at hl 0 rfl) ?_
  refine gf_X16_7_15 CX hc_D.at rfl dX16_check_18 ?_
  refine b_cq0 (cs_X16_32 (rest := [.ref ((F 0))]) CX hl.1 (m_J2_get l (a := (F 1)) (ta := 1000 * id + 1) (mc := M 1) (ra := (F 2)) (tr := 1000 * id + 2) (f := (fun j => F (20 + j))) (n := nb S) (i := b) (hL.alg1 hW (by omega)) (hL.arg2 (by omega)) (by omega) (by omega)) rfl rfl rfl (hL.alg1 hW (by omega)).at hS rfl ⟨rfl, rfl, Nat.le_of_ble_eq_true rfl, Nat.le_of_ble_eq_true rfl⟩ (Nat.le_of_ble_eq_true rfl) dX16_check_21 ⟨Nat.le_of_ble_eq_true rfl, Nat.le_of_ble_eq_true rfl⟩) hS (fun locs hS => ?_)
  refine b_cast CX (ci := 4) rfl (hL.brand (k := b) (by omega)).at q1324 dX16_check_24 ?_
  refine lv_aload_n hx hb dX16_check_27 rfl (lv_at hl 0 rfl) ?_
  refine gf_X16_11_15 CX hc_D.at rfl dX16_check_28 ?_
  refine b_xv0 (cx_X16_40 (rest := []) CX hl.1 (m_X2_tryLose l (b := b) (w_ := w_) hL hW (by omega)) rfl rfl rfl hL.loop.at hS rfl ⟨rfl, rfl, Nat.le_of_ble_eq_true rfl, Nat.le_of_ble_eq_true rfl⟩ (Nat.le_of_ble_eq_true rfl) dX16_check_31 ⟨Nat.le_of_ble_eq_true rfl, Nat.le_of_ble_eq_true rfl⟩) hS (fun E9 q9 Hx1 locs hx9 hS he9 => ?_) (fun hk_31 locs hS => ?_)
  · rw [← hQ]
    exact b_xout htb hlk he9 hS (Nat.le_of_ble_eq_true rfl) (Nat.le_of_ble_eq_true rfl) (hx9)
  rw [← hQ]
  exact vx_ret (b_vret CX hr hlk hS (Nat.le_of_ble_eq_true rfl) (Nat.le_of_ble_eq_true rfl) dX16_check_34 (⟨(by exact hk_31), rfl⟩))
theorem cs_X16_44 {p : Program} {l : Launch} {e : Env} {R : Room} {s : State} {m : MethodId} {args : Array Value} {below : List Frame} {meth : Method} {c : Code} {H : Heap} {locs : List Loc} {cells slots : Nat} {cc : ByteArray} {pc nL a : Nat} {ls : Array Slot} {rest : List Value} {G : b_G} {B0 : Nat} (CX : b_Cx p s m args c cc nL RX16 G B0) (hls : ls.size = nL) {rm : Room} {mc ms : Nat} {As st0 : List Value} {Qc : Array Value → State → Outcome → State → Prop} (hM : Met l yX2_lose (ws_ yX2_lose cX2_lose 3 (Option.some Jvm.ClassFile.FieldType.int)) rm (b_Pc G B0 H (.ref a :: As)) Qc mc ms (b_A B0)) (hn : As.length = 2) {fs : List Value} {ci : Nat} {qc : vw_C} (hc : b_cl[ci]? = some qc) (hq : qc.1 = RX2) (hP : b_at G a (.inr (ci, fs)) H) (hS : va_S (b_A B0) s.heap H locs) (hst : st0 = As.reverse ++ .ref a :: rest) (hr : rm.cells = mc ∧ rm.slots = ms ∧ rm.frames + 1 ≤ R.frames ∧ 8 + (3 + 11) + rm.locals ≤ R.locals) (hw : (rest.map fun v => v.category).sum ≤ 8) (hdg : decode cc pc = .ok (.invokevirtual 44, 3)) (hf : cells + mc ≤ R.cells ∧ slots + ms ≤ R.slots) : va_Run p l e R s m args below meth c H locs cells slots mc ms (F0 m pc ls st0) rest (Qc (Value.ref a :: As).toArray) (b_A B0) := va_runV CX.fix hM (cwV 2 CX.ts (lw_V q1414 q1415 q1416 q80 q1417) rfl hr.1 hr.2.1 (by decide +kernel) ⟨hr.2.2.1, hr.2.2.2⟩) ⟨b_blind G B0 H _, by have h9 := b_recv CX.K hc hP; rw [hq] at h9; exact h9, b_pre _ CX.K hS⟩ rfl hn hls hst (lv_room hw) hdg hf
set_option maxHeartbeats 2000000 in
set_option maxRecDepth 100000 in
theorem m_X16_does (l : Launch) {G : b_G} {B0 : Nat} {H : Heap} {τ : b_T} {id : Nat} {F : Nat → Nat} {M : Nat → Int32} {E : Nat → Bool} {S : b_St} {Z : Nat → Nat → Int32} {da : Nat} {td : Nat} {a : Nat} {asv : Nat} {atx : Nat} {atk : Nat} {hs : Int64} {b : Nat} {w_ : Int32} (hc_D : b_tt G B0 τ H da (td) (.inr (15, [.ref a, .int (nI b), .int w_, .ref a]))) (hc_X : b_tt G B0 τ H a 0 (.inr (0, [.ref ((F 0)), .ref asv, .ref atx, .ref atk, .long hs]))) (hL : LR G B0 τ id F M E H S Z) (hW : b_WF S) (hBb : b < nb S) (hi0 : 0 < id) (htd : td < 1000) : Met l yX16_does (ws_ yX16_does cX16_does 1 (Option.some Jvm.ClassFile.FieldType.int)) ({ frames := 3, cells := 0, slots := 0, locals := 64 } : Room) (b_Pc G B0 H [.ref da]) (b_Qi B0 (fun r H1 => r = S 1 b 3 - w_ ∧ b_Fr τ (fun t => 1000 * id ≤ t ∧ t < 1000 * id + 1000) H H1 ∧ LR G B0 τ id F M E H1 ((s_lose S b w_)) Z)) 0 0 (b_A B0) := by
  refine b_of (by decide) (Nat.le_of_ble_eq_true rfl) ?_
  intro p e s m below meth c CX hr hlk hnm hS ls hl
  have CX : b_Cx p s m _ c cX16_does 1 RX16 G B0 := CX
  have hx := CX.hx
  have hb := CX.hb
  have hl : lv_has ls 1 [(0, .ref da)] := hl
  generalize hQ : MQ below (b_Qi B0 (fun r H1 => r = S 1 b 3 - w_ ∧ b_Fr τ (fun t => 1000 * id ≤ t ∧ t < 1000 * id + 1000) H H1 ∧ LR G B0 τ id F M E H1 ((s_lose S b w_)) Z)) ([.ref da] : List Value).toArray s 0 0 (b_A B0) = Q
  have hF : b_Fr τ (fun t => 1000 * id ≤ t ∧ t < 1000 * id + 1000) H H := b_Fr.rf
  have hA : b_Ag τ τ H := b_Ag.rf
  have hnb : nb S = nb S := rfl
  have hns : ns S = ns S := rfl
  have hn8 := hL.2.2.2.1
  have hn6 := hL.2.2.2.2
  refine lv_aload_n hx hb dX16_does_0 rfl (lv_at hl 0 rfl) ?_
  refine gf_X16_1_15 CX hc_D.at rfl dX16_does_1 ?_
  refine gf_X16_20_0 CX hc_X.at rfl dX16_does_4 ?_
  refine lv_aload_n hx hb dX16_does_7 rfl (lv_at hl 0 rfl) ?_
  refine gf_X16_1_15 CX hc_D.at rfl dX16_does_8 ?_
  refine gf_X16_20_0 CX hc_X.at rfl dX16_does_11 ?_
  refine gf_X16_26_1 CX hL.loop.at rfl dX16_does_14 ?_
  refine lv_aload_n hx hb dX16_does_17 rfl (lv_at hl 0 rfl) ?_
  refine gf_X16_7_15 CX hc_D.at rfl dX16_does_18 ?_
  refine b_cq0 (cs_X16_32 (rest := [.ref ((F 0))]) CX hl.1 (m_J2_get l (a := (F 1)) (ta := 1000 * id + 1) (mc := M 1) (ra := (F 2)) (tr := 1000 * id + 2) (f := (fun j => F (20 + j))) (n := nb S) (i := b) (hL.alg1 hW (by omega)) (hL.arg2 (by omega)) (by omega) (by omega)) rfl rfl rfl (hL.alg1 hW (by omega)).at hS rfl ⟨rfl, rfl, Nat.le_of_ble_eq_true rfl, Nat.le_of_ble_eq_true rfl⟩ (Nat.le_of_ble_eq_true rfl) dX16_does_21 ⟨Nat.le_of_ble_eq_true rfl, Nat.le_of_ble_eq_true rfl⟩) hS (fun locs hS => ?_)
  refine b_cast CX (ci := 4) rfl (hL.brand (k := b) (by omega)).at q1324 dX16_does_24 ?_
  refine lv_aload_n hx hb dX16_does_27 rfl (lv_at hl 0 rfl) ?_
  refine gf_X16_11_15 CX hc_D.at rfl dX16_does_28 ?_
  refine b_ci (cs_X16_44 (rest := []) CX hl.1 (m_X2_lose l (b := b) (n_ := w_) hL hW (by omega)) rfl rfl rfl hL.loop.at hS rfl ⟨rfl, rfl, Nat.le_of_ble_eq_true rfl, Nat.le_of_ble_eq_true rfl⟩ (Nat.le_of_ble_eq_true rfl) dX16_does_31 ⟨Nat.le_of_ble_eq_true rfl, Nat.le_of_ble_eq_true rfl⟩) hS (fun r H1 locs hp hS => ?_)
  obtain ⟨rfl, hF9, hL9⟩ := hp
  have hc_D := hc_D.fr hF9 (show ¬ (1000 * id ≤ (td) ∧ (td) < 1000 * id + 1000) by omega)
  have hc_X := hc_X.fr hF9 (show ¬ (1000 * id ≤ 0 ∧ 0 < 1000 * id + 1000) by omega)
  have hF := hF.tr hA hF9 (fun q9 hq9 x9 => by have x8 : 1000 * id ≤ τ q9 ∧ τ q9 < 1000 * id + 1000 := x9; show 1000 * id ≤ τ q9 ∧ τ q9 < 1000 * id + 1000; omega)
  have hL : LR G B0 τ id F M E H1 ((s_lose S b w_)) Z := hL9
  rw [← hQ]
  exact b_iret CX hr hlk hS (Nat.le_of_ble_eq_true rfl) (Nat.le_of_ble_eq_true rfl) dX16_does_34 (⟨rfl, hF, hL⟩)
theorem cx_X6_15_15 {p : Program} {l : Launch} {e : Env} {R : Room} {s : State} {m : MethodId} {args : Array Value} {below : List Frame} {meth : Method} {c : Code} {H : Heap} {locs : List Loc} {cells slots : Nat} {cc : ByteArray} {pc nL a : Nat} {ls : Array Slot} {rest : List Value} {G : b_G} {B0 : Nat} (CX : b_Cx p s m args c cc nL RX6 G B0) (hls : ls.size = nL) {rm : Room} {mc ms : Nat} {As st0 : List Value} {Qc : Array Value → State → Outcome → State → Prop} {XC : String → Addr → State → State → Prop} (hM : vx_Met l yX16_check (ws_ yX16_check cX16_check 1 (Option.none)) rm (b_Pc G B0 H (.ref a :: As)) Qc XC mc ms (b_A B0)) (hn : As.length = 0) {fs : List Value} (hP : b_at G a (.inr (15, fs)) H) (hS : va_S (b_A B0) s.heap H locs) (hst : st0 = As.reverse ++ .ref a :: rest) (hr : rm.cells = mc ∧ rm.slots = ms ∧ rm.frames + 1 ≤ R.frames ∧ 8 + (1 + 11) + rm.locals ≤ R.locals) (hw : (rest.map fun v => v.category).sum ≤ 8) (hdg : decode cc pc = .ok (.invokevirtual 15, 3)) (hf : cells + mc ≤ R.cells ∧ slots + ms ≤ R.slots) : vx_Run p l e R s m args below meth c H locs cells slots mc ms (F0 m pc ls st0) rest (Qc (Value.ref a :: As).toArray) XC (b_A B0) := vx_runU CX.fix hM (va_cwA (C := RX16) (owner := RX6) 0 CX.ts (lw_U q1198 q1200 q1320 q1321 q114 q1322) rfl hr.1 hr.2.1 (CX.K.2.1 _ q1199 rfl) ⟨by decide, by decide, by decide +kernel⟩ ⟨hr.2.2.1, hr.2.2.2⟩) ⟨b_blind G B0 H _, b_recv CX.K (ci := 15) rfl hP, b_pre _ CX.K hS⟩ rfl hn hls hst (lv_room hw) hdg hf
set_option maxHeartbeats 2000000 in
set_option maxRecDepth 100000 in
theorem m_X6_reason_15 (l : Launch) {G : b_G} {B0 : Nat} {H : Heap} {τ : b_T} {id : Nat} {F : Nat → Nat} {M : Nat → Int32} {E : Nat → Bool} {S : b_St} {Z : Nat → Nat → Int32} {da : Nat} {td : Nat} {a : Nat} {asv : Nat} {atx : Nat} {atk : Nat} {hs : Int64} {b : Nat} {w_ : Int32} (hc_D : b_tt G B0 τ H da (td) (.inr (15, [.ref a, .int (nI b), .int w_, .ref a]))) (hc_X : b_tt G B0 τ H a 0 (.inr (0, [.ref ((F 0)), .ref asv, .ref atx, .ref atk, .long hs]))) (hL : LR G B0 τ id F M E H S Z) (hW : b_WF S) (hBb : b < nb S) : vx_Met l yX6_reason (wsW_ yX6_reason cX6_reason 2 (Option.some Jvm.ClassFile.FieldType.int) [((0 : Nat), (5 : Nat), (6 : Nat), (18 : Nat)), ((0 : Nat), (5 : Nat), (6 : Nat), (20 : Nat)), ((0 : Nat), (5 : Nat), (6 : Nat), (22 : Nat)), ((0 : Nat), (5 : Nat), (12 : Nat), (25 : Nat))]) ({ frames := 8, cells := 1, slots := 6, locals := 170 } : Room) (b_Pc G B0 H [.ref da]) (b_Qi B0 (fun r H1 => r = (c_lt (S 1 b 3) w_) ∧ b_Ext H H1)) (b_X B0 (fun E9 q9 H9 => False)) 1 6 (b_A B0) := by
  refine b_ofXW (by decide) (Nat.le_of_ble_eq_true rfl) ?_
  intro p e s m below meth c CX hr hlk htb hS ls hl
  have CX : b_Cx p s m _ c cX6_reason 2 RX6 G B0 := CX
  have hx := CX.hx
  have hb := CX.hb
  have hl : lv_has ls 2 [(0, .ref da)] := hl
  generalize hQ : vx_MQ below (b_Qi B0 (fun r H1 => r = (c_lt (S 1 b 3) w_) ∧ b_Ext H H1)) (b_X B0 (fun E9 q9 H9 => False)) ([.ref da] : List Value).toArray s 1 6 (b_A B0) = Q
  have hX : b_Ext H H := b_Ext.rf
  have hnb : nb S = nb S := rfl
  have hns : ns S = ns S := rfl
  have hn8 := hL.2.2.2.1
  have hn6 := hL.2.2.2.2
  refine lv_aload_n hx hb dX6_reason_0 rfl (lv_at hl 0 rfl) ?_
  refine b_xv0 (cx_X6_15_15 (rest := []) CX hl.1 (m_X16_check l (da := da) (td := td) (a := a) (asv := asv) (atx := atx) (atk := atk) (hs := hs) (b := b) (w_ := w_) hc_D hc_X hL hW (by omega)) rfl hc_D.at hS rfl ⟨rfl, rfl, Nat.le_of_ble_eq_true rfl, Nat.le_of_ble_eq_true rfl⟩ (Nat.le_of_ble_eq_true rfl) dX6_reason_1 ⟨Nat.le_of_ble_eq_true rfl, Nat.le_of_ble_eq_true rfl⟩) hS (fun E9 q9 Hx1 locs hx9 hS he9 => ?_) (fun hk_1 locs hS => ?_)
  · obtain ⟨hE, hz, hB, v9, hv9, hcd, hnm9, hat⟩ := hx9
    rcases hv9 with rfl | rfl | rfl
    · obtain rfl := hnm9
      refine b_xcatch CX (E := "BottleLoop$NoBottles") (name := "BottleLoop$NoBottles") [] ⟨0, 5, 6, 18⟩ [⟨0, 5, 6, 20⟩, ⟨0, 5, 6, 22⟩, ⟨0, 5, 12, 25⟩] (by rw [htb]; rfl) (fun z hz9 => nomatch hz9) (by decide) (by decide) q1194 (CX.nw q1215 rfl rfl) he9 ?_
      have hc_D := hc_D.ad (tb := 101) hE hz
      have hc_X := hc_X.ad (tb := 101) hE hz
      have hL := hL.ad (tb := 101) hE hz
      have fr_ex : H.size ≤ q9 := Nat.le_trans hX.1 hz
      have hX := hX.tr hE
      have hc_ex : b_tt G B0 ((upT τ q9 101)) Hx1 q9 101 (.inr (18, [.null, .null, .null, .null, .null, .int (nI 0)])) := b_tt.mk hat hB
      refine lv_astore_n (lv' := [(1, .ref q9), (0, .ref da)]) hx hb dX6_reason_6 rfl hl (Nat.le_of_ble_eq_true rfl) rfl (fun ls hl => ?_)
      refine lv_aload_n hx hb dX6_reason_7 rfl (lv_at hl 0 rfl) ?_
      refine b_ci0 (cs_X6_24_18 (rest := []) CX hl.1 (m_X9_number l (a := q9) (ta := 101) hc_ex) rfl hc_ex.at hS rfl ⟨rfl, rfl, Nat.le_of_ble_eq_true rfl, Nat.le_of_ble_eq_true rfl⟩ (Nat.le_of_ble_eq_true rfl) dX6_reason_8 ⟨Nat.le_of_ble_eq_true rfl, Nat.le_of_ble_eq_true rfl⟩) hS (fun locs hS => ?_)
      rw [← hQ]
      exact vx_ret (b_iret CX hr hlk hS (Nat.le_of_ble_eq_true rfl) (Nat.le_of_ble_eq_true rfl) dX6_reason_11 (⟨(by first | exact hk_1.symm | exact hcd.symm), hX⟩))
    · obtain rfl := hnm9
      refine b_xcatch CX (E := "BottleLoop$NoCrates") (name := "BottleLoop$NoCrates") [⟨0, 5, 6, 18⟩] ⟨0, 5, 6, 20⟩ [⟨0, 5, 6, 22⟩, ⟨0, 5, 12, 25⟩] (by rw [htb]; rfl) (fun z hz9 => by rcases List.mem_cons.mp hz9 with rfl | h9; exact Or.inr ⟨by decide, "BottleLoop$NoBottles", q1194, by decide⟩; exact nomatch h9) (by decide) (by decide) q1195 (CX.nw q1242 rfl rfl) he9 ?_
      have hc_D := hc_D.ad (tb := 101) hE hz
      have hc_X := hc_X.ad (tb := 101) hE hz
      have hL := hL.ad (tb := 101) hE hz
      have fr_ex : H.size ≤ q9 := Nat.le_trans hX.1 hz
      have hX := hX.tr hE
      have hc_ex : b_tt G B0 ((upT τ q9 101)) Hx1 q9 101 (.inr (19, [.null, .null, .null, .null, .null, .int (nI 0)])) := b_tt.mk hat hB
      refine lv_astore_n (lv' := [(1, .ref q9), (0, .ref da)]) hx hb dX6_reason_6 rfl hl (Nat.le_of_ble_eq_true rfl) rfl (fun ls hl => ?_)
      refine lv_aload_n hx hb dX6_reason_7 rfl (lv_at hl 0 rfl) ?_
      refine b_ci0 (cs_X6_24_19 (rest := []) CX hl.1 (m_X10_number l (a := q9) (ta := 101) hc_ex) rfl hc_ex.at hS rfl ⟨rfl, rfl, Nat.le_of_ble_eq_true rfl, Nat.le_of_ble_eq_true rfl⟩ (Nat.le_of_ble_eq_true rfl) dX6_reason_8 ⟨Nat.le_of_ble_eq_true rfl, Nat.le_of_ble_eq_true rfl⟩) hS (fun locs hS => ?_)
      rw [← hQ]
      exact vx_ret (b_iret CX hr hlk hS (Nat.le_of_ble_eq_true rfl) (Nat.le_of_ble_eq_true rfl) dX6_reason_11 (⟨(by first | exact hk_1.symm | exact hcd.symm), hX⟩))
    · obtain rfl := hnm9
      refine b_xcatch CX (E := "BottleLoop$NoMoney") (name := "BottleLoop$NoMoney") [⟨0, 5, 6, 18⟩, ⟨0, 5, 6, 20⟩] ⟨0, 5, 6, 22⟩ [⟨0, 5, 12, 25⟩] (by rw [htb]; rfl) (fun z hz9 => by rcases List.mem_cons.mp hz9 with rfl | h9; exact Or.inr ⟨by decide, "BottleLoop$NoBottles", q1194, by decide⟩; rcases List.mem_cons.mp h9 with rfl | h8; exact Or.inr ⟨by decide, "BottleLoop$NoCrates", q1195, by decide⟩; exact nomatch h8) (by decide) (by decide) q1196 (CX.nw q1261 rfl rfl) he9 ?_
      have hc_D := hc_D.ad (tb := 101) hE hz
      have hc_X := hc_X.ad (tb := 101) hE hz
      have hL := hL.ad (tb := 101) hE hz
      have fr_ex : H.size ≤ q9 := Nat.le_trans hX.1 hz
      have hX := hX.tr hE
      have hc_ex : b_tt G B0 ((upT τ q9 101)) Hx1 q9 101 (.inr (20, [.null, .null, .null, .null, .null, .int (nI 0)])) := b_tt.mk hat hB
      refine lv_astore_n (lv' := [(1, .ref q9), (0, .ref da)]) hx hb dX6_reason_6 rfl hl (Nat.le_of_ble_eq_true rfl) rfl (fun ls hl => ?_)
      refine lv_aload_n hx hb dX6_reason_7 rfl (lv_at hl 0 rfl) ?_
      refine b_ci0 (cs_X6_24_20 (rest := []) CX hl.1 (m_X11_number l (a := q9) (ta := 101) hc_ex) rfl hc_ex.at hS rfl ⟨rfl, rfl, Nat.le_of_ble_eq_true rfl, Nat.le_of_ble_eq_true rfl⟩ (Nat.le_of_ble_eq_true rfl) dX6_reason_8 ⟨Nat.le_of_ble_eq_true rfl, Nat.le_of_ble_eq_true rfl⟩) hS (fun locs hS => ?_)
      rw [← hQ]
      exact vx_ret (b_iret CX hr hlk hS (Nat.le_of_ble_eq_true rfl) (Nat.le_of_ble_eq_true rfl) dX6_reason_11 (⟨(by first | exact hk_1.symm | exact hcd.symm), hX⟩))
  refine lv_iconst (v := nI 0) hx hb dX6_reason_4 rfl ?_
  rw [← hQ]
  exact vx_ret (b_iret CX hr hlk hS (Nat.le_of_ble_eq_true rfl) (Nat.le_of_ble_eq_true rfl) dX6_reason_5 (⟨(by first | exact hk_1.symm | exact hcd.symm), hX⟩))
theorem pa_X6_3_16 {p : Program} {l : Launch} {e : Env} {R : Room} {s : State} {m : MethodId} {args : Array Value} {below : List Frame} {meth : Method} {c : Code} {H : Heap} {locs : List Loc} {cells slots : Nat} {Q : State → Prop} {cc : ByteArray} {pc nL a : Nat} {ls : Array Slot} {rest : List Value} {G : b_G} {B0 : Nat} (CX : b_Cx p s m args c cc nL RX6 G B0) (hin2 : meth.name = "<init>") {fs : List Value} (hP : b_at G a (.inr (16, fs)) H) (hS : va_S (b_A B0) s.heap H locs) (ha : B0 ≤ a) {v : Value} (hn : narrow (tyX18 0) v = v) (hfit : fits (tyX18 0) v = true) (hl : 0 < fs.length) (hl2 : 3 < fs.length) (hdg : decode cc pc = .ok (.putfield 3, 3)) (kk : ∀ (w : Value) (H1 : Heap) (locs1 : List Loc), (w = v ∨ fs[3]? = some w) → b_at G a (.inr (16, (fs.set 0 v).set 3 w)) H1 → b_Up a H H1 → va_S (b_A B0) s.heap H1 locs1 → W p l e R s m args below meth c H1 locs1 cells slots Q (F0 m (pc + 3) ls rest)) : W p l e R s m args below meth c H locs cells slots Q (F0 m pc ls (v :: .ref a :: rest)) := b_putFA CX in_X18 tyX18 tyX18_ok rfl 0 3 (by decide) (by decide +kernel) q1165 (Or.inl rfl) rfl hin2 rfl hP hS ha hn hfit hl hl2 (by decide) hdg kk
set_option maxHeartbeats 2000000 in
set_option maxRecDepth 100000 in
theorem m_X6_init_16 (l : Launch) {G : b_G} {B0 : Nat} {H : Heap} {τ : b_T} {a : Nat} {ta : Nat} {ax : Nat} {u0 : Value} {u1 : Value} {u2 : Value} (hc_th : b_tt G B0 τ H a (ta) (.inr (16, [u0, u1, u2, .ref ax]))) : Met l yX6_init (ws_ yX6_init cX6_init 2 (Option.none)) ({ frames := 1, cells := 0, slots := 0, locals := 20 } : Room) (b_Pc G B0 H [.ref a, .ref ax]) (b_Qv B0 (fun H1 => b_Up a H H1 ∧ b_tt G B0 τ H1 a (ta) (.inr (16, [.ref ax, u1, u2, .ref ax])))) 0 0 (b_A B0) := by
  refine b_of (by decide) (Nat.le_of_ble_eq_true rfl) ?_
  intro p e s m below meth c CX hr hlk hnm hS ls hl
  have CX : b_Cx p s m _ c cX6_init 2 RX6 G B0 := CX
  have hx := CX.hx
  have hb := CX.hb
  have hl : lv_has ls 2 [(0, .ref a), (1, .ref ax)] := hl
  generalize hQ : MQ below (b_Qv B0 (fun H1 => b_Up a H H1 ∧ b_tt G B0 τ H1 a (ta) (.inr (16, [.ref ax, u1, u2, .ref ax])))) ([.ref a, .ref ax] : List Value).toArray s 0 0 (b_A B0) = Q
  have hU : b_Up a H H := b_Up.rf
  refine lv_aload_n hx hb dX6_init_0 rfl (lv_at hl 0 rfl) ?_
  refine lv_aload_n hx hb dX6_init_1 rfl (lv_at hl 1 rfl) ?_
  refine pa_X6_3_16 CX hnm hc_th.at hS hc_th.B rfl rfl (Nat.le_of_ble_eq_true rfl) (Nat.le_of_ble_eq_true rfl) dX6_init_2 (fun w1 H1 locs hw hat hu hS => ?_)
  obtain rfl := hw.elim (fun h9 => h9) (fun h9 => (Option.some.inj h9).symm)
  have hU := hU.tr hu
  have hc_th : b_tt G B0 τ H1 a (ta) (.inr (16, [.ref ax, u1, u2, .ref ax])) := hc_th.set hat
  refine lv_aload_n hx hb dX6_init_5 rfl (lv_at hl 0 rfl) ?_
  refine W.objInit hx hb CX.ow (CX.ts _ q1161) (CX.ts _ q132) (CX.ts _ q133) rfl (by rw [CX.ml]; exact hl.1) rfl dX6_init_6 (Nat.le_of_ble_eq_true rfl) (Nat.le_of_ble_eq_true rfl) ?_
  refine W.eq (g2 := F0 m 9 ls []) rfl ?_
  rw [← hQ]
  exact b_vret CX hr hlk hS (Nat.le_of_ble_eq_true rfl) (Nat.le_of_ble_eq_true rfl) dX6_init_9 (⟨hU, hc_th⟩)
theorem pa_X18_1_16 {p : Program} {l : Launch} {e : Env} {R : Room} {s : State} {m : MethodId} {args : Array Value} {below : List Frame} {meth : Method} {c : Code} {H : Heap} {locs : List Loc} {cells slots : Nat} {Q : State → Prop} {cc : ByteArray} {pc nL a : Nat} {ls : Array Slot} {rest : List Value} {G : b_G} {B0 : Nat} (CX : b_Cx p s m args c cc nL RX18 G B0) (hin2 : meth.name = "<init>") {fs : List Value} (hP : b_at G a (.inr (16, fs)) H) (hS : va_S (b_A B0) s.heap H locs) (ha : B0 ≤ a) {v : Value} (hn : narrow (tyX18 3) v = v) (hfit : fits (tyX18 3) v = true) (hl : 3 < fs.length) (hl2 : 0 < fs.length) (hdg : decode cc pc = .ok (.putfield 1, 3)) (kk : ∀ (w : Value) (H1 : Heap) (locs1 : List Loc), (w = v ∨ fs[0]? = some w) → b_at G a (.inr (16, (fs.set 3 v).set 0 w)) H1 → b_Up a H H1 → va_S (b_A B0) s.heap H1 locs1 → W p l e R s m args below meth c H1 locs1 cells slots Q (F0 m (pc + 3) ls rest)) : W p l e R s m args below meth c H locs cells slots Q (F0 m pc ls (v :: .ref a :: rest)) := b_putFA CX in_X18 tyX18 tyX18_ok rfl 3 0 (by decide) (by decide +kernel) q1638 (Or.inl rfl) rfl hin2 rfl hP hS ha hn hfit hl hl2 (by decide) hdg kk
theorem pf_X18_7_16 {p : Program} {l : Launch} {e : Env} {R : Room} {s : State} {m : MethodId} {args : Array Value} {below : List Frame} {meth : Method} {c : Code} {H : Heap} {locs : List Loc} {cells slots : Nat} {Q : State → Prop} {cc : ByteArray} {pc nL a : Nat} {ls : Array Slot} {rest : List Value} {G : b_G} {B0 : Nat} (CX : b_Cx p s m args c cc nL RX18 G B0) (hin2 : meth.name = "<init>") {fs : List Value} (hP : b_at G a (.inr (16, fs)) H) (hS : va_S (b_A B0) s.heap H locs) (ha : B0 ≤ a) {v : Value} (hn : narrow (tyX18 1) v = v) (hfit : fits (tyX18 1) v = true) (hl : 1 < fs.length) (hdg : decode cc pc = .ok (.putfield 7, 3)) (kk : ∀ (H1 : Heap) (locs1 : List Loc), b_at G a (.inr (16, fs.set 1 v)) H1 → b_Up a H H1 → va_S (b_A B0) s.heap H1 locs1 → W p l e R s m args below meth c H1 locs1 cells slots Q (F0 m (pc + 3) ls rest)) : W p l e R s m args below meth c H locs cells slots Q (F0 m pc ls (v :: .ref a :: rest)) := b_putF CX in_X18 tyX18 tyX18_ok rfl 1 (by decide) (by decide +kernel) q1636 (Or.inl rfl) rfl hin2 rfl hP hS ha hn hfit hl hdg kk
theorem pf_X18_11_16 {p : Program} {l : Launch} {e : Env} {R : Room} {s : State} {m : MethodId} {args : Array Value} {below : List Frame} {meth : Method} {c : Code} {H : Heap} {locs : List Loc} {cells slots : Nat} {Q : State → Prop} {cc : ByteArray} {pc nL a : Nat} {ls : Array Slot} {rest : List Value} {G : b_G} {B0 : Nat} (CX : b_Cx p s m args c cc nL RX18 G B0) (hin2 : meth.name = "<init>") {fs : List Value} (hP : b_at G a (.inr (16, fs)) H) (hS : va_S (b_A B0) s.heap H locs) (ha : B0 ≤ a) {v : Value} (hn : narrow (tyX18 2) v = v) (hfit : fits (tyX18 2) v = true) (hl : 2 < fs.length) (hdg : decode cc pc = .ok (.putfield 11, 3)) (kk : ∀ (H1 : Heap) (locs1 : List Loc), b_at G a (.inr (16, fs.set 2 v)) H1 → b_Up a H H1 → va_S (b_A B0) s.heap H1 locs1 → W p l e R s m args below meth c H1 locs1 cells slots Q (F0 m (pc + 3) ls rest)) : W p l e R s m args below meth c H locs cells slots Q (F0 m pc ls (v :: .ref a :: rest)) := b_putF CX in_X18 tyX18 tyX18_ok rfl 2 (by decide) (by decide +kernel) q1637 (Or.inl rfl) rfl hin2 rfl hP hS ha hn hfit hl hdg kk
theorem cs_X18_14 {p : Program} {l : Launch} {e : Env} {R : Room} {s : State} {m : MethodId} {args : Array Value} {below : List Frame} {meth : Method} {c : Code} {H : Heap} {locs : List Loc} {cells slots : Nat} {cc : ByteArray} {pc nL a : Nat} {ls : Array Slot} {rest : List Value} {G : b_G} {B0 : Nat} (CX : b_Cx p s m args c cc nL RX18 G B0) (hls : ls.size = nL) {rm : Room} {mc ms : Nat} {As st0 : List Value} {Qc : Array Value → State → Outcome → State → Prop} (hM : Met l yX6_init (ws_ yX6_init cX6_init 2 (Option.none)) rm (b_Pc G B0 H (.ref a :: As)) Qc mc ms (b_A B0)) (hn : As.length = 1) (hS : va_S (b_A B0) s.heap H locs) (hst : st0 = As.reverse ++ .ref a :: rest) (hr : rm.cells = mc ∧ rm.slots = ms ∧ rm.frames + 1 ≤ R.frames ∧ 8 + (2 + 11) + rm.locals ≤ R.locals) (hw : (rest.map fun v => v.category).sum ≤ 8) (hdg : decode cc pc = .ok (.invokespecial 14, 3)) (hf : cells + mc ≤ R.cells ∧ slots + ms ≤ R.slots) : va_Run p l e R s m args below meth c H locs cells slots mc ms (F0 m pc ls st0) rest (Qc (Value.ref a :: As).toArray) (b_A B0) := va_runIN CX.fix hM (⟨va_cnB 1 CX.ts (lw_meth q1160) rfl hr.1 hr.2.1 (CX.K.2.1 _ q1635 rfl) (CX.ts _ q104) (by decide +kernel) ⟨hr.2.2.1, hr.2.2.2⟩, rfl, CX.ts _ q1159⟩) ⟨b_blind G B0 H _, b_pre _ CX.K hS⟩ rfl hn hls hst (lv_room hw) hdg hf
set_option maxHeartbeats 2000000 in
set_option maxRecDepth 100000 in
theorem m_X18_init (l : Launch) {G : b_G} {B0 : Nat} {H : Heap} {τ : b_T} {a : Nat} {ta : Nat} {ax : Nat} {k : Nat} {w_ : Int32} (hc_th : b_tt G B0 τ H a (ta) (.inr (16, [.null, .int (nI 0), .int (nI 0), .null]))) : Met l yX18_init (ws_ yX18_init cX18_init 4 (Option.none)) ({ frames := 2, cells := 0, slots := 0, locals := 41 } : Room) (b_Pc G B0 H [.ref a, .ref ax, .int (nI k), .int w_]) (b_Qv B0 (fun H1 => b_Up a H H1 ∧ b_tt G B0 τ H1 a (ta) (.inr (16, [.ref ax, .int (nI k), .int w_, .ref ax])))) 0 0 (b_A B0) := by
  refine b_of (by decide) (Nat.le_of_ble_eq_true rfl) ?_
  intro p e s m below meth c CX hr hlk hnm hS ls hl
  have CX : b_Cx p s m _ c cX18_init 4 RX18 G B0 := CX
  have hx := CX.hx
  have hb := CX.hb
  have hl : lv_has ls 4 [(0, .ref a), (1, .ref ax), (2, .int (nI k)), (3, .int w_)] := hl
  generalize hQ : MQ below (b_Qv B0 (fun H1 => b_Up a H H1 ∧ b_tt G B0 τ H1 a (ta) (.inr (16, [.ref ax, .int (nI k), .int w_, .ref ax])))) ([.ref a, .ref ax, .int (nI k), .int w_] : List Value).toArray s 0 0 (b_A B0) = Q
  have hU : b_Up a H H := b_Up.rf
  refine lv_aload_n hx hb dX18_init_0 rfl (lv_at hl 0 rfl) ?_
  refine lv_aload_n hx hb dX18_init_1 rfl (lv_at hl 1 rfl) ?_
  refine pa_X18_1_16 CX hnm hc_th.at hS hc_th.B rfl rfl (Nat.le_of_ble_eq_true rfl) (Nat.le_of_ble_eq_true rfl) dX18_init_2 (fun w1 H1 locs hw hat hu hS => ?_)
  have hU := hU.tr hu
  have hc_th : b_tt G B0 τ H1 a (ta) (.inr (16, [w1, .int (nI 0), .int (nI 0), .ref ax])) := hc_th.set hat
  refine lv_aload_n hx hb dX18_init_5 rfl (lv_at hl 0 rfl) ?_
  refine lv_iload_n hx hb dX18_init_6 rfl (lv_at hl 2 rfl) ?_
  refine pf_X18_7_16 CX hnm hc_th.at hS hc_th.B rfl rfl (Nat.le_of_ble_eq_true rfl) dX18_init_7 (fun H2 locs hat hu hS => ?_)
  have hU := hU.tr hu
  have hc_th : b_tt G B0 τ H2 a (ta) (.inr (16, [w1, .int (nI k), .int (nI 0), .ref ax])) := hc_th.set hat
  refine lv_aload_n hx hb dX18_init_10 rfl (lv_at hl 0 rfl) ?_
  refine lv_iload_n hx hb dX18_init_11 rfl (lv_at hl 3 rfl) ?_
  refine pf_X18_11_16 CX hnm hc_th.at hS hc_th.B rfl rfl (Nat.le_of_ble_eq_true rfl) dX18_init_12 (fun H3 locs hat hu hS => ?_)
  have hU := hU.tr hu
  have hc_th : b_tt G B0 τ H3 a (ta) (.inr (16, [w1, .int (nI k), .int w_, .ref ax])) := hc_th.set hat
  refine lv_aload_n hx hb dX18_init_15 rfl (lv_at hl 0 rfl) ?_
  refine lv_aload_n hx hb dX18_init_16 rfl (lv_at hl 1 rfl) ?_
  refine b_cv (cs_X18_14 (rest := []) CX hl.1 (m_X6_init_16 l (a := a) (ta := ta) (u0 := w1) (u1 := .int (nI k)) (u2 := .int w_) (ax := ax) hc_th) rfl hS rfl ⟨rfl, rfl, Nat.le_of_ble_eq_true rfl, Nat.le_of_ble_eq_true rfl⟩ (Nat.le_of_ble_eq_true rfl) dX18_init_17 ⟨Nat.le_of_ble_eq_true rfl, Nat.le_of_ble_eq_true rfl⟩) hS (fun H4 locs hp hS => ?_)
  obtain ⟨hu, hx0⟩ := hp
  have hU := hU.tr hu
  have hc_th : b_tt G B0 τ H4 a (ta) (.inr (16, [.ref ax, (.int (nI k)), (.int w_), .ref ax])) := hx0
  rw [← hQ]
  exact b_vret CX hr hlk hS (Nat.le_of_ble_eq_true rfl) (Nat.le_of_ble_eq_true rfl) dX18_init_20 (⟨hU, hc_th⟩)
theorem gf_X18_1_16 {p : Program} {l : Launch} {e : Env} {R : Room} {s : State} {m : MethodId} {args : Array Value} {below : List Frame} {meth : Method} {c : Code} {H : Heap} {locs : List Loc} {cells slots : Nat} {Q : State → Prop} {cc : ByteArray} {pc nL a : Nat} {ls : Array Slot} {rest : List Value} {G : b_G} {B0 : Nat} (CX : b_Cx p s m args c cc nL RX18 G B0) {fs : List Value} (hP : b_at G a (.inr (16, fs)) H) {v : Value} (hv : fs[3]? = some v) (hdg : decode cc pc = .ok (.getfield 1, 3)) (kk : W p l e R s m args below meth c H locs cells slots Q (F0 m (pc + 3) ls (v :: rest))) : W p l e R s m args below meth c H locs cells slots Q (F0 m pc ls (.ref a :: rest)) := b_get CX in_X18 rfl 3 (by decide) q1638 (Or.inl rfl) hP hv hdg kk
theorem gf_X18_20_0 {p : Program} {l : Launch} {e : Env} {R : Room} {s : State} {m : MethodId} {args : Array Value} {below : List Frame} {meth : Method} {c : Code} {H : Heap} {locs : List Loc} {cells slots : Nat} {Q : State → Prop} {cc : ByteArray} {pc nL a : Nat} {ls : Array Slot} {rest : List Value} {G : b_G} {B0 : Nat} (CX : b_Cx p s m args c cc nL RX18 G B0) {fs : List Value} (hP : b_at G a (.inr (0, fs)) H) {v : Value} (hv : fs[0]? = some v) (hdg : decode cc pc = .ok (.getfield 20, 3)) (kk : W p l e R s m args below meth c H locs cells slots Q (F0 m (pc + 3) ls (v :: rest))) : W p l e R s m args below meth c H locs cells slots Q (F0 m pc ls (.ref a :: rest)) := b_getN CX in_X1 rfl 0 (by decide) q255 (Or.inl rfl) hP hv hdg kk
theorem gf_X18_7_16 {p : Program} {l : Launch} {e : Env} {R : Room} {s : State} {m : MethodId} {args : Array Value} {below : List Frame} {meth : Method} {c : Code} {H : Heap} {locs : List Loc} {cells slots : Nat} {Q : State → Prop} {cc : ByteArray} {pc nL a : Nat} {ls : Array Slot} {rest : List Value} {G : b_G} {B0 : Nat} (CX : b_Cx p s m args c cc nL RX18 G B0) {fs : List Value} (hP : b_at G a (.inr (16, fs)) H) {v : Value} (hv : fs[1]? = some v) (hdg : decode cc pc = .ok (.getfield 7, 3)) (kk : W p l e R s m args below meth c H locs cells slots Q (F0 m (pc + 3) ls (v :: rest))) : W p l e R s m args below meth c H locs cells slots Q (F0 m pc ls (.ref a :: rest)) := b_get CX in_X18 rfl 1 (by decide) q1636 (Or.inl rfl) hP hv hdg kk
theorem gf_X18_11_16 {p : Program} {l : Launch} {e : Env} {R : Room} {s : State} {m : MethodId} {args : Array Value} {below : List Frame} {meth : Method} {c : Code} {H : Heap} {locs : List Loc} {cells slots : Nat} {Q : State → Prop} {cc : ByteArray} {pc nL a : Nat} {ls : Array Slot} {rest : List Value} {G : b_G} {B0 : Nat} (CX : b_Cx p s m args c cc nL RX18 G B0) {fs : List Value} (hP : b_at G a (.inr (16, fs)) H) {v : Value} (hv : fs[2]? = some v) (hdg : decode cc pc = .ok (.getfield 11, 3)) (kk : W p l e R s m args below meth c H locs cells slots Q (F0 m (pc + 3) ls (v :: rest))) : W p l e R s m args below meth c H locs cells slots Q (F0 m pc ls (.ref a :: rest)) := b_get CX in_X18 rfl 2 (by decide) q1637 (Or.inl rfl) hP hv hdg kk
theorem cx_X18_26 {p : Program} {l : Launch} {e : Env} {R : Room} {s : State} {m : MethodId} {args : Array Value} {below : List Frame} {meth : Method} {c : Code} {H : Heap} {locs : List Loc} {cells slots : Nat} {cc : ByteArray} {pc nL a : Nat} {ls : Array Slot} {rest : List Value} {G : b_G} {B0 : Nat} (CX : b_Cx p s m args c cc nL RX18 G B0) (hls : ls.size = nL) {rm : Room} {mc ms : Nat} {As st0 : List Value} {Qc : Array Value → State → Outcome → State → Prop} {XC : String → Addr → State → State → Prop} (hM : vx_Met l yX2_trySort (ws_ yX2_trySort cX2_trySort 3 (Option.none)) rm (b_Pc G B0 H (.ref a :: As)) Qc XC mc ms (b_A B0)) (hn : As.length = 2) {fs : List Value} {ci : Nat} {qc : vw_C} (hc : b_cl[ci]? = some qc) (hq : qc.1 = RX2) (hP : b_at G a (.inr (ci, fs)) H) (hS : va_S (b_A B0) s.heap H locs) (hst : st0 = As.reverse ++ .ref a :: rest) (hr : rm.cells = mc ∧ rm.slots = ms ∧ rm.frames + 1 ≤ R.frames ∧ 8 + (3 + 11) + rm.locals ≤ R.locals) (hw : (rest.map fun v => v.category).sum ≤ 8) (hdg : decode cc pc = .ok (.invokevirtual 26, 3)) (hf : cells + mc ≤ R.cells ∧ slots + ms ≤ R.slots) : vx_Run p l e R s m args below meth c H locs cells slots mc ms (F0 m pc ls st0) rest (Qc (Value.ref a :: As).toArray) XC (b_A B0) := vx_runV CX.fix hM (cwV 2 CX.ts (lw_V q1332 q1333 q1334 q80 q1335) rfl hr.1 hr.2.1 (by decide +kernel) ⟨hr.2.2.1, hr.2.2.2⟩) ⟨b_blind G B0 H _, by have h9 := b_recv CX.K hc hP; rw [hq] at h9; exact h9, b_pre _ CX.K hS⟩ rfl hn hls hst (lv_room hw) hdg hf
set_option maxHeartbeats 2000000 in
set_option maxRecDepth 100000 in
theorem m_X18_check (l : Launch) {G : b_G} {B0 : Nat} {H : Heap} {τ : b_T} {id : Nat} {F : Nat → Nat} {M : Nat → Int32} {E : Nat → Bool} {S : b_St} {Z : Nat → Nat → Int32} {da : Nat} {td : Nat} {a : Nat} {asv : Nat} {atx : Nat} {atk : Nat} {hs : Int64} {k : Nat} {w_ : Int32} (hc_D : b_tt G B0 τ H da (td) (.inr (16, [.ref a, .int (nI k), .int w_, .ref a]))) (hc_X : b_tt G B0 τ H a 0 (.inr (0, [.ref ((F 0)), .ref asv, .ref atx, .ref atk, .long hs]))) (hL : LR G B0 τ id F M E H S Z) (hW : b_WF S) (hk : k < 3) : vx_Met l yX18_check (ws_ yX18_check cX18_check 1 (Option.none)) ({ frames := 7, cells := 1, slots := 6, locals := 150 } : Room) (b_Pc G B0 H [.ref da]) (b_Qv B0 (fun H1 => ((c_lt (p_yard S k) w_) = nI 0) ∧ H1 = H)) (b_X B0 (fun E9 q9 H9 => e_px G B0 H (c_lt (p_yard S k) w_) E9 q9 H9)) 1 6 (b_A B0) := by
  refine b_ofX (by decide) (Nat.le_of_ble_eq_true rfl) ?_
  intro p e s m below meth c CX hr hlk htb hS ls hl
  have CX : b_Cx p s m _ c cX18_check 1 RX18 G B0 := CX
  have hx := CX.hx
  have hb := CX.hb
  have hl : lv_has ls 1 [(0, .ref da)] := hl
  generalize hQ : vx_MQ below (b_Qv B0 (fun H1 => ((c_lt (p_yard S k) w_) = nI 0) ∧ H1 = H)) (b_X B0 (fun E9 q9 H9 => e_px G B0 H (c_lt (p_yard S k) w_) E9 q9 H9)) ([.ref da] : List Value).toArray s 1 6 (b_A B0) = Q
  have hX : b_Ext H H := b_Ext.rf
  have hnb : nb S = nb S := rfl
  have hns : ns S = ns S := rfl
  have hn8 := hL.2.2.2.1
  have hn6 := hL.2.2.2.2
  refine lv_aload_n hx hb dX18_check_0 rfl (lv_at hl 0 rfl) ?_
  refine gf_X18_1_16 CX hc_D.at rfl dX18_check_1 ?_
  refine gf_X18_20_0 CX hc_X.at rfl dX18_check_4 ?_
  refine lv_aload_n hx hb dX18_check_7 rfl (lv_at hl 0 rfl) ?_
  refine gf_X18_7_16 CX hc_D.at rfl dX18_check_8 ?_
  refine lv_aload_n hx hb dX18_check_11 rfl (lv_at hl 0 rfl) ?_
  refine gf_X18_11_16 CX hc_D.at rfl dX18_check_12 ?_
  refine b_xv0 (cx_X18_26 (rest := []) CX hl.1 (m_X2_trySort l (k := k) (w_ := w_) hL hW (by omega)) rfl rfl rfl hL.loop.at hS rfl ⟨rfl, rfl, Nat.le_of_ble_eq_true rfl, Nat.le_of_ble_eq_true rfl⟩ (Nat.le_of_ble_eq_true rfl) dX18_check_15 ⟨Nat.le_of_ble_eq_true rfl, Nat.le_of_ble_eq_true rfl⟩) hS (fun E9 q9 Hx1 locs hx9 hS he9 => ?_) (fun hk_15 locs hS => ?_)
  · rw [← hQ]
    exact b_xout htb hlk he9 hS (Nat.le_of_ble_eq_true rfl) (Nat.le_of_ble_eq_true rfl) (hx9)
  rw [← hQ]
  exact vx_ret (b_vret CX hr hlk hS (Nat.le_of_ble_eq_true rfl) (Nat.le_of_ble_eq_true rfl) dX18_check_18 (⟨(by exact hk_15), rfl⟩))
theorem cs_X18_32 {p : Program} {l : Launch} {e : Env} {R : Room} {s : State} {m : MethodId} {args : Array Value} {below : List Frame} {meth : Method} {c : Code} {H : Heap} {locs : List Loc} {cells slots : Nat} {cc : ByteArray} {pc nL a : Nat} {ls : Array Slot} {rest : List Value} {G : b_G} {B0 : Nat} (CX : b_Cx p s m args c cc nL RX18 G B0) (hls : ls.size = nL) {rm : Room} {mc ms : Nat} {As st0 : List Value} {Qc : Array Value → State → Outcome → State → Prop} (hM : Met l yX2_sort (ws_ yX2_sort cX2_sort 7 (Option.some Jvm.ClassFile.FieldType.int)) rm (b_Pc G B0 H (.ref a :: As)) Qc mc ms (b_A B0)) (hn : As.length = 2) {fs : List Value} {ci : Nat} {qc : vw_C} (hc : b_cl[ci]? = some qc) (hq : qc.1 = RX2) (hP : b_at G a (.inr (ci, fs)) H) (hS : va_S (b_A B0) s.heap H locs) (hst : st0 = As.reverse ++ .ref a :: rest) (hr : rm.cells = mc ∧ rm.slots = ms ∧ rm.frames + 1 ≤ R.frames ∧ 8 + (7 + 11) + rm.locals ≤ R.locals) (hw : (rest.map fun v => v.category).sum ≤ 8) (hdg : decode cc pc = .ok (.invokevirtual 32, 3)) (hf : cells + mc ≤ R.cells ∧ slots + ms ≤ R.slots) : va_Run p l e R s m args below meth c H locs cells slots mc ms (F0 m pc ls st0) rest (Qc (Value.ref a :: As).toArray) (b_A B0) := va_runV CX.fix hM (cwV 2 CX.ts (lw_V q1421 q1422 q1423 q80 q1424) rfl hr.1 hr.2.1 (by decide +kernel) ⟨hr.2.2.1, hr.2.2.2⟩) ⟨b_blind G B0 H _, by have h9 := b_recv CX.K hc hP; rw [hq] at h9; exact h9, b_pre _ CX.K hS⟩ rfl hn hls hst (lv_room hw) hdg hf
set_option maxHeartbeats 2000000 in
set_option maxRecDepth 100000 in
theorem m_X18_does (l : Launch) {G : b_G} {B0 : Nat} {H : Heap} {τ : b_T} {id : Nat} {F : Nat → Nat} {M : Nat → Int32} {E : Nat → Bool} {S : b_St} {Z : Nat → Nat → Int32} {da : Nat} {td : Nat} {a : Nat} {asv : Nat} {atx : Nat} {atk : Nat} {hs : Int64} {k : Nat} {w_ : Int32} (hc_D : b_tt G B0 τ H da (td) (.inr (16, [.ref a, .int (nI k), .int w_, .ref a]))) (hc_X : b_tt G B0 τ H a 0 (.inr (0, [.ref ((F 0)), .ref asv, .ref atx, .ref atk, .long hs]))) (hL : LR G B0 τ id F M E H S Z) (hW : b_WF S) (hk : k < 3) (hi0 : 0 < id) (htd : td < 1000) : Met l yX18_does (ws_ yX18_does cX18_does 1 (Option.some Jvm.ClassFile.FieldType.int)) ({ frames := 5, cells := 0, slots := 0, locals := 113 } : Room) (b_Pc G B0 H [.ref da]) (b_Qi B0 (fun r H1 => r = p_yard (s_sort S k w_) k ∧ b_Fr τ (fun t => 1000 * id ≤ t ∧ t < 1000 * id + 1000) H H1 ∧ LR G B0 τ id F M E H1 ((s_sort S k w_)) Z)) 0 0 (b_A B0) := by
  refine b_of (by decide) (Nat.le_of_ble_eq_true rfl) ?_
  intro p e s m below meth c CX hr hlk hnm hS ls hl
  have CX : b_Cx p s m _ c cX18_does 1 RX18 G B0 := CX
  have hx := CX.hx
  have hb := CX.hb
  have hl : lv_has ls 1 [(0, .ref da)] := hl
  generalize hQ : MQ below (b_Qi B0 (fun r H1 => r = p_yard (s_sort S k w_) k ∧ b_Fr τ (fun t => 1000 * id ≤ t ∧ t < 1000 * id + 1000) H H1 ∧ LR G B0 τ id F M E H1 ((s_sort S k w_)) Z)) ([.ref da] : List Value).toArray s 0 0 (b_A B0) = Q
  have hF : b_Fr τ (fun t => 1000 * id ≤ t ∧ t < 1000 * id + 1000) H H := b_Fr.rf
  have hA : b_Ag τ τ H := b_Ag.rf
  have hnb : nb S = nb S := rfl
  have hns : ns S = ns S := rfl
  have hn8 := hL.2.2.2.1
  have hn6 := hL.2.2.2.2
  refine lv_aload_n hx hb dX18_does_0 rfl (lv_at hl 0 rfl) ?_
  refine gf_X18_1_16 CX hc_D.at rfl dX18_does_1 ?_
  refine gf_X18_20_0 CX hc_X.at rfl dX18_does_4 ?_
  refine lv_aload_n hx hb dX18_does_7 rfl (lv_at hl 0 rfl) ?_
  refine gf_X18_7_16 CX hc_D.at rfl dX18_does_8 ?_
  refine lv_aload_n hx hb dX18_does_11 rfl (lv_at hl 0 rfl) ?_
  refine gf_X18_11_16 CX hc_D.at rfl dX18_does_12 ?_
  refine b_ci (cs_X18_32 (rest := []) CX hl.1 (m_X2_sort l (k := k) (w_ := w_) hL hW (by omega)) rfl rfl rfl hL.loop.at hS rfl ⟨rfl, rfl, Nat.le_of_ble_eq_true rfl, Nat.le_of_ble_eq_true rfl⟩ (Nat.le_of_ble_eq_true rfl) dX18_does_15 ⟨Nat.le_of_ble_eq_true rfl, Nat.le_of_ble_eq_true rfl⟩) hS (fun r H1 locs hp hS => ?_)
  obtain ⟨rfl, hF9, hL9⟩ := hp
  have hc_D := hc_D.fr hF9 (show ¬ (1000 * id ≤ (td) ∧ (td) < 1000 * id + 1000) by omega)
  have hc_X := hc_X.fr hF9 (show ¬ (1000 * id ≤ 0 ∧ 0 < 1000 * id + 1000) by omega)
  have hF := hF.tr hA hF9 (fun q9 hq9 x9 => by have x8 : 1000 * id ≤ τ q9 ∧ τ q9 < 1000 * id + 1000 := x9; show 1000 * id ≤ τ q9 ∧ τ q9 < 1000 * id + 1000; omega)
  have hL : LR G B0 τ id F M E H1 ((s_sort S k w_)) Z := hL9
  rw [← hQ]
  exact b_iret CX hr hlk hS (Nat.le_of_ble_eq_true rfl) (Nat.le_of_ble_eq_true rfl) dX18_does_18 (⟨rfl, hF, hL⟩)
theorem cx_X6_15_16 {p : Program} {l : Launch} {e : Env} {R : Room} {s : State} {m : MethodId} {args : Array Value} {below : List Frame} {meth : Method} {c : Code} {H : Heap} {locs : List Loc} {cells slots : Nat} {cc : ByteArray} {pc nL a : Nat} {ls : Array Slot} {rest : List Value} {G : b_G} {B0 : Nat} (CX : b_Cx p s m args c cc nL RX6 G B0) (hls : ls.size = nL) {rm : Room} {mc ms : Nat} {As st0 : List Value} {Qc : Array Value → State → Outcome → State → Prop} {XC : String → Addr → State → State → Prop} (hM : vx_Met l yX18_check (ws_ yX18_check cX18_check 1 (Option.none)) rm (b_Pc G B0 H (.ref a :: As)) Qc XC mc ms (b_A B0)) (hn : As.length = 0) {fs : List Value} (hP : b_at G a (.inr (16, fs)) H) (hS : va_S (b_A B0) s.heap H locs) (hst : st0 = As.reverse ++ .ref a :: rest) (hr : rm.cells = mc ∧ rm.slots = ms ∧ rm.frames + 1 ≤ R.frames ∧ 8 + (1 + 11) + rm.locals ≤ R.locals) (hw : (rest.map fun v => v.category).sum ≤ 8) (hdg : decode cc pc = .ok (.invokevirtual 15, 3)) (hf : cells + mc ≤ R.cells ∧ slots + ms ≤ R.slots) : vx_Run p l e R s m args below meth c H locs cells slots mc ms (F0 m pc ls st0) rest (Qc (Value.ref a :: As).toArray) XC (b_A B0) := vx_runU CX.fix hM (va_cwA (C := RX18) (owner := RX6) 0 CX.ts (lw_U q1198 q1200 q1329 q1330 q116 q1331) rfl hr.1 hr.2.1 (CX.K.2.1 _ q1199 rfl) ⟨by decide, by decide, by decide +kernel⟩ ⟨hr.2.2.1, hr.2.2.2⟩) ⟨b_blind G B0 H _, b_recv CX.K (ci := 16) rfl hP, b_pre _ CX.K hS⟩ rfl hn hls hst (lv_room hw) hdg hf
set_option maxHeartbeats 2000000 in
set_option maxRecDepth 100000 in
theorem m_X6_reason_16 (l : Launch) {G : b_G} {B0 : Nat} {H : Heap} {τ : b_T} {id : Nat} {F : Nat → Nat} {M : Nat → Int32} {E : Nat → Bool} {S : b_St} {Z : Nat → Nat → Int32} {da : Nat} {td : Nat} {a : Nat} {asv : Nat} {atx : Nat} {atk : Nat} {hs : Int64} {k : Nat} {w_ : Int32} (hc_D : b_tt G B0 τ H da (td) (.inr (16, [.ref a, .int (nI k), .int w_, .ref a]))) (hc_X : b_tt G B0 τ H a 0 (.inr (0, [.ref ((F 0)), .ref asv, .ref atx, .ref atk, .long hs]))) (hL : LR G B0 τ id F M E H S Z) (hW : b_WF S) (hk : k < 3) : vx_Met l yX6_reason (wsW_ yX6_reason cX6_reason 2 (Option.some Jvm.ClassFile.FieldType.int) [((0 : Nat), (5 : Nat), (6 : Nat), (18 : Nat)), ((0 : Nat), (5 : Nat), (6 : Nat), (20 : Nat)), ((0 : Nat), (5 : Nat), (6 : Nat), (22 : Nat)), ((0 : Nat), (5 : Nat), (12 : Nat), (25 : Nat))]) ({ frames := 8, cells := 1, slots := 6, locals := 170 } : Room) (b_Pc G B0 H [.ref da]) (b_Qi B0 (fun r H1 => r = (c_lt (p_yard S k) w_) ∧ b_Ext H H1)) (b_X B0 (fun E9 q9 H9 => False)) 1 6 (b_A B0) := by
  refine b_ofXW (by decide) (Nat.le_of_ble_eq_true rfl) ?_
  intro p e s m below meth c CX hr hlk htb hS ls hl
  have CX : b_Cx p s m _ c cX6_reason 2 RX6 G B0 := CX
  have hx := CX.hx
  have hb := CX.hb
  have hl : lv_has ls 2 [(0, .ref da)] := hl
  generalize hQ : vx_MQ below (b_Qi B0 (fun r H1 => r = (c_lt (p_yard S k) w_) ∧ b_Ext H H1)) (b_X B0 (fun E9 q9 H9 => False)) ([.ref da] : List Value).toArray s 1 6 (b_A B0) = Q
  have hX : b_Ext H H := b_Ext.rf
  have hnb : nb S = nb S := rfl
  have hns : ns S = ns S := rfl
  have hn8 := hL.2.2.2.1
  have hn6 := hL.2.2.2.2
  refine lv_aload_n hx hb dX6_reason_0 rfl (lv_at hl 0 rfl) ?_
  refine b_xv0 (cx_X6_15_16 (rest := []) CX hl.1 (m_X18_check l (da := da) (td := td) (a := a) (asv := asv) (atx := atx) (atk := atk) (hs := hs) (k := k) (w_ := w_) hc_D hc_X hL hW (by omega)) rfl hc_D.at hS rfl ⟨rfl, rfl, Nat.le_of_ble_eq_true rfl, Nat.le_of_ble_eq_true rfl⟩ (Nat.le_of_ble_eq_true rfl) dX6_reason_1 ⟨Nat.le_of_ble_eq_true rfl, Nat.le_of_ble_eq_true rfl⟩) hS (fun E9 q9 Hx1 locs hx9 hS he9 => ?_) (fun hk_1 locs hS => ?_)
  · obtain ⟨hE, hz, hB, v9, hv9, hcd, hnm9, hat⟩ := hx9
    rcases hv9 with rfl | rfl | rfl
    · obtain rfl := hnm9
      refine b_xcatch CX (E := "BottleLoop$NoBottles") (name := "BottleLoop$NoBottles") [] ⟨0, 5, 6, 18⟩ [⟨0, 5, 6, 20⟩, ⟨0, 5, 6, 22⟩, ⟨0, 5, 12, 25⟩] (by rw [htb]; rfl) (fun z hz9 => nomatch hz9) (by decide) (by decide) q1194 (CX.nw q1215 rfl rfl) he9 ?_
      have hc_D := hc_D.ad (tb := 101) hE hz
      have hc_X := hc_X.ad (tb := 101) hE hz
      have hL := hL.ad (tb := 101) hE hz
      have fr_ex : H.size ≤ q9 := Nat.le_trans hX.1 hz
      have hX := hX.tr hE
      have hc_ex : b_tt G B0 ((upT τ q9 101)) Hx1 q9 101 (.inr (18, [.null, .null, .null, .null, .null, .int (nI 0)])) := b_tt.mk hat hB
      refine lv_astore_n (lv' := [(1, .ref q9), (0, .ref da)]) hx hb dX6_reason_6 rfl hl (Nat.le_of_ble_eq_true rfl) rfl (fun ls hl => ?_)
      refine lv_aload_n hx hb dX6_reason_7 rfl (lv_at hl 0 rfl) ?_
      refine b_ci0 (cs_X6_24_18 (rest := []) CX hl.1 (m_X9_number l (a := q9) (ta := 101) hc_ex) rfl hc_ex.at hS rfl ⟨rfl, rfl, Nat.le_of_ble_eq_true rfl, Nat.le_of_ble_eq_true rfl⟩ (Nat.le_of_ble_eq_true rfl) dX6_reason_8 ⟨Nat.le_of_ble_eq_true rfl, Nat.le_of_ble_eq_true rfl⟩) hS (fun locs hS => ?_)
      rw [← hQ]
      exact vx_ret (b_iret CX hr hlk hS (Nat.le_of_ble_eq_true rfl) (Nat.le_of_ble_eq_true rfl) dX6_reason_11 (⟨(by first | exact hk_1.symm | exact hcd.symm), hX⟩))
    · obtain rfl := hnm9
      refine b_xcatch CX (E := "BottleLoop$NoCrates") (name := "BottleLoop$NoCrates") [⟨0, 5, 6, 18⟩] ⟨0, 5, 6, 20⟩ [⟨0, 5, 6, 22⟩, ⟨0, 5, 12, 25⟩] (by rw [htb]; rfl) (fun z hz9 => by rcases List.mem_cons.mp hz9 with rfl | h9; exact Or.inr ⟨by decide, "BottleLoop$NoBottles", q1194, by decide⟩; exact nomatch h9) (by decide) (by decide) q1195 (CX.nw q1242 rfl rfl) he9 ?_
      have hc_D := hc_D.ad (tb := 101) hE hz
      have hc_X := hc_X.ad (tb := 101) hE hz
      have hL := hL.ad (tb := 101) hE hz
      have fr_ex : H.size ≤ q9 := Nat.le_trans hX.1 hz
      have hX := hX.tr hE
      have hc_ex : b_tt G B0 ((upT τ q9 101)) Hx1 q9 101 (.inr (19, [.null, .null, .null, .null, .null, .int (nI 0)])) := b_tt.mk hat hB
      refine lv_astore_n (lv' := [(1, .ref q9), (0, .ref da)]) hx hb dX6_reason_6 rfl hl (Nat.le_of_ble_eq_true rfl) rfl (fun ls hl => ?_)
      refine lv_aload_n hx hb dX6_reason_7 rfl (lv_at hl 0 rfl) ?_
      refine b_ci0 (cs_X6_24_19 (rest := []) CX hl.1 (m_X10_number l (a := q9) (ta := 101) hc_ex) rfl hc_ex.at hS rfl ⟨rfl, rfl, Nat.le_of_ble_eq_true rfl, Nat.le_of_ble_eq_true rfl⟩ (Nat.le_of_ble_eq_true rfl) dX6_reason_8 ⟨Nat.le_of_ble_eq_true rfl, Nat.le_of_ble_eq_true rfl⟩) hS (fun locs hS => ?_)
      rw [← hQ]
      exact vx_ret (b_iret CX hr hlk hS (Nat.le_of_ble_eq_true rfl) (Nat.le_of_ble_eq_true rfl) dX6_reason_11 (⟨(by first | exact hk_1.symm | exact hcd.symm), hX⟩))
    · obtain rfl := hnm9
      refine b_xcatch CX (E := "BottleLoop$NoMoney") (name := "BottleLoop$NoMoney") [⟨0, 5, 6, 18⟩, ⟨0, 5, 6, 20⟩] ⟨0, 5, 6, 22⟩ [⟨0, 5, 12, 25⟩] (by rw [htb]; rfl) (fun z hz9 => by rcases List.mem_cons.mp hz9 with rfl | h9; exact Or.inr ⟨by decide, "BottleLoop$NoBottles", q1194, by decide⟩; rcases List.mem_cons.mp h9 with rfl | h8; exact Or.inr ⟨by decide, "BottleLoop$NoCrates", q1195, by decide⟩; exact nomatch h8) (by decide) (by decide) q1196 (CX.nw q1261 rfl rfl) he9 ?_
      have hc_D := hc_D.ad (tb := 101) hE hz
      have hc_X := hc_X.ad (tb := 101) hE hz
      have hL := hL.ad (tb := 101) hE hz
      have fr_ex : H.size ≤ q9 := Nat.le_trans hX.1 hz
      have hX := hX.tr hE
      have hc_ex : b_tt G B0 ((upT τ q9 101)) Hx1 q9 101 (.inr (20, [.null, .null, .null, .null, .null, .int (nI 0)])) := b_tt.mk hat hB
      refine lv_astore_n (lv' := [(1, .ref q9), (0, .ref da)]) hx hb dX6_reason_6 rfl hl (Nat.le_of_ble_eq_true rfl) rfl (fun ls hl => ?_)
      refine lv_aload_n hx hb dX6_reason_7 rfl (lv_at hl 0 rfl) ?_
      refine b_ci0 (cs_X6_24_20 (rest := []) CX hl.1 (m_X11_number l (a := q9) (ta := 101) hc_ex) rfl hc_ex.at hS rfl ⟨rfl, rfl, Nat.le_of_ble_eq_true rfl, Nat.le_of_ble_eq_true rfl⟩ (Nat.le_of_ble_eq_true rfl) dX6_reason_8 ⟨Nat.le_of_ble_eq_true rfl, Nat.le_of_ble_eq_true rfl⟩) hS (fun locs hS => ?_)
      rw [← hQ]
      exact vx_ret (b_iret CX hr hlk hS (Nat.le_of_ble_eq_true rfl) (Nat.le_of_ble_eq_true rfl) dX6_reason_11 (⟨(by first | exact hk_1.symm | exact hcd.symm), hX⟩))
  refine lv_iconst (v := nI 0) hx hb dX6_reason_4 rfl ?_
  rw [← hQ]
  exact vx_ret (b_iret CX hr hlk hS (Nat.le_of_ble_eq_true rfl) (Nat.le_of_ble_eq_true rfl) dX6_reason_5 (⟨(by first | exact hk_1.symm | exact hcd.symm), hX⟩))
theorem pa_X6_3_17 {p : Program} {l : Launch} {e : Env} {R : Room} {s : State} {m : MethodId} {args : Array Value} {below : List Frame} {meth : Method} {c : Code} {H : Heap} {locs : List Loc} {cells slots : Nat} {Q : State → Prop} {cc : ByteArray} {pc nL a : Nat} {ls : Array Slot} {rest : List Value} {G : b_G} {B0 : Nat} (CX : b_Cx p s m args c cc nL RX6 G B0) (hin2 : meth.name = "<init>") {fs : List Value} (hP : b_at G a (.inr (17, fs)) H) (hS : va_S (b_A B0) s.heap H locs) (ha : B0 ≤ a) {v : Value} (hn : narrow (tyX19 0) v = v) (hfit : fits (tyX19 0) v = true) (hl : 0 < fs.length) (hl2 : 4 < fs.length) (hdg : decode cc pc = .ok (.putfield 3, 3)) (kk : ∀ (w : Value) (H1 : Heap) (locs1 : List Loc), (w = v ∨ fs[4]? = some w) → b_at G a (.inr (17, (fs.set 0 v).set 4 w)) H1 → b_Up a H H1 → va_S (b_A B0) s.heap H1 locs1 → W p l e R s m args below meth c H1 locs1 cells slots Q (F0 m (pc + 3) ls rest)) : W p l e R s m args below meth c H locs cells slots Q (F0 m pc ls (v :: .ref a :: rest)) := b_putFA CX in_X19 tyX19 tyX19_ok rfl 0 4 (by decide) (by decide +kernel) q1165 (Or.inl rfl) rfl hin2 rfl hP hS ha hn hfit hl hl2 (by decide) hdg kk
set_option maxHeartbeats 2000000 in
set_option maxRecDepth 100000 in
theorem m_X6_init_17 (l : Launch) {G : b_G} {B0 : Nat} {H : Heap} {τ : b_T} {a : Nat} {ta : Nat} {ax : Nat} {u0 : Value} {u1 : Value} {u2 : Value} {u3 : Value} (hc_th : b_tt G B0 τ H a (ta) (.inr (17, [u0, u1, u2, u3, .ref ax]))) : Met l yX6_init (ws_ yX6_init cX6_init 2 (Option.none)) ({ frames := 1, cells := 0, slots := 0, locals := 20 } : Room) (b_Pc G B0 H [.ref a, .ref ax]) (b_Qv B0 (fun H1 => b_Up a H H1 ∧ b_tt G B0 τ H1 a (ta) (.inr (17, [.ref ax, u1, u2, u3, .ref ax])))) 0 0 (b_A B0) := by
  refine b_of (by decide) (Nat.le_of_ble_eq_true rfl) ?_
  intro p e s m below meth c CX hr hlk hnm hS ls hl
  have CX : b_Cx p s m _ c cX6_init 2 RX6 G B0 := CX
  have hx := CX.hx
  have hb := CX.hb
  have hl : lv_has ls 2 [(0, .ref a), (1, .ref ax)] := hl
  generalize hQ : MQ below (b_Qv B0 (fun H1 => b_Up a H H1 ∧ b_tt G B0 τ H1 a (ta) (.inr (17, [.ref ax, u1, u2, u3, .ref ax])))) ([.ref a, .ref ax] : List Value).toArray s 0 0 (b_A B0) = Q
  have hU : b_Up a H H := b_Up.rf
  refine lv_aload_n hx hb dX6_init_0 rfl (lv_at hl 0 rfl) ?_
  refine lv_aload_n hx hb dX6_init_1 rfl (lv_at hl 1 rfl) ?_
  refine pa_X6_3_17 CX hnm hc_th.at hS hc_th.B rfl rfl (Nat.le_of_ble_eq_true rfl) (Nat.le_of_ble_eq_true rfl) dX6_init_2 (fun w1 H1 locs hw hat hu hS => ?_)
  obtain rfl := hw.elim (fun h9 => h9) (fun h9 => (Option.some.inj h9).symm)
  have hU := hU.tr hu
  have hc_th : b_tt G B0 τ H1 a (ta) (.inr (17, [.ref ax, u1, u2, u3, .ref ax])) := hc_th.set hat
  refine lv_aload_n hx hb dX6_init_5 rfl (lv_at hl 0 rfl) ?_
  refine W.objInit hx hb CX.ow (CX.ts _ q1161) (CX.ts _ q132) (CX.ts _ q133) rfl (by rw [CX.ml]; exact hl.1) rfl dX6_init_6 (Nat.le_of_ble_eq_true rfl) (Nat.le_of_ble_eq_true rfl) ?_
  refine W.eq (g2 := F0 m 9 ls []) rfl ?_
  rw [← hQ]
  exact b_vret CX hr hlk hS (Nat.le_of_ble_eq_true rfl) (Nat.le_of_ble_eq_true rfl) dX6_init_9 (⟨hU, hc_th⟩)
theorem pa_X19_1_17 {p : Program} {l : Launch} {e : Env} {R : Room} {s : State} {m : MethodId} {args : Array Value} {below : List Frame} {meth : Method} {c : Code} {H : Heap} {locs : List Loc} {cells slots : Nat} {Q : State → Prop} {cc : ByteArray} {pc nL a : Nat} {ls : Array Slot} {rest : List Value} {G : b_G} {B0 : Nat} (CX : b_Cx p s m args c cc nL RX19 G B0) (hin2 : meth.name = "<init>") {fs : List Value} (hP : b_at G a (.inr (17, fs)) H) (hS : va_S (b_A B0) s.heap H locs) (ha : B0 ≤ a) {v : Value} (hn : narrow (tyX19 4) v = v) (hfit : fits (tyX19 4) v = true) (hl : 4 < fs.length) (hl2 : 0 < fs.length) (hdg : decode cc pc = .ok (.putfield 1, 3)) (kk : ∀ (w : Value) (H1 : Heap) (locs1 : List Loc), (w = v ∨ fs[0]? = some w) → b_at G a (.inr (17, (fs.set 4 v).set 0 w)) H1 → b_Up a H H1 → va_S (b_A B0) s.heap H1 locs1 → W p l e R s m args below meth c H1 locs1 cells slots Q (F0 m (pc + 3) ls rest)) : W p l e R s m args below meth c H locs cells slots Q (F0 m pc ls (v :: .ref a :: rest)) := b_putFA CX in_X19 tyX19 tyX19_ok rfl 4 0 (by decide) (by decide +kernel) q1666 (Or.inl rfl) rfl hin2 rfl hP hS ha hn hfit hl hl2 (by decide) hdg kk
theorem pf_X19_7_17 {p : Program} {l : Launch} {e : Env} {R : Room} {s : State} {m : MethodId} {args : Array Value} {below : List Frame} {meth : Method} {c : Code} {H : Heap} {locs : List Loc} {cells slots : Nat} {Q : State → Prop} {cc : ByteArray} {pc nL a : Nat} {ls : Array Slot} {rest : List Value} {G : b_G} {B0 : Nat} (CX : b_Cx p s m args c cc nL RX19 G B0) (hin2 : meth.name = "<init>") {fs : List Value} (hP : b_at G a (.inr (17, fs)) H) (hS : va_S (b_A B0) s.heap H locs) (ha : B0 ≤ a) {v : Value} (hn : narrow (tyX19 1) v = v) (hfit : fits (tyX19 1) v = true) (hl : 1 < fs.length) (hdg : decode cc pc = .ok (.putfield 7, 3)) (kk : ∀ (H1 : Heap) (locs1 : List Loc), b_at G a (.inr (17, fs.set 1 v)) H1 → b_Up a H H1 → va_S (b_A B0) s.heap H1 locs1 → W p l e R s m args below meth c H1 locs1 cells slots Q (F0 m (pc + 3) ls rest)) : W p l e R s m args below meth c H locs cells slots Q (F0 m pc ls (v :: .ref a :: rest)) := b_putF CX in_X19 tyX19 tyX19_ok rfl 1 (by decide) (by decide +kernel) q1663 (Or.inl rfl) rfl hin2 rfl hP hS ha hn hfit hl hdg kk
theorem pf_X19_11_17 {p : Program} {l : Launch} {e : Env} {R : Room} {s : State} {m : MethodId} {args : Array Value} {below : List Frame} {meth : Method} {c : Code} {H : Heap} {locs : List Loc} {cells slots : Nat} {Q : State → Prop} {cc : ByteArray} {pc nL a : Nat} {ls : Array Slot} {rest : List Value} {G : b_G} {B0 : Nat} (CX : b_Cx p s m args c cc nL RX19 G B0) (hin2 : meth.name = "<init>") {fs : List Value} (hP : b_at G a (.inr (17, fs)) H) (hS : va_S (b_A B0) s.heap H locs) (ha : B0 ≤ a) {v : Value} (hn : narrow (tyX19 2) v = v) (hfit : fits (tyX19 2) v = true) (hl : 2 < fs.length) (hdg : decode cc pc = .ok (.putfield 11, 3)) (kk : ∀ (H1 : Heap) (locs1 : List Loc), b_at G a (.inr (17, fs.set 2 v)) H1 → b_Up a H H1 → va_S (b_A B0) s.heap H1 locs1 → W p l e R s m args below meth c H1 locs1 cells slots Q (F0 m (pc + 3) ls rest)) : W p l e R s m args below meth c H locs cells slots Q (F0 m pc ls (v :: .ref a :: rest)) := b_putF CX in_X19 tyX19 tyX19_ok rfl 2 (by decide) (by decide +kernel) q1664 (Or.inl rfl) rfl hin2 rfl hP hS ha hn hfit hl hdg kk
theorem pf_X19_14_17 {p : Program} {l : Launch} {e : Env} {R : Room} {s : State} {m : MethodId} {args : Array Value} {below : List Frame} {meth : Method} {c : Code} {H : Heap} {locs : List Loc} {cells slots : Nat} {Q : State → Prop} {cc : ByteArray} {pc nL a : Nat} {ls : Array Slot} {rest : List Value} {G : b_G} {B0 : Nat} (CX : b_Cx p s m args c cc nL RX19 G B0) (hin2 : meth.name = "<init>") {fs : List Value} (hP : b_at G a (.inr (17, fs)) H) (hS : va_S (b_A B0) s.heap H locs) (ha : B0 ≤ a) {v : Value} (hn : narrow (tyX19 3) v = v) (hfit : fits (tyX19 3) v = true) (hl : 3 < fs.length) (hdg : decode cc pc = .ok (.putfield 14, 3)) (kk : ∀ (H1 : Heap) (locs1 : List Loc), b_at G a (.inr (17, fs.set 3 v)) H1 → b_Up a H H1 → va_S (b_A B0) s.heap H1 locs1 → W p l e R s m args below meth c H1 locs1 cells slots Q (F0 m (pc + 3) ls rest)) : W p l e R s m args below meth c H locs cells slots Q (F0 m pc ls (v :: .ref a :: rest)) := b_putF CX in_X19 tyX19 tyX19_ok rfl 3 (by decide) (by decide +kernel) q1665 (Or.inl rfl) rfl hin2 rfl hP hS ha hn hfit hl hdg kk
theorem cs_X19_17 {p : Program} {l : Launch} {e : Env} {R : Room} {s : State} {m : MethodId} {args : Array Value} {below : List Frame} {meth : Method} {c : Code} {H : Heap} {locs : List Loc} {cells slots : Nat} {cc : ByteArray} {pc nL a : Nat} {ls : Array Slot} {rest : List Value} {G : b_G} {B0 : Nat} (CX : b_Cx p s m args c cc nL RX19 G B0) (hls : ls.size = nL) {rm : Room} {mc ms : Nat} {As st0 : List Value} {Qc : Array Value → State → Outcome → State → Prop} (hM : Met l yX6_init (ws_ yX6_init cX6_init 2 (Option.none)) rm (b_Pc G B0 H (.ref a :: As)) Qc mc ms (b_A B0)) (hn : As.length = 1) (hS : va_S (b_A B0) s.heap H locs) (hst : st0 = As.reverse ++ .ref a :: rest) (hr : rm.cells = mc ∧ rm.slots = ms ∧ rm.frames + 1 ≤ R.frames ∧ 8 + (2 + 11) + rm.locals ≤ R.locals) (hw : (rest.map fun v => v.category).sum ≤ 8) (hdg : decode cc pc = .ok (.invokespecial 17, 3)) (hf : cells + mc ≤ R.cells ∧ slots + ms ≤ R.slots) : va_Run p l e R s m args below meth c H locs cells slots mc ms (F0 m pc ls st0) rest (Qc (Value.ref a :: As).toArray) (b_A B0) := va_runIN CX.fix hM (⟨va_cnB 1 CX.ts (lw_meth q1160) rfl hr.1 hr.2.1 (CX.K.2.1 _ q1662 rfl) (CX.ts _ q104) (by decide +kernel) ⟨hr.2.2.1, hr.2.2.2⟩, rfl, CX.ts _ q1159⟩) ⟨b_blind G B0 H _, b_pre _ CX.K hS⟩ rfl hn hls hst (lv_room hw) hdg hf
set_option maxHeartbeats 2000000 in
set_option maxRecDepth 100000 in
theorem m_X19_init (l : Launch) {G : b_G} {B0 : Nat} {H : Heap} {τ : b_T} {a : Nat} {ta : Nat} {ax : Nat} {x : Nat} {w_ : Int32} {y : Nat} (hc_th : b_tt G B0 τ H a (ta) (.inr (17, [.null, .int (nI 0), .int (nI 0), .int (nI 0), .null]))) : Met l yX19_init (ws_ yX19_init cX19_init 5 (Option.none)) ({ frames := 2, cells := 0, slots := 0, locals := 41 } : Room) (b_Pc G B0 H [.ref a, .ref ax, .int (nI x), .int w_, .int (nI y)]) (b_Qv B0 (fun H1 => b_Up a H H1 ∧ b_tt G B0 τ H1 a (ta) (.inr (17, [.ref ax, .int (nI x), .int w_, .int (nI y), .ref ax])))) 0 0 (b_A B0) := by
  refine b_of (by decide) (Nat.le_of_ble_eq_true rfl) ?_
  intro p e s m below meth c CX hr hlk hnm hS ls hl
  have CX : b_Cx p s m _ c cX19_init 5 RX19 G B0 := CX
  have hx := CX.hx
  have hb := CX.hb
  have hl : lv_has ls 5 [(0, .ref a), (1, .ref ax), (2, .int (nI x)), (3, .int w_), (4, .int (nI y))] := hl
  generalize hQ : MQ below (b_Qv B0 (fun H1 => b_Up a H H1 ∧ b_tt G B0 τ H1 a (ta) (.inr (17, [.ref ax, .int (nI x), .int w_, .int (nI y), .ref ax])))) ([.ref a, .ref ax, .int (nI x), .int w_, .int (nI y)] : List Value).toArray s 0 0 (b_A B0) = Q
  have hU : b_Up a H H := b_Up.rf
  refine lv_aload_n hx hb dX19_init_0 rfl (lv_at hl 0 rfl) ?_
  refine lv_aload_n hx hb dX19_init_1 rfl (lv_at hl 1 rfl) ?_
  refine pa_X19_1_17 CX hnm hc_th.at hS hc_th.B rfl rfl (Nat.le_of_ble_eq_true rfl) (Nat.le_of_ble_eq_true rfl) dX19_init_2 (fun w1 H1 locs hw hat hu hS => ?_)
  have hU := hU.tr hu
  have hc_th : b_tt G B0 τ H1 a (ta) (.inr (17, [w1, .int (nI 0), .int (nI 0), .int (nI 0), .ref ax])) := hc_th.set hat
  refine lv_aload_n hx hb dX19_init_5 rfl (lv_at hl 0 rfl) ?_
  refine lv_iload_n hx hb dX19_init_6 rfl (lv_at hl 2 rfl) ?_
  refine pf_X19_7_17 CX hnm hc_th.at hS hc_th.B rfl rfl (Nat.le_of_ble_eq_true rfl) dX19_init_7 (fun H2 locs hat hu hS => ?_)
  have hU := hU.tr hu
  have hc_th : b_tt G B0 τ H2 a (ta) (.inr (17, [w1, .int (nI x), .int (nI 0), .int (nI 0), .ref ax])) := hc_th.set hat
  refine lv_aload_n hx hb dX19_init_10 rfl (lv_at hl 0 rfl) ?_
  refine lv_iload_n hx hb dX19_init_11 rfl (lv_at hl 3 rfl) ?_
  refine pf_X19_11_17 CX hnm hc_th.at hS hc_th.B rfl rfl (Nat.le_of_ble_eq_true rfl) dX19_init_12 (fun H3 locs hat hu hS => ?_)
  have hU := hU.tr hu
  have hc_th : b_tt G B0 τ H3 a (ta) (.inr (17, [w1, .int (nI x), .int w_, .int (nI 0), .ref ax])) := hc_th.set hat
  refine lv_aload_n hx hb dX19_init_15 rfl (lv_at hl 0 rfl) ?_
  refine lv_iload hx hb dX19_init_16 (lv_at hl 4 rfl) ?_
  refine pf_X19_14_17 CX hnm hc_th.at hS hc_th.B rfl rfl (Nat.le_of_ble_eq_true rfl) dX19_init_18 (fun H4 locs hat hu hS => ?_)
  have hU := hU.tr hu
  have hc_th : b_tt G B0 τ H4 a (ta) (.inr (17, [w1, .int (nI x), .int w_, .int (nI y), .ref ax])) := hc_th.set hat
  refine lv_aload_n hx hb dX19_init_21 rfl (lv_at hl 0 rfl) ?_
  refine lv_aload_n hx hb dX19_init_22 rfl (lv_at hl 1 rfl) ?_
  refine b_cv (cs_X19_17 (rest := []) CX hl.1 (m_X6_init_17 l (a := a) (ta := ta) (u0 := w1) (u1 := .int (nI x)) (u2 := .int w_) (u3 := .int (nI y)) (ax := ax) hc_th) rfl hS rfl ⟨rfl, rfl, Nat.le_of_ble_eq_true rfl, Nat.le_of_ble_eq_true rfl⟩ (Nat.le_of_ble_eq_true rfl) dX19_init_23 ⟨Nat.le_of_ble_eq_true rfl, Nat.le_of_ble_eq_true rfl⟩) hS (fun H5 locs hp hS => ?_)
  obtain ⟨hu, hx0⟩ := hp
  have hU := hU.tr hu
  have hc_th : b_tt G B0 τ H5 a (ta) (.inr (17, [.ref ax, (.int (nI x)), (.int w_), (.int (nI y)), .ref ax])) := hx0
  rw [← hQ]
  exact b_vret CX hr hlk hS (Nat.le_of_ble_eq_true rfl) (Nat.le_of_ble_eq_true rfl) dX19_init_26 (⟨hU, hc_th⟩)
theorem gf_X19_1_17 {p : Program} {l : Launch} {e : Env} {R : Room} {s : State} {m : MethodId} {args : Array Value} {below : List Frame} {meth : Method} {c : Code} {H : Heap} {locs : List Loc} {cells slots : Nat} {Q : State → Prop} {cc : ByteArray} {pc nL a : Nat} {ls : Array Slot} {rest : List Value} {G : b_G} {B0 : Nat} (CX : b_Cx p s m args c cc nL RX19 G B0) {fs : List Value} (hP : b_at G a (.inr (17, fs)) H) {v : Value} (hv : fs[4]? = some v) (hdg : decode cc pc = .ok (.getfield 1, 3)) (kk : W p l e R s m args below meth c H locs cells slots Q (F0 m (pc + 3) ls (v :: rest))) : W p l e R s m args below meth c H locs cells slots Q (F0 m pc ls (.ref a :: rest)) := b_get CX in_X19 rfl 4 (by decide) q1666 (Or.inl rfl) hP hv hdg kk
theorem gf_X19_23_0 {p : Program} {l : Launch} {e : Env} {R : Room} {s : State} {m : MethodId} {args : Array Value} {below : List Frame} {meth : Method} {c : Code} {H : Heap} {locs : List Loc} {cells slots : Nat} {Q : State → Prop} {cc : ByteArray} {pc nL a : Nat} {ls : Array Slot} {rest : List Value} {G : b_G} {B0 : Nat} (CX : b_Cx p s m args c cc nL RX19 G B0) {fs : List Value} (hP : b_at G a (.inr (0, fs)) H) {v : Value} (hv : fs[0]? = some v) (hdg : decode cc pc = .ok (.getfield 23, 3)) (kk : W p l e R s m args below meth c H locs cells slots Q (F0 m (pc + 3) ls (v :: rest))) : W p l e R s m args below meth c H locs cells slots Q (F0 m pc ls (.ref a :: rest)) := b_getN CX in_X1 rfl 0 (by decide) q256 (Or.inl rfl) hP hv hdg kk
theorem gf_X19_29_1 {p : Program} {l : Launch} {e : Env} {R : Room} {s : State} {m : MethodId} {args : Array Value} {below : List Frame} {meth : Method} {c : Code} {H : Heap} {locs : List Loc} {cells slots : Nat} {Q : State → Prop} {cc : ByteArray} {pc nL a : Nat} {ls : Array Slot} {rest : List Value} {G : b_G} {B0 : Nat} (CX : b_Cx p s m args c cc nL RX19 G B0) {fs : List Value} (hP : b_at G a (.inr (1, fs)) H) {v : Value} (hv : fs[0]? = some v) (hdg : decode cc pc = .ok (.getfield 29, 3)) (kk : W p l e R s m args below meth c H locs cells slots Q (F0 m (pc + 3) ls (v :: rest))) : W p l e R s m args below meth c H locs cells slots Q (F0 m pc ls (.ref a :: rest)) := b_getN CX in_X2 rfl 0 (by decide) q171 (Or.inl rfl) hP hv hdg kk
theorem gf_X19_7_17 {p : Program} {l : Launch} {e : Env} {R : Room} {s : State} {m : MethodId} {args : Array Value} {below : List Frame} {meth : Method} {c : Code} {H : Heap} {locs : List Loc} {cells slots : Nat} {Q : State → Prop} {cc : ByteArray} {pc nL a : Nat} {ls : Array Slot} {rest : List Value} {G : b_G} {B0 : Nat} (CX : b_Cx p s m args c cc nL RX19 G B0) {fs : List Value} (hP : b_at G a (.inr (17, fs)) H) {v : Value} (hv : fs[1]? = some v) (hdg : decode cc pc = .ok (.getfield 7, 3)) (kk : W p l e R s m args below meth c H locs cells slots Q (F0 m (pc + 3) ls (v :: rest))) : W p l e R s m args below meth c H locs cells slots Q (F0 m pc ls (.ref a :: rest)) := b_get CX in_X19 rfl 1 (by decide) q1663 (Or.inl rfl) hP hv hdg kk
theorem cs_X19_35 {p : Program} {l : Launch} {e : Env} {R : Room} {s : State} {m : MethodId} {args : Array Value} {below : List Frame} {meth : Method} {c : Code} {H : Heap} {locs : List Loc} {cells slots : Nat} {cc : ByteArray} {pc nL a : Nat} {ls : Array Slot} {rest : List Value} {G : b_G} {B0 : Nat} (CX : b_Cx p s m args c cc nL RX19 G B0) (hls : ls.size = nL) {rm : Room} {mc ms : Nat} {As st0 : List Value} {Qc : Array Value → State → Outcome → State → Prop} (hM : Met l yJ2_get (ws_ yJ2_get cJ2_get 2 (Option.some (Jvm.ClassFile.FieldType.object "java/lang/Object"))) rm (b_Pc G B0 H (.ref a :: As)) Qc mc ms (b_A B0)) (hn : As.length = 1) {fs : List Value} {ci : Nat} {qc : vw_C} (hc : b_cl[ci]? = some qc) (hq : qc.1 = RJ2) (hP : b_at G a (.inr (ci, fs)) H) (hS : va_S (b_A B0) s.heap H locs) (hst : st0 = As.reverse ++ .ref a :: rest) (hr : rm.cells = mc ∧ rm.slots = ms ∧ rm.frames + 1 ≤ R.frames ∧ 8 + (2 + 11) + rm.locals ≤ R.locals) (hw : (rest.map fun v => v.category).sum ≤ 8) (hdg : decode cc pc = .ok (.invokevirtual 35, 3)) (hf : cells + mc ≤ R.cells ∧ slots + ms ≤ R.slots) : va_Run p l e R s m args below meth c H locs cells slots mc ms (F0 m pc ls st0) rest (Qc (Value.ref a :: As).toArray) (b_A B0) := va_runV CX.fix hM (cwV 1 CX.ts (lw_V q1343 q796 q797 q83 q798) rfl hr.1 hr.2.1 (by decide +kernel) ⟨hr.2.2.1, hr.2.2.2⟩) ⟨b_blind G B0 H _, by have h9 := b_recv CX.K hc hP; rw [hq] at h9; exact h9, b_pre _ CX.K hS⟩ rfl hn hls hst (lv_room hw) hdg hf
theorem gf_X19_11_17 {p : Program} {l : Launch} {e : Env} {R : Room} {s : State} {m : MethodId} {args : Array Value} {below : List Frame} {meth : Method} {c : Code} {H : Heap} {locs : List Loc} {cells slots : Nat} {Q : State → Prop} {cc : ByteArray} {pc nL a : Nat} {ls : Array Slot} {rest : List Value} {G : b_G} {B0 : Nat} (CX : b_Cx p s m args c cc nL RX19 G B0) {fs : List Value} (hP : b_at G a (.inr (17, fs)) H) {v : Value} (hv : fs[2]? = some v) (hdg : decode cc pc = .ok (.getfield 11, 3)) (kk : W p l e R s m args below meth c H locs cells slots Q (F0 m (pc + 3) ls (v :: rest))) : W p l e R s m args below meth c H locs cells slots Q (F0 m pc ls (.ref a :: rest)) := b_get CX in_X19 rfl 2 (by decide) q1664 (Or.inl rfl) hP hv hdg kk
theorem cx_X19_43 {p : Program} {l : Launch} {e : Env} {R : Room} {s : State} {m : MethodId} {args : Array Value} {below : List Frame} {meth : Method} {c : Code} {H : Heap} {locs : List Loc} {cells slots : Nat} {cc : ByteArray} {pc nL a : Nat} {ls : Array Slot} {rest : List Value} {G : b_G} {B0 : Nat} (CX : b_Cx p s m args c cc nL RX19 G B0) (hls : ls.size = nL) {rm : Room} {mc ms : Nat} {As st0 : List Value} {Qc : Array Value → State → Outcome → State → Prop} {XC : String → Addr → State → State → Prop} (hM : vx_Met l yX2_trySwap (ws_ yX2_trySwap cX2_trySwap 3 (Option.none)) rm (b_Pc G B0 H (.ref a :: As)) Qc XC mc ms (b_A B0)) (hn : As.length = 2) {fs : List Value} {ci : Nat} {qc : vw_C} (hc : b_cl[ci]? = some qc) (hq : qc.1 = RX2) (hP : b_at G a (.inr (ci, fs)) H) (hS : va_S (b_A B0) s.heap H locs) (hst : st0 = As.reverse ++ .ref a :: rest) (hr : rm.cells = mc ∧ rm.slots = ms ∧ rm.frames + 1 ≤ R.frames ∧ 8 + (3 + 11) + rm.locals ≤ R.locals) (hw : (rest.map fun v => v.category).sum ≤ 8) (hdg : decode cc pc = .ok (.invokevirtual 43, 3)) (hf : cells + mc ≤ R.cells ∧ slots + ms ≤ R.slots) : vx_Run p l e R s m args below meth c H locs cells slots mc ms (F0 m pc ls st0) rest (Qc (Value.ref a :: As).toArray) XC (b_A B0) := vx_runV CX.fix hM (cwV 2 CX.ts (lw_V q1345 q1346 q1347 q80 q1348) rfl hr.1 hr.2.1 (by decide +kernel) ⟨hr.2.2.1, hr.2.2.2⟩) ⟨b_blind G B0 H _, by have h9 := b_recv CX.K hc hP; rw [hq] at h9; exact h9, b_pre _ CX.K hS⟩ rfl hn hls hst (lv_room hw) hdg hf
set_option maxHeartbeats 2000000 in
set_option maxRecDepth 100000 in
theorem m_X19_check (l : Launch) {G : b_G} {B0 : Nat} {H : Heap} {τ : b_T} {id : Nat} {F : Nat → Nat} {M : Nat → Int32} {E : Nat → Bool} {S : b_St} {Z : Nat → Nat → Int32} {da : Nat} {td : Nat} {a : Nat} {asv : Nat} {atx : Nat} {atk : Nat} {hs : Int64} {x : Nat} {w_ : Int32} {y : Nat} (hc_D : b_tt G B0 τ H da (td) (.inr (17, [.ref a, .int (nI x), .int w_, .int (nI y), .ref a]))) (hc_X : b_tt G B0 τ H a 0 (.inr (0, [.ref ((F 0)), .ref asv, .ref atx, .ref atk, .long hs]))) (hL : LR G B0 τ id F M E H S Z) (hW : b_WF S) (hBx : x < nb S) (hBy : y < nb S) (hne : ¬ x = y) : vx_Met l yX19_check (ws_ yX19_check cX19_check 1 (Option.none)) ({ frames := 7, cells := 1, slots := 6, locals := 150 } : Room) (b_Pc G B0 H [.ref da]) (b_Qv B0 (fun H1 => ((c_lt (S 1 x 1) w_) = nI 0) ∧ H1 = H)) (b_X B0 (fun E9 q9 H9 => e_px G B0 H (c_lt (S 1 x 1) w_) E9 q9 H9)) 1 6 (b_A B0) := by
  refine b_ofX (by decide) (Nat.le_of_ble_eq_true rfl) ?_
  intro p e s m below meth c CX hr hlk htb hS ls hl
  have CX : b_Cx p s m _ c cX19_check 1 RX19 G B0 := CX
  have hx := CX.hx
  have hb := CX.hb
  have hl : lv_has ls 1 [(0, .ref da)] := hl
  generalize hQ : vx_MQ below (b_Qv B0 (fun H1 => ((c_lt (S 1 x 1) w_) = nI 0) ∧ H1 = H)) (b_X B0 (fun E9 q9 H9 => e_px G B0 H (c_lt (S 1 x 1) w_) E9 q9 H9)) ([.ref da] : List Value).toArray s 1 6 (b_A B0) = Q
  have hX : b_Ext H H := b_Ext.rf
  have hnb : nb S = nb S := rfl
  have hns : ns S = ns S := rfl
  have hn8 := hL.2.2.2.1
  have hn6 := hL.2.2.2.2
  refine lv_aload_n hx hb dX19_check_0 rfl (lv_at hl 0 rfl) ?_
  refine gf_X19_1_17 CX hc_D.at rfl dX19_check_1 ?_
  refine gf_X19_23_0 CX hc_X.at rfl dX19_check_4 ?_
  refine lv_aload_n hx hb dX19_check_7 rfl (lv_at hl 0 rfl) ?_
  refine gf_X19_1_17 CX hc_D.at rfl dX19_check_8 ?_
  refine gf_X19_23_0 CX hc_X.at rfl dX19_check_11 ?_
  refine gf_X19_29_1 CX hL.loop.at rfl dX19_check_14 ?_
  refine lv_aload_n hx hb dX19_check_17 rfl (lv_at hl 0 rfl) ?_
  refine gf_X19_7_17 CX hc_D.at rfl dX19_check_18 ?_
  refine b_cq0 (cs_X19_35 (rest := [.ref ((F 0))]) CX hl.1 (m_J2_get l (a := (F 1)) (ta := 1000 * id + 1) (mc := M 1) (ra := (F 2)) (tr := 1000 * id + 2) (f := (fun j => F (20 + j))) (n := nb S) (i := x) (hL.alg1 hW (by omega)) (hL.arg2 (by omega)) (by omega) (by omega)) rfl rfl rfl (hL.alg1 hW (by omega)).at hS rfl ⟨rfl, rfl, Nat.le_of_ble_eq_true rfl, Nat.le_of_ble_eq_true rfl⟩ (Nat.le_of_ble_eq_true rfl) dX19_check_21 ⟨Nat.le_of_ble_eq_true rfl, Nat.le_of_ble_eq_true rfl⟩) hS (fun locs hS => ?_)
  refine b_cast CX (ci := 4) rfl (hL.brand (k := x) (by omega)).at q1344 dX19_check_24 ?_
  refine lv_aload_n hx hb dX19_check_27 rfl (lv_at hl 0 rfl) ?_
  refine gf_X19_11_17 CX hc_D.at rfl dX19_check_28 ?_
  refine b_xv0 (cx_X19_43 (rest := []) CX hl.1 (m_X2_trySwap l (b := x) (w_ := w_) hL hW (by omega)) rfl rfl rfl hL.loop.at hS rfl ⟨rfl, rfl, Nat.le_of_ble_eq_true rfl, Nat.le_of_ble_eq_true rfl⟩ (Nat.le_of_ble_eq_true rfl) dX19_check_31 ⟨Nat.le_of_ble_eq_true rfl, Nat.le_of_ble_eq_true rfl⟩) hS (fun E9 q9 Hx1 locs hx9 hS he9 => ?_) (fun hk_31 locs hS => ?_)
  · rw [← hQ]
    exact b_xout htb hlk he9 hS (Nat.le_of_ble_eq_true rfl) (Nat.le_of_ble_eq_true rfl) (hx9)
  rw [← hQ]
  exact vx_ret (b_vret CX hr hlk hS (Nat.le_of_ble_eq_true rfl) (Nat.le_of_ble_eq_true rfl) dX19_check_34 (⟨(by exact hk_31), rfl⟩))
theorem gf_X19_14_17 {p : Program} {l : Launch} {e : Env} {R : Room} {s : State} {m : MethodId} {args : Array Value} {below : List Frame} {meth : Method} {c : Code} {H : Heap} {locs : List Loc} {cells slots : Nat} {Q : State → Prop} {cc : ByteArray} {pc nL a : Nat} {ls : Array Slot} {rest : List Value} {G : b_G} {B0 : Nat} (CX : b_Cx p s m args c cc nL RX19 G B0) {fs : List Value} (hP : b_at G a (.inr (17, fs)) H) {v : Value} (hv : fs[3]? = some v) (hdg : decode cc pc = .ok (.getfield 14, 3)) (kk : W p l e R s m args below meth c H locs cells slots Q (F0 m (pc + 3) ls (v :: rest))) : W p l e R s m args below meth c H locs cells slots Q (F0 m pc ls (.ref a :: rest)) := b_get CX in_X19 rfl 3 (by decide) q1665 (Or.inl rfl) hP hv hdg kk
theorem cs_X19_47 {p : Program} {l : Launch} {e : Env} {R : Room} {s : State} {m : MethodId} {args : Array Value} {below : List Frame} {meth : Method} {c : Code} {H : Heap} {locs : List Loc} {cells slots : Nat} {cc : ByteArray} {pc nL a : Nat} {ls : Array Slot} {rest : List Value} {G : b_G} {B0 : Nat} (CX : b_Cx p s m args c cc nL RX19 G B0) (hls : ls.size = nL) {rm : Room} {mc ms : Nat} {As st0 : List Value} {Qc : Array Value → State → Outcome → State → Prop} (hM : Met l yX2_swap (ws_ yX2_swap cX2_swap 4 (Option.some Jvm.ClassFile.FieldType.int)) rm (b_Pc G B0 H (.ref a :: As)) Qc mc ms (b_A B0)) (hn : As.length = 3) {fs : List Value} {ci : Nat} {qc : vw_C} (hc : b_cl[ci]? = some qc) (hq : qc.1 = RX2) (hP : b_at G a (.inr (ci, fs)) H) (hS : va_S (b_A B0) s.heap H locs) (hst : st0 = As.reverse ++ .ref a :: rest) (hr : rm.cells = mc ∧ rm.slots = ms ∧ rm.frames + 1 ≤ R.frames ∧ 8 + (4 + 11) + rm.locals ≤ R.locals) (hw : (rest.map fun v => v.category).sum ≤ 8) (hdg : decode cc pc = .ok (.invokevirtual 47, 3)) (hf : cells + mc ≤ R.cells ∧ slots + ms ≤ R.slots) : va_Run p l e R s m args below meth c H locs cells slots mc ms (F0 m pc ls st0) rest (Qc (Value.ref a :: As).toArray) (b_A B0) := va_runV CX.fix hM (cwV 3 CX.ts (lw_V q1428 q1429 q1430 q80 q1431) rfl hr.1 hr.2.1 (by decide +kernel) ⟨hr.2.2.1, hr.2.2.2⟩) ⟨b_blind G B0 H _, by have h9 := b_recv CX.K hc hP; rw [hq] at h9; exact h9, b_pre _ CX.K hS⟩ rfl hn hls hst (lv_room hw) hdg hf
set_option maxHeartbeats 2000000 in
set_option maxRecDepth 100000 in
theorem m_X19_does (l : Launch) {G : b_G} {B0 : Nat} {H : Heap} {τ : b_T} {id : Nat} {F : Nat → Nat} {M : Nat → Int32} {E : Nat → Bool} {S : b_St} {Z : Nat → Nat → Int32} {da : Nat} {td : Nat} {a : Nat} {asv : Nat} {atx : Nat} {atk : Nat} {hs : Int64} {x : Nat} {w_ : Int32} {y : Nat} (hc_D : b_tt G B0 τ H da (td) (.inr (17, [.ref a, .int (nI x), .int w_, .int (nI y), .ref a]))) (hc_X : b_tt G B0 τ H a 0 (.inr (0, [.ref ((F 0)), .ref asv, .ref atx, .ref atk, .long hs]))) (hL : LR G B0 τ id F M E H S Z) (hW : b_WF S) (hBx : x < nb S) (hBy : y < nb S) (hne : ¬ x = y) (hi0 : 0 < id) (htd : td < 1000) : Met l yX19_does (ws_ yX19_does cX19_does 1 (Option.some Jvm.ClassFile.FieldType.int)) ({ frames := 4, cells := 0, slots := 0, locals := 87 } : Room) (b_Pc G B0 H [.ref da]) (b_Qi B0 (fun r H1 => r = Z x y + w_ ∧ b_Fr τ (fun t => 1000 * id ≤ t ∧ t < 1000 * id + 1000) H H1 ∧ LR G B0 τ id F M E H1 ((s_swap S x y w_)) ((s_swZ Z x y w_)))) 0 0 (b_A B0) := by
  refine b_of (by decide) (Nat.le_of_ble_eq_true rfl) ?_
  intro p e s m below meth c CX hr hlk hnm hS ls hl
  have CX : b_Cx p s m _ c cX19_does 1 RX19 G B0 := CX
  have hx := CX.hx
  have hb := CX.hb
  have hl : lv_has ls 1 [(0, .ref da)] := hl
  generalize hQ : MQ below (b_Qi B0 (fun r H1 => r = Z x y + w_ ∧ b_Fr τ (fun t => 1000 * id ≤ t ∧ t < 1000 * id + 1000) H H1 ∧ LR G B0 τ id F M E H1 ((s_swap S x y w_)) ((s_swZ Z x y w_)))) ([.ref da] : List Value).toArray s 0 0 (b_A B0) = Q
  have hF : b_Fr τ (fun t => 1000 * id ≤ t ∧ t < 1000 * id + 1000) H H := b_Fr.rf
  have hA : b_Ag τ τ H := b_Ag.rf
  have hnb : nb S = nb S := rfl
  have hns : ns S = ns S := rfl
  have hn8 := hL.2.2.2.1
  have hn6 := hL.2.2.2.2
  refine lv_aload_n hx hb dX19_does_0 rfl (lv_at hl 0 rfl) ?_
  refine gf_X19_1_17 CX hc_D.at rfl dX19_does_1 ?_
  refine gf_X19_23_0 CX hc_X.at rfl dX19_does_4 ?_
  refine lv_aload_n hx hb dX19_does_7 rfl (lv_at hl 0 rfl) ?_
  refine gf_X19_7_17 CX hc_D.at rfl dX19_does_8 ?_
  refine lv_aload_n hx hb dX19_does_11 rfl (lv_at hl 0 rfl) ?_
  refine gf_X19_14_17 CX hc_D.at rfl dX19_does_12 ?_
  refine lv_aload_n hx hb dX19_does_15 rfl (lv_at hl 0 rfl) ?_
  refine gf_X19_11_17 CX hc_D.at rfl dX19_does_16 ?_
  refine b_ci (cs_X19_47 (rest := []) CX hl.1 (m_X2_swap l (x := x) (y := y) (c_ := w_) hL hW (by omega) (by omega) (by assumption)) rfl rfl rfl hL.loop.at hS rfl ⟨rfl, rfl, Nat.le_of_ble_eq_true rfl, Nat.le_of_ble_eq_true rfl⟩ (Nat.le_of_ble_eq_true rfl) dX19_does_19 ⟨Nat.le_of_ble_eq_true rfl, Nat.le_of_ble_eq_true rfl⟩) hS (fun r H1 locs hp hS => ?_)
  obtain ⟨rfl, hF9, hL9⟩ := hp
  have hc_D := hc_D.fr hF9 (show ¬ (1000 * id ≤ (td) ∧ (td) < 1000 * id + 1000) by omega)
  have hc_X := hc_X.fr hF9 (show ¬ (1000 * id ≤ 0 ∧ 0 < 1000 * id + 1000) by omega)
  have hF := hF.tr hA hF9 (fun q9 hq9 x9 => by have x8 : 1000 * id ≤ τ q9 ∧ τ q9 < 1000 * id + 1000 := x9; show 1000 * id ≤ τ q9 ∧ τ q9 < 1000 * id + 1000; omega)
  have hL : LR G B0 τ id F M E H1 ((s_swap S x y w_)) ((s_swZ Z x y w_)) := hL9
  rw [← hQ]
  exact b_iret CX hr hlk hS (Nat.le_of_ble_eq_true rfl) (Nat.le_of_ble_eq_true rfl) dX19_does_22 (⟨rfl, hF, hL⟩)
theorem cx_X6_15_17 {p : Program} {l : Launch} {e : Env} {R : Room} {s : State} {m : MethodId} {args : Array Value} {below : List Frame} {meth : Method} {c : Code} {H : Heap} {locs : List Loc} {cells slots : Nat} {cc : ByteArray} {pc nL a : Nat} {ls : Array Slot} {rest : List Value} {G : b_G} {B0 : Nat} (CX : b_Cx p s m args c cc nL RX6 G B0) (hls : ls.size = nL) {rm : Room} {mc ms : Nat} {As st0 : List Value} {Qc : Array Value → State → Outcome → State → Prop} {XC : String → Addr → State → State → Prop} (hM : vx_Met l yX19_check (ws_ yX19_check cX19_check 1 (Option.none)) rm (b_Pc G B0 H (.ref a :: As)) Qc XC mc ms (b_A B0)) (hn : As.length = 0) {fs : List Value} (hP : b_at G a (.inr (17, fs)) H) (hS : va_S (b_A B0) s.heap H locs) (hst : st0 = As.reverse ++ .ref a :: rest) (hr : rm.cells = mc ∧ rm.slots = ms ∧ rm.frames + 1 ≤ R.frames ∧ 8 + (1 + 11) + rm.locals ≤ R.locals) (hw : (rest.map fun v => v.category).sum ≤ 8) (hdg : decode cc pc = .ok (.invokevirtual 15, 3)) (hf : cells + mc ≤ R.cells ∧ slots + ms ≤ R.slots) : vx_Run p l e R s m args below meth c H locs cells slots mc ms (F0 m pc ls st0) rest (Qc (Value.ref a :: As).toArray) XC (b_A B0) := vx_runU CX.fix hM (va_cwA (C := RX19) (owner := RX6) 0 CX.ts (lw_U q1198 q1200 q1340 q1341 q117 q1342) rfl hr.1 hr.2.1 (CX.K.2.1 _ q1199 rfl) ⟨by decide, by decide, by decide +kernel⟩ ⟨hr.2.2.1, hr.2.2.2⟩) ⟨b_blind G B0 H _, b_recv CX.K (ci := 17) rfl hP, b_pre _ CX.K hS⟩ rfl hn hls hst (lv_room hw) hdg hf
set_option maxHeartbeats 2000000 in
set_option maxRecDepth 100000 in
theorem m_X6_reason_17 (l : Launch) {G : b_G} {B0 : Nat} {H : Heap} {τ : b_T} {id : Nat} {F : Nat → Nat} {M : Nat → Int32} {E : Nat → Bool} {S : b_St} {Z : Nat → Nat → Int32} {da : Nat} {td : Nat} {a : Nat} {asv : Nat} {atx : Nat} {atk : Nat} {hs : Int64} {x : Nat} {w_ : Int32} {y : Nat} (hc_D : b_tt G B0 τ H da (td) (.inr (17, [.ref a, .int (nI x), .int w_, .int (nI y), .ref a]))) (hc_X : b_tt G B0 τ H a 0 (.inr (0, [.ref ((F 0)), .ref asv, .ref atx, .ref atk, .long hs]))) (hL : LR G B0 τ id F M E H S Z) (hW : b_WF S) (hBx : x < nb S) (hBy : y < nb S) (hne : ¬ x = y) : vx_Met l yX6_reason (wsW_ yX6_reason cX6_reason 2 (Option.some Jvm.ClassFile.FieldType.int) [((0 : Nat), (5 : Nat), (6 : Nat), (18 : Nat)), ((0 : Nat), (5 : Nat), (6 : Nat), (20 : Nat)), ((0 : Nat), (5 : Nat), (6 : Nat), (22 : Nat)), ((0 : Nat), (5 : Nat), (12 : Nat), (25 : Nat))]) ({ frames := 8, cells := 1, slots := 6, locals := 170 } : Room) (b_Pc G B0 H [.ref da]) (b_Qi B0 (fun r H1 => r = (c_lt (S 1 x 1) w_) ∧ b_Ext H H1)) (b_X B0 (fun E9 q9 H9 => False)) 1 6 (b_A B0) := by
  refine b_ofXW (by decide) (Nat.le_of_ble_eq_true rfl) ?_
  intro p e s m below meth c CX hr hlk htb hS ls hl
  have CX : b_Cx p s m _ c cX6_reason 2 RX6 G B0 := CX
  have hx := CX.hx
  have hb := CX.hb
  have hl : lv_has ls 2 [(0, .ref da)] := hl
  generalize hQ : vx_MQ below (b_Qi B0 (fun r H1 => r = (c_lt (S 1 x 1) w_) ∧ b_Ext H H1)) (b_X B0 (fun E9 q9 H9 => False)) ([.ref da] : List Value).toArray s 1 6 (b_A B0) = Q
  have hX : b_Ext H H := b_Ext.rf
  have hnb : nb S = nb S := rfl
  have hns : ns S = ns S := rfl
  have hn8 := hL.2.2.2.1
  have hn6 := hL.2.2.2.2
  refine lv_aload_n hx hb dX6_reason_0 rfl (lv_at hl 0 rfl) ?_
  refine b_xv0 (cx_X6_15_17 (rest := []) CX hl.1 (m_X19_check l (da := da) (td := td) (a := a) (asv := asv) (atx := atx) (atk := atk) (hs := hs) (x := x) (w_ := w_) (y := y) hc_D hc_X hL hW (by omega) (by omega) (by assumption)) rfl hc_D.at hS rfl ⟨rfl, rfl, Nat.le_of_ble_eq_true rfl, Nat.le_of_ble_eq_true rfl⟩ (Nat.le_of_ble_eq_true rfl) dX6_reason_1 ⟨Nat.le_of_ble_eq_true rfl, Nat.le_of_ble_eq_true rfl⟩) hS (fun E9 q9 Hx1 locs hx9 hS he9 => ?_) (fun hk_1 locs hS => ?_)
  · obtain ⟨hE, hz, hB, v9, hv9, hcd, hnm9, hat⟩ := hx9
    rcases hv9 with rfl | rfl | rfl
    · obtain rfl := hnm9
      refine b_xcatch CX (E := "BottleLoop$NoBottles") (name := "BottleLoop$NoBottles") [] ⟨0, 5, 6, 18⟩ [⟨0, 5, 6, 20⟩, ⟨0, 5, 6, 22⟩, ⟨0, 5, 12, 25⟩] (by rw [htb]; rfl) (fun z hz9 => nomatch hz9) (by decide) (by decide) q1194 (CX.nw q1215 rfl rfl) he9 ?_
      have hc_D := hc_D.ad (tb := 101) hE hz
      have hc_X := hc_X.ad (tb := 101) hE hz
      have hL := hL.ad (tb := 101) hE hz
      have fr_ex : H.size ≤ q9 := Nat.le_trans hX.1 hz
      have hX := hX.tr hE
      have hc_ex : b_tt G B0 ((upT τ q9 101)) Hx1 q9 101 (.inr (18, [.null, .null, .null, .null, .null, .int (nI 0)])) := b_tt.mk hat hB
      refine lv_astore_n (lv' := [(1, .ref q9), (0, .ref da)]) hx hb dX6_reason_6 rfl hl (Nat.le_of_ble_eq_true rfl) rfl (fun ls hl => ?_)
      refine lv_aload_n hx hb dX6_reason_7 rfl (lv_at hl 0 rfl) ?_
      refine b_ci0 (cs_X6_24_18 (rest := []) CX hl.1 (m_X9_number l (a := q9) (ta := 101) hc_ex) rfl hc_ex.at hS rfl ⟨rfl, rfl, Nat.le_of_ble_eq_true rfl, Nat.le_of_ble_eq_true rfl⟩ (Nat.le_of_ble_eq_true rfl) dX6_reason_8 ⟨Nat.le_of_ble_eq_true rfl, Nat.le_of_ble_eq_true rfl⟩) hS (fun locs hS => ?_)
      rw [← hQ]
      exact vx_ret (b_iret CX hr hlk hS (Nat.le_of_ble_eq_true rfl) (Nat.le_of_ble_eq_true rfl) dX6_reason_11 (⟨(by first | exact hk_1.symm | exact hcd.symm), hX⟩))
    · obtain rfl := hnm9
      refine b_xcatch CX (E := "BottleLoop$NoCrates") (name := "BottleLoop$NoCrates") [⟨0, 5, 6, 18⟩] ⟨0, 5, 6, 20⟩ [⟨0, 5, 6, 22⟩, ⟨0, 5, 12, 25⟩] (by rw [htb]; rfl) (fun z hz9 => by rcases List.mem_cons.mp hz9 with rfl | h9; exact Or.inr ⟨by decide, "BottleLoop$NoBottles", q1194, by decide⟩; exact nomatch h9) (by decide) (by decide) q1195 (CX.nw q1242 rfl rfl) he9 ?_
      have hc_D := hc_D.ad (tb := 101) hE hz
      have hc_X := hc_X.ad (tb := 101) hE hz
      have hL := hL.ad (tb := 101) hE hz
      have fr_ex : H.size ≤ q9 := Nat.le_trans hX.1 hz
      have hX := hX.tr hE
      have hc_ex : b_tt G B0 ((upT τ q9 101)) Hx1 q9 101 (.inr (19, [.null, .null, .null, .null, .null, .int (nI 0)])) := b_tt.mk hat hB
      refine lv_astore_n (lv' := [(1, .ref q9), (0, .ref da)]) hx hb dX6_reason_6 rfl hl (Nat.le_of_ble_eq_true rfl) rfl (fun ls hl => ?_)
      refine lv_aload_n hx hb dX6_reason_7 rfl (lv_at hl 0 rfl) ?_
      refine b_ci0 (cs_X6_24_19 (rest := []) CX hl.1 (m_X10_number l (a := q9) (ta := 101) hc_ex) rfl hc_ex.at hS rfl ⟨rfl, rfl, Nat.le_of_ble_eq_true rfl, Nat.le_of_ble_eq_true rfl⟩ (Nat.le_of_ble_eq_true rfl) dX6_reason_8 ⟨Nat.le_of_ble_eq_true rfl, Nat.le_of_ble_eq_true rfl⟩) hS (fun locs hS => ?_)
      rw [← hQ]
      exact vx_ret (b_iret CX hr hlk hS (Nat.le_of_ble_eq_true rfl) (Nat.le_of_ble_eq_true rfl) dX6_reason_11 (⟨(by first | exact hk_1.symm | exact hcd.symm), hX⟩))
    · obtain rfl := hnm9
      refine b_xcatch CX (E := "BottleLoop$NoMoney") (name := "BottleLoop$NoMoney") [⟨0, 5, 6, 18⟩, ⟨0, 5, 6, 20⟩] ⟨0, 5, 6, 22⟩ [⟨0, 5, 12, 25⟩] (by rw [htb]; rfl) (fun z hz9 => by rcases List.mem_cons.mp hz9 with rfl | h9; exact Or.inr ⟨by decide, "BottleLoop$NoBottles", q1194, by decide⟩; rcases List.mem_cons.mp h9 with rfl | h8; exact Or.inr ⟨by decide, "BottleLoop$NoCrates", q1195, by decide⟩; exact nomatch h8) (by decide) (by decide) q1196 (CX.nw q1261 rfl rfl) he9 ?_
      have hc_D := hc_D.ad (tb := 101) hE hz
      have hc_X := hc_X.ad (tb := 101) hE hz
      have hL := hL.ad (tb := 101) hE hz
      have fr_ex : H.size ≤ q9 := Nat.le_trans hX.1 hz
      have hX := hX.tr hE
      have hc_ex : b_tt G B0 ((upT τ q9 101)) Hx1 q9 101 (.inr (20, [.null, .null, .null, .null, .null, .int (nI 0)])) := b_tt.mk hat hB
      refine lv_astore_n (lv' := [(1, .ref q9), (0, .ref da)]) hx hb dX6_reason_6 rfl hl (Nat.le_of_ble_eq_true rfl) rfl (fun ls hl => ?_)
      refine lv_aload_n hx hb dX6_reason_7 rfl (lv_at hl 0 rfl) ?_
      refine b_ci0 (cs_X6_24_20 (rest := []) CX hl.1 (m_X11_number l (a := q9) (ta := 101) hc_ex) rfl hc_ex.at hS rfl ⟨rfl, rfl, Nat.le_of_ble_eq_true rfl, Nat.le_of_ble_eq_true rfl⟩ (Nat.le_of_ble_eq_true rfl) dX6_reason_8 ⟨Nat.le_of_ble_eq_true rfl, Nat.le_of_ble_eq_true rfl⟩) hS (fun locs hS => ?_)
      rw [← hQ]
      exact vx_ret (b_iret CX hr hlk hS (Nat.le_of_ble_eq_true rfl) (Nat.le_of_ble_eq_true rfl) dX6_reason_11 (⟨(by first | exact hk_1.symm | exact hcd.symm), hX⟩))
  refine lv_iconst (v := nI 0) hx hb dX6_reason_4 rfl ?_
  rw [← hQ]
  exact vx_ret (b_iret CX hr hlk hS (Nat.le_of_ble_eq_true rfl) (Nat.le_of_ble_eq_true rfl) dX6_reason_5 (⟨(by first | exact hk_1.symm | exact hcd.symm), hX⟩))
