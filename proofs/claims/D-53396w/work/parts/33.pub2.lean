/-! what can be called, 2 -/
set_option maxRecDepth 100000
theorem XR.ext {G : b_G} {B0 : Nat} {τ : b_T} {A : Nat → Nat} {H H1 : Heap} {z : b_Z} (h : XR G B0 τ A H z) (hE : b_Ext H H1) : XR G B0 τ A H1 z := by
  obtain ⟨d0, c0, ids, P0, F, M, E, Z, sm, rs, se, ml, hs, bt, tk9, h1, h2, h3, h4, h5, h6, h7, h8, h9, h10, h11, h12, h13⟩ := h
  exact ⟨d0, c0, ids, P0, F, M, E, Z, sm, rs, se, ml, hs, bt, tk9, h1.ext hE, h2.ext hE, fun q => (h3 q).ext hE, h4, h5.ext hE, h6.ext hE, h7, h8.ext hE, h9.ext hE, h10, h11, h12.ext hE, h13⟩
theorem s_addS_e (S : b_St) (b : Int32) : u3 (s_addS0 S) 2 (ns S + 1 - 1) 0 b = s_addS S b := by
  rw [Nat.add_sub_cancel]
  funext k i j
  unfold s_addS s_addS0 u3
  grind
theorem s_addS_n (S : b_St) (x : Int32) (h : ns S < 6) : ns (s_addS S x) = ns S + 1 := by
  have e : s_addS S x 0 0 1 = nI (ns S + 1) := by simp [s_addS, u3]
  show (s_addS S x 0 0 1).toNatClampNeg = _
  rw [e, nI_cl (by omega)]
theorem p_dig0 (S : b_St) : p_mx 2411 (p_number S 0) 0 = 2411 := rfl
theorem cs_X1_201 {p : Program} {l : Launch} {e : Env} {R : Room} {s : State} {m : MethodId} {args : Array Value} {below : List Frame} {meth : Method} {c : Code} {H : Heap} {locs : List Loc} {cells slots : Nat} {cc : ByteArray} {pc nL a : Nat} {ls : Array Slot} {rest : List Value} {G : b_G} {B0 : Nat} (CX : b_Cx p s m args c cc nL RX1 G B0) (hls : ls.size = nL) {rm : Room} {mc ms : Nat} {As st0 : List Value} {Qc : Array Value → State → Outcome → State → Prop} (hM : Met l yX19_init (ws_ yX19_init cX19_init 5 (Option.none)) rm (b_Pc G B0 H (.ref a :: As)) Qc mc ms (b_A B0)) (hn : As.length = 4) (hS : va_S (b_A B0) s.heap H locs) (hst : st0 = As.reverse ++ .ref a :: rest) (hr : rm.cells = mc ∧ rm.slots = ms ∧ rm.frames + 1 ≤ R.frames ∧ 8 + (5 + 11) + rm.locals ≤ R.locals) (hw : (rest.map fun v => v.category).sum ≤ 8) (hdg : decode cc pc = .ok (.invokespecial 201, 3)) (hf : cells + mc ≤ R.cells ∧ slots + ms ≤ R.slots) : va_Run p l e R s m args below meth c H locs cells slots mc ms (F0 m pc ls st0) rest (Qc (Value.ref a :: As).toArray) (b_A B0) := va_runI CX.fix hM (cwI 4 CX.ts (lw_meth q1661) rfl hr.1 hr.2.1 (CX.ts _ q117) (CX.ts _ q1659) (CX.ts _ q1660) rfl (by decide +kernel) ⟨hr.2.2.1, hr.2.2.2⟩) ⟨b_blind G B0 H _, b_pre _ CX.K hS⟩ rfl hn hls hst (lv_room hw) hdg hf
theorem cx_X1_202_17 {p : Program} {l : Launch} {e : Env} {R : Room} {s : State} {m : MethodId} {args : Array Value} {below : List Frame} {meth : Method} {c : Code} {H : Heap} {locs : List Loc} {cells slots : Nat} {cc : ByteArray} {pc nL a : Nat} {ls : Array Slot} {rest : List Value} {G : b_G} {B0 : Nat} (CX : b_Cx p s m args c cc nL RX1 G B0) (hls : ls.size = nL) {rm : Room} {mc ms : Nat} {As st0 : List Value} {Qc : Array Value → State → Outcome → State → Prop} {XC : String → Addr → State → State → Prop} (hM : vx_Met l yX6_done (ws_ yX6_done cX6_done 1 (Option.some Jvm.ClassFile.FieldType.int)) rm (b_Pc G B0 H (.ref a :: As)) Qc XC mc ms (b_A B0)) (hn : As.length = 0) {fs : List Value} (hP : b_at G a (.inr (17, fs)) H) (hS : va_S (b_A B0) s.heap H locs) (hst : st0 = As.reverse ++ .ref a :: rest) (hr : rm.cells = mc ∧ rm.slots = ms ∧ rm.frames + 1 ≤ R.frames ∧ 8 + (1 + 11) + rm.locals ≤ R.locals) (hw : (rest.map fun v => v.category).sum ≤ 8) (hdg : decode cc pc = .ok (.invokevirtual 202, 3)) (hf : cells + mc ≤ R.cells ∧ slots + ms ≤ R.slots) : vx_Run p l e R s m args below meth c H locs cells slots mc ms (F0 m pc ls st0) rest (Qc (Value.ref a :: As).toArray) XC (b_A B0) := vx_runU CX.fix hM (va_cwU (C := RX19) (owner := RX6) 0 CX.ts (lw_U q1677 q1678 q1679 q1179 q104 q1180) rfl hr.1 hr.2.1 rfl ⟨by decide, by decide, by decide +kernel⟩ ⟨hr.2.2.1, hr.2.2.2⟩) ⟨b_blind G B0 H _, b_recv CX.K (ci := 17) rfl hP, b_pre _ CX.K hS⟩ rfl hn hls hst (lv_room hw) hdg hf
set_option maxHeartbeats 2000000 in
set_option maxRecDepth 100000 in
theorem m_X1_swap (l : Launch) {G : b_G} {B0 : Nat} {H : Heap} {τ : b_T} {A : Nat → Nat} {S : b_St} {n : Nat} {L : Nat → b_St} {tn : Nat} {t : Nat → Nat} {x : Int32} {y : Int32} {c_ : Int32} (hlt : l.stackTraces = false) (hXR : XR G B0 τ A H (S, n, L, tn, t)) (hW1 : b_WF (o_swap (S, n, L, tn, t) x y c_).2.2.1) : vx_Met l yX1_swap (ws_ yX1_swap cX1_swap 4 (Option.some Jvm.ClassFile.FieldType.int)) ({ frames := 10, cells := 59, slots := 492, locals := 211 } : Room) (b_Pc G B0 H [.ref ((A 0)), .int x, .int y, .int c_]) (b_Qi B0 (fun r H1 => o_ok1 G B0 τ A H (o_swap (S, n, L, tn, t) x y c_) r H1)) (b_X B0 (fun E9 q9 H9 => o_px H (S, n, L, tn, t) (o_swap (S, n, L, tn, t) x y c_) cl_A E9 H9)) 59 492 (b_A B0) := by
  refine b_ofX (by decide) (Nat.le_of_ble_eq_true rfl) ?_
  intro p e s m below meth c CX hr hlk htb hS ls hl
  have CX : b_Cx p s m _ c cX1_swap 4 RX1 G B0 := CX
  have hx := CX.hx
  have hb := CX.hb
  have hl : lv_has ls 4 [(0, .ref ((A 0))), (1, .int x), (2, .int y), (3, .int c_)] := hl
  generalize hQ : vx_MQ below (b_Qi B0 (fun r H1 => o_ok1 G B0 τ A H (o_swap (S, n, L, tn, t) x y c_) r H1)) (b_X B0 (fun E9 q9 H9 => o_px H (S, n, L, tn, t) (o_swap (S, n, L, tn, t) x y c_) cl_A E9 H9)) ([.ref ((A 0)), .int x, .int y, .int c_] : List Value).toArray s 59 492 (b_A B0) = Q
  have hF : b_Fr τ (fun t => t < 200 ∨ 1000 ≤ t) H H := b_Fr.rf
  have hA : b_Ag τ τ H := b_Ag.rf
  have hX : b_Ext H H := b_Ext.rf
  obtain ⟨d0, c0, ids, P0, F, M, E, Z, sm, rs, se, ml, hs, bt, tk9, hc_X, hc_sv, hsa, hse, hc_tx, hc_tb, hbt, hc_tk, hL, hZ, hW, hV, hd0, hdc, hn, htn, ht⟩ := hXR
  have hc_X : b_tt G B0 τ H ((A 0)) 0 (.inr (0, [.ref ((F 0)), .ref ((A 1)), .ref ((A 3)), .ref ((A 5)), .long hs])) := hc_X
  have hc_sv : b_tt G B0 τ H ((A 1)) 1 (.inr (2, [.int sm, .ref ((if se = true then rs else G.2.2 0)), .int (nI n)])) := hc_sv
  have hsa : (se = true → b_tt G B0 τ H rs 2 (.inl (G.2.1 2, q_refs 10 (fun j => if j < n then some (P0 j) else none)))) := hsa
  have hc_tx : b_tt G B0 τ H ((A 3)) 3 (.inr (3, [.ref ((A 4)), .int (nI 0), .int ml, .int (nI tn)])) := hc_tx
  have hc_tb : b_tt G B0 τ H ((A 4)) 4 (.inl (G.2.1 1, 60, .inl bt)) := hc_tb
  have hc_tk : b_tt G B0 τ H ((A 5)) 5 (.inl (G.2.1 0, 8, .inl tk9)) := hc_tk
  have hL : LR G B0 τ d0 F M E H S Z := hL
  have hV : SV G B0 τ d0 c0 n ids P0 H L := hV
  have hn8 := hL.2.2.2.1
  have hn6 := hL.2.2.2.2
  have hnb : nb S = nb S := rfl
  have hns : ns S = ns S := rfl
  have hn : n ≤ 6 := hn
  have htn : tn ≤ 60 := htn
  have ht : ∀ j, t j < 128 := ht
  have hse : se = true ∨ n = 0 := hse
  have hZ : pZ Z S := hZ
  have hW : b_WF S := hW
  have hbt : ∀ j, j < tn → bt j = nI (t j) := hbt
  refine lv_aload_n hx hb dX1_swap_0 rfl (lv_at hl 0 rfl) ?_
  refine lv_iload_n hx hb dX1_swap_1 rfl (lv_at hl 1 rfl) ?_
  refine b_ci0 (cs_X1_151 (rest := []) CX hl.1 (m_X1_isBrand l (a := (A 0)) (asv := (A 1)) (atx := (A 3)) (atk := (A 5)) (hs := hs) (x := x) hc_X hL hW) rfl rfl rfl hc_X.at hS rfl ⟨rfl, rfl, Nat.le_of_ble_eq_true rfl, Nat.le_of_ble_eq_true rfl⟩ (Nat.le_of_ble_eq_true rfl) dX1_swap_2 ⟨Nat.le_of_ble_eq_true rfl, Nat.le_of_ble_eq_true rfl⟩) hS (fun locs hS => ?_)
  refine b_ifeq (tgt := 20) CX dX1_swap_5 (by decide) (fun c_5 => ?_) (fun c_5 => ?_)
  · refine lv_iconst (v := nI 0) hx hb dX1_swap_20 rfl ?_
    refine b_xv0 (cx_X1_119 (rest := []) CX hl.1 (m_X1_needIndex l (x := nI 0) hlt) rfl hS rfl ⟨rfl, rfl, Nat.le_of_ble_eq_true rfl, Nat.le_of_ble_eq_true rfl⟩ (Nat.le_of_ble_eq_true rfl) dX1_swap_21 ⟨Nat.le_of_ble_eq_true rfl, Nat.le_of_ble_eq_true rfl⟩) hS (fun E9 q9 Hx2 locs hx9 hS he9 => ?_) (fun hk_21 locs hS => ?_)
    · rw [← hQ]
      have ho : o_swap (S, n, L, tn, t) x y c_ = f_no 1 (S, n, L, tn, t) := by
        unfold o_swap
        try dsimp only
        repeat (first | rw [if_pos (by first | assumption | exact ⟨by assumption, by assumption⟩ | (constructor <;> omega) | omega | exact fun q => absurd q (by assumption) | exact fun q => absurd q.1 (by assumption) | exact fun q => absurd q.2 (by assumption) | exact Int32.not_lt.mpr (by assumption) | exact Int32.not_le.mp (by assumption) | exact fun q => q.2 (by assumption) | exact fun q => absurd q.1 (by omega) | exact fun q => absurd (by assumption) q.1 | exact fun q => absurd q.2.1 (by assumption) | exact fun q => absurd q.2.2 (by assumption) | exact ⟨by assumption, by assumption, by assumption⟩)] | rw [if_neg (by first | assumption | exact ⟨by assumption, by assumption⟩ | (constructor <;> omega) | omega | exact fun q => absurd q (by assumption) | exact fun q => absurd q.1 (by assumption) | exact fun q => absurd q.2 (by assumption) | exact Int32.not_lt.mpr (by assumption) | exact Int32.not_le.mp (by assumption) | exact fun q => q.2 (by assumption) | exact fun q => absurd q.1 (by omega) | exact fun q => absurd (by assumption) q.1 | exact fun q => absurd q.2.1 (by assumption) | exact fun q => absurd q.2.2 (by assumption) | exact ⟨by assumption, by assumption, by assumption⟩)])
      exact b_xout htb hlk he9 hS (Nat.le_of_ble_eq_true rfl) (Nat.le_of_ble_eq_true rfl) ⟨hX.tr hx9.2.2, 1, by omega, by rw [ho]; rfl, by rw [ho]; rfl, hx9.2.1⟩
    exact absurd (by decide) hk_21
  · refine lv_aload_n hx hb dX1_swap_8 rfl (lv_at hl 0 rfl) ?_
    refine lv_iload_n hx hb dX1_swap_9 rfl (lv_at hl 2 rfl) ?_
    refine b_ci0 (cs_X1_151 (rest := []) CX hl.1 (m_X1_isBrand l (a := (A 0)) (asv := (A 1)) (atx := (A 3)) (atk := (A 5)) (hs := hs) (x := y) hc_X hL hW) rfl rfl rfl hc_X.at hS rfl ⟨rfl, rfl, Nat.le_of_ble_eq_true rfl, Nat.le_of_ble_eq_true rfl⟩ (Nat.le_of_ble_eq_true rfl) dX1_swap_10 ⟨Nat.le_of_ble_eq_true rfl, Nat.le_of_ble_eq_true rfl⟩) hS (fun locs hS => ?_)
    refine b_ifeq (tgt := 20) CX dX1_swap_13 (by decide) (fun c_13 => ?_) (fun c_13 => ?_)
    · refine lv_iconst (v := nI 0) hx hb dX1_swap_20 rfl ?_
      refine b_xv0 (cx_X1_119 (rest := []) CX hl.1 (m_X1_needIndex l (x := nI 0) hlt) rfl hS rfl ⟨rfl, rfl, Nat.le_of_ble_eq_true rfl, Nat.le_of_ble_eq_true rfl⟩ (Nat.le_of_ble_eq_true rfl) dX1_swap_21 ⟨Nat.le_of_ble_eq_true rfl, Nat.le_of_ble_eq_true rfl⟩) hS (fun E9 q9 Hx4 locs hx9 hS he9 => ?_) (fun hk_21 locs hS => ?_)
      · rw [← hQ]
        have ho : o_swap (S, n, L, tn, t) x y c_ = f_no 1 (S, n, L, tn, t) := by
          unfold o_swap
          try dsimp only
          repeat (first | rw [if_pos (by first | assumption | exact ⟨by assumption, by assumption⟩ | (constructor <;> omega) | omega | exact fun q => absurd q (by assumption) | exact fun q => absurd q.1 (by assumption) | exact fun q => absurd q.2 (by assumption) | exact Int32.not_lt.mpr (by assumption) | exact Int32.not_le.mp (by assumption) | exact fun q => q.2 (by assumption) | exact fun q => absurd q.1 (by omega) | exact fun q => absurd (by assumption) q.1 | exact fun q => absurd q.2.1 (by assumption) | exact fun q => absurd q.2.2 (by assumption) | exact ⟨by assumption, by assumption, by assumption⟩)] | rw [if_neg (by first | assumption | exact ⟨by assumption, by assumption⟩ | (constructor <;> omega) | omega | exact fun q => absurd q (by assumption) | exact fun q => absurd q.1 (by assumption) | exact fun q => absurd q.2 (by assumption) | exact Int32.not_lt.mpr (by assumption) | exact Int32.not_le.mp (by assumption) | exact fun q => q.2 (by assumption) | exact fun q => absurd q.1 (by omega) | exact fun q => absurd (by assumption) q.1 | exact fun q => absurd q.2.1 (by assumption) | exact fun q => absurd q.2.2 (by assumption) | exact ⟨by assumption, by assumption, by assumption⟩)])
        exact b_xout htb hlk he9 hS (Nat.le_of_ble_eq_true rfl) (Nat.le_of_ble_eq_true rfl) ⟨hX.tr hx9.2.2, 1, by omega, by rw [ho]; rfl, by rw [ho]; rfl, hx9.2.1⟩
      exact absurd (by decide) hk_21
    · obtain ⟨jx, hjx, rfl⟩ := isB_lt hW c_5
      have ejx : ix (nI jx) = jx := ix_n (by omega)
      obtain ⟨jy, hjy, rfl⟩ := isB_lt hW c_13
      have ejy : ix (nI jy) = jy := ix_n (by omega)
      have hk1 := hW.kd3 (b := jx) (by omega)
      have hk2 := hW.kd3 (b := jy) (by omega)
      refine lv_iconst (v := nI 1) hx hb dX1_swap_16 rfl ?_
      refine lv_goto (tgt := 21) hx hb dX1_swap_17 (by decide) ?_
      refine b_xv0 (cx_X1_119 (rest := []) CX hl.1 (m_X1_needIndex l (x := nI 1) hlt) rfl hS rfl ⟨rfl, rfl, Nat.le_of_ble_eq_true rfl, Nat.le_of_ble_eq_true rfl⟩ (Nat.le_of_ble_eq_true rfl) dX1_swap_21 ⟨Nat.le_of_ble_eq_true rfl, Nat.le_of_ble_eq_true rfl⟩) hS (fun E9 q9 Hx5 locs hx9 hS he9 => ?_) (fun hk_21 locs hS => ?_)
      · exact absurd hx9.1 (by decide)
      refine lv_iload_n hx hb dX1_swap_24 rfl (lv_at hl 1 rfl) ?_
      refine lv_iload_n hx hb dX1_swap_25 rfl (lv_at hl 2 rfl) ?_
      refine b_icmp_eqN (tgt := 81) CX (by omega) (by omega) dX1_swap_26 (by decide) (fun c_26 => ?_) (fun c_26 => ?_)
      · refine lv_iconst (v := nI 0) hx hb dX1_swap_81 rfl ?_
        refine b_xv0 (cx_X1_84 (rest := []) CX hl.1 (m_X1_need l (x := nI 0) hlt) rfl hS rfl ⟨rfl, rfl, Nat.le_of_ble_eq_true rfl, Nat.le_of_ble_eq_true rfl⟩ (Nat.le_of_ble_eq_true rfl) dX1_swap_82 ⟨Nat.le_of_ble_eq_true rfl, Nat.le_of_ble_eq_true rfl⟩) hS (fun E9 q9 Hx6 locs hx9 hS he9 => ?_) (fun hk_82 locs hS => ?_)
        · rw [← hQ]
          have ho : o_swap (S, n, L, tn, t) (nI jx) (nI jy) c_ = f_no 2 (S, n, L, tn, t) := by
            unfold o_swap
            simp only [ejx, ejy]
            repeat (first | rw [if_pos (by first | assumption | exact ⟨by assumption, by assumption⟩ | (constructor <;> omega) | omega | exact fun q => absurd q (by assumption) | exact fun q => absurd q.1 (by assumption) | exact fun q => absurd q.2 (by assumption) | exact Int32.not_lt.mpr (by assumption) | exact Int32.not_le.mp (by assumption) | exact fun q => q.2 (by assumption) | exact fun q => absurd q.1 (by omega) | exact fun q => absurd (by assumption) q.1 | exact fun q => absurd q.2.1 (by assumption) | exact fun q => absurd q.2.2 (by assumption) | exact ⟨by assumption, by assumption, by assumption⟩)] | rw [if_neg (by first | assumption | exact ⟨by assumption, by assumption⟩ | (constructor <;> omega) | omega | exact fun q => absurd q (by assumption) | exact fun q => absurd q.1 (by assumption) | exact fun q => absurd q.2 (by assumption) | exact Int32.not_lt.mpr (by assumption) | exact Int32.not_le.mp (by assumption) | exact fun q => q.2 (by assumption) | exact fun q => absurd q.1 (by omega) | exact fun q => absurd (by assumption) q.1 | exact fun q => absurd q.2.1 (by assumption) | exact fun q => absurd q.2.2 (by assumption) | exact ⟨by assumption, by assumption, by assumption⟩)])
          exact b_xout htb hlk he9 hS (Nat.le_of_ble_eq_true rfl) (Nat.le_of_ble_eq_true rfl) ⟨hX.tr hx9.2.2, 2, by omega, by rw [ho]; rfl, by rw [ho]; rfl, hx9.2.1⟩
        exact absurd (by decide) hk_82
      · refine lv_aload_n hx hb dX1_swap_29 rfl (lv_at hl 0 rfl) ?_
        refine gf_X1_19_0 CX hc_X.at rfl dX1_swap_30 ?_
        refine gf_X1_70_1 CX hL.loop.at rfl dX1_swap_33 ?_
        refine lv_iload_n hx hb dX1_swap_36 rfl (lv_at hl 1 rfl) ?_
        refine b_cq0 (cs_X1_103 (rest := []) CX hl.1 (m_J2_get l (a := (F 1)) (ta := 1000 * d0 + 1) (mc := M 1) (ra := (F 2)) (tr := 1000 * d0 + 2) (f := (fun j => F (20 + j))) (n := nb S) (i := jx) (hL.alg1 hW (by omega)) (hL.arg2 (by omega)) (by omega) (by omega)) rfl rfl rfl (hL.alg1 hW (by omega)).at hS rfl ⟨rfl, rfl, Nat.le_of_ble_eq_true rfl, Nat.le_of_ble_eq_true rfl⟩ (Nat.le_of_ble_eq_true rfl) dX1_swap_37 ⟨Nat.le_of_ble_eq_true rfl, Nat.le_of_ble_eq_true rfl⟩) hS (fun locs hS => ?_)
        refine b_cast CX (ci := 4) rfl (hL.brand (k := jx) (by omega)).at q807 dX1_swap_40 ?_
        refine gf_X1_196_4 CX (hL.brand (k := jx) (by omega)).at (v := .int (nI (kd S jx))) (congrArg (fun q => some (Value.int q)) (hW.kdE (by omega))) dX1_swap_43 ?_
        refine lv_aload_n hx hb dX1_swap_46 rfl (lv_at hl 0 rfl) ?_
        refine gf_X1_19_0 CX hc_X.at rfl dX1_swap_47 ?_
        refine gf_X1_70_1 CX hL.loop.at rfl dX1_swap_50 ?_
        refine lv_iload_n hx hb dX1_swap_53 rfl (lv_at hl 2 rfl) ?_
        refine b_cq0 (cs_X1_103 (rest := [.int (nI (kd S jx))]) CX hl.1 (m_J2_get l (a := (F 1)) (ta := 1000 * d0 + 1) (mc := M 1) (ra := (F 2)) (tr := 1000 * d0 + 2) (f := (fun j => F (20 + j))) (n := nb S) (i := jy) (hL.alg1 hW (by omega)) (hL.arg2 (by omega)) (by omega) (by omega)) rfl rfl rfl (hL.alg1 hW (by omega)).at hS rfl ⟨rfl, rfl, Nat.le_of_ble_eq_true rfl, Nat.le_of_ble_eq_true rfl⟩ (Nat.le_of_ble_eq_true rfl) dX1_swap_54 ⟨Nat.le_of_ble_eq_true rfl, Nat.le_of_ble_eq_true rfl⟩) hS (fun locs hS => ?_)
        refine b_cast CX (ci := 4) rfl (hL.brand (k := jy) (by omega)).at q807 dX1_swap_57 ?_
        refine gf_X1_196_4 CX (hL.brand (k := jy) (by omega)).at (v := .int (nI (kd S jy))) (congrArg (fun q => some (Value.int q)) (hW.kdE (by omega))) dX1_swap_60 ?_
        refine b_icmp_neN (tgt := 81) CX (by omega) (by omega) dX1_swap_63 (by decide) (fun c_63 => ?_) (fun c_63 => ?_)
        · refine lv_iconst (v := nI 0) hx hb dX1_swap_81 rfl ?_
          refine b_xv0 (cx_X1_84 (rest := []) CX hl.1 (m_X1_need l (x := nI 0) hlt) rfl hS rfl ⟨rfl, rfl, Nat.le_of_ble_eq_true rfl, Nat.le_of_ble_eq_true rfl⟩ (Nat.le_of_ble_eq_true rfl) dX1_swap_82 ⟨Nat.le_of_ble_eq_true rfl, Nat.le_of_ble_eq_true rfl⟩) hS (fun E9 q9 Hx7 locs hx9 hS he9 => ?_) (fun hk_82 locs hS => ?_)
          · rw [← hQ]
            have ho : o_swap (S, n, L, tn, t) (nI jx) (nI jy) c_ = f_no 2 (S, n, L, tn, t) := by
              unfold o_swap
              simp only [ejx, ejy]
              repeat (first | rw [if_pos (by first | assumption | exact ⟨by assumption, by assumption⟩ | (constructor <;> omega) | omega | exact fun q => absurd q (by assumption) | exact fun q => absurd q.1 (by assumption) | exact fun q => absurd q.2 (by assumption) | exact Int32.not_lt.mpr (by assumption) | exact Int32.not_le.mp (by assumption) | exact fun q => q.2 (by assumption) | exact fun q => absurd q.1 (by omega) | exact fun q => absurd (by assumption) q.1 | exact fun q => absurd q.2.1 (by assumption) | exact fun q => absurd q.2.2 (by assumption) | exact ⟨by assumption, by assumption, by assumption⟩)] | rw [if_neg (by first | assumption | exact ⟨by assumption, by assumption⟩ | (constructor <;> omega) | omega | exact fun q => absurd q (by assumption) | exact fun q => absurd q.1 (by assumption) | exact fun q => absurd q.2 (by assumption) | exact Int32.not_lt.mpr (by assumption) | exact Int32.not_le.mp (by assumption) | exact fun q => q.2 (by assumption) | exact fun q => absurd q.1 (by omega) | exact fun q => absurd (by assumption) q.1 | exact fun q => absurd q.2.1 (by assumption) | exact fun q => absurd q.2.2 (by assumption) | exact ⟨by assumption, by assumption, by assumption⟩)])
            exact b_xout htb hlk he9 hS (Nat.le_of_ble_eq_true rfl) (Nat.le_of_ble_eq_true rfl) ⟨hX.tr hx9.2.2, 2, by omega, by rw [ho]; rfl, by rw [ho]; rfl, hx9.2.1⟩
          exact absurd (by decide) hk_82
        · refine lv_iload_n hx hb dX1_swap_66 rfl (lv_at hl 3 rfl) ?_
          refine lv_iconst (v := nI 1) hx hb dX1_swap_67 rfl ?_
          refine lv_sipush (v := nI 5000) hx hb dX1_swap_68 rfl ?_
          refine b_ci0 (cs_X1_73 (rest := []) CX hl.1 (m_X1_in l (x := c_) (lo := nI 1) (hi := nI 5000) ) rfl hS rfl ⟨rfl, rfl, Nat.le_of_ble_eq_true rfl, Nat.le_of_ble_eq_true rfl⟩ (Nat.le_of_ble_eq_true rfl) dX1_swap_71 ⟨Nat.le_of_ble_eq_true rfl, Nat.le_of_ble_eq_true rfl⟩) hS (fun locs hS => ?_)
          refine b_ifeq (tgt := 81) CX dX1_swap_74 (by decide) (fun c_74 => ?_) (fun c_74 => ?_)
          · refine lv_iconst (v := nI 0) hx hb dX1_swap_81 rfl ?_
            refine b_xv0 (cx_X1_84 (rest := []) CX hl.1 (m_X1_need l (x := nI 0) hlt) rfl hS rfl ⟨rfl, rfl, Nat.le_of_ble_eq_true rfl, Nat.le_of_ble_eq_true rfl⟩ (Nat.le_of_ble_eq_true rfl) dX1_swap_82 ⟨Nat.le_of_ble_eq_true rfl, Nat.le_of_ble_eq_true rfl⟩) hS (fun E9 q9 Hx9 locs hx9 hS he9 => ?_) (fun hk_82 locs hS => ?_)
            · rw [← hQ]
              have ho : o_swap (S, n, L, tn, t) (nI jx) (nI jy) c_ = f_no 2 (S, n, L, tn, t) := by
                unfold o_swap
                simp only [ejx, ejy]
                repeat (first | rw [if_pos (by first | assumption | exact ⟨by assumption, by assumption⟩ | (constructor <;> omega) | omega | exact fun q => absurd q (by assumption) | exact fun q => absurd q.1 (by assumption) | exact fun q => absurd q.2 (by assumption) | exact Int32.not_lt.mpr (by assumption) | exact Int32.not_le.mp (by assumption) | exact fun q => q.2 (by assumption) | exact fun q => absurd q.1 (by omega) | exact fun q => absurd (by assumption) q.1 | exact fun q => absurd q.2.1 (by assumption) | exact fun q => absurd q.2.2 (by assumption) | exact ⟨by assumption, by assumption, by assumption⟩)] | rw [if_neg (by first | assumption | exact ⟨by assumption, by assumption⟩ | (constructor <;> omega) | omega | exact fun q => absurd q (by assumption) | exact fun q => absurd q.1 (by assumption) | exact fun q => absurd q.2 (by assumption) | exact Int32.not_lt.mpr (by assumption) | exact Int32.not_le.mp (by assumption) | exact fun q => q.2 (by assumption) | exact fun q => absurd q.1 (by omega) | exact fun q => absurd (by assumption) q.1 | exact fun q => absurd q.2.1 (by assumption) | exact fun q => absurd q.2.2 (by assumption) | exact ⟨by assumption, by assumption, by assumption⟩)])
              exact b_xout htb hlk he9 hS (Nat.le_of_ble_eq_true rfl) (Nat.le_of_ble_eq_true rfl) ⟨hX.tr hx9.2.2, 2, by omega, by rw [ho]; rfl, by rw [ho]; rfl, hx9.2.1⟩
            exact absurd (by decide) hk_82
          · refine lv_iconst (v := nI 1) hx hb dX1_swap_77 rfl ?_
            refine lv_goto (tgt := 82) hx hb dX1_swap_78 (by decide) ?_
            refine b_xv0 (cx_X1_84 (rest := []) CX hl.1 (m_X1_need l (x := nI 1) hlt) rfl hS rfl ⟨rfl, rfl, Nat.le_of_ble_eq_true rfl, Nat.le_of_ble_eq_true rfl⟩ (Nat.le_of_ble_eq_true rfl) dX1_swap_82 ⟨Nat.le_of_ble_eq_true rfl, Nat.le_of_ble_eq_true rfl⟩) hS (fun E9 q9 Hx10 locs hx9 hS he9 => ?_) (fun hk_82 locs hS => ?_)
            · exact absurd hx9.1 (by decide)
            refine b_new CX in_X19 tyX19 tyX19_ok (ci := 17) rfl q1657 q1658 q117 (fs := [.null, .int (nI 0), .int (nI 0), .int (nI 0), .null]) (nofn_X19) hS (Nat.le_of_ble_eq_true rfl) (Nat.le_of_ble_eq_true rfl) dX1_swap_85 (fun q11 H11 hq hB hat hsz hE hS => ?_)
            have hc_X := hc_X.new (tb := 100) hE hq
            have hc_sv := hc_sv.new (tb := 100) hE hq
            have hsa := fun h9 => (hsa h9).new (tb := 100) hE hq
            have hc_tx := hc_tx.new (tb := 100) hE hq
            have hc_tb := hc_tb.new (tb := 100) hE hq
            have hc_tk := hc_tk.new (tb := 100) hE hq
            have hL := hL.new (tb := 100) hE hq
            have hV := hV.new (tb := 100) hE hq
            have fr_dd : H.size ≤ q11 := by rw [hq]; exact hF.1
            have hX := hX.tr hE
            have hA := hA.tr (b_Ag.new (t := 100) hq) hF.1
            have hF := hF.ext hE
            have hc_dd : b_tt G B0 ((upT τ q11 100)) H11 q11 100 (.inr (17, [.null, .int (nI 0), .int (nI 0), .int (nI 0), .null])) := b_tt.mk hat hB
            refine lv_dup hx hb dX1_swap_88 rfl ?_
            refine lv_aload_n hx hb dX1_swap_89 rfl (lv_at hl 0 rfl) ?_
            refine lv_iload_n hx hb dX1_swap_90 rfl (lv_at hl 1 rfl) ?_
            refine lv_iload_n hx hb dX1_swap_91 rfl (lv_at hl 3 rfl) ?_
            refine lv_iload_n hx hb dX1_swap_92 rfl (lv_at hl 2 rfl) ?_
            refine b_cv (cs_X1_201 (rest := [.ref q11]) CX hl.1 (m_X19_init l (a := q11) (ta := 100) (ax := (A 0)) (x := jx) (w_ := c_) (y := jy) hc_dd) rfl hS rfl ⟨rfl, rfl, Nat.le_of_ble_eq_true rfl, Nat.le_of_ble_eq_true rfl⟩ (Nat.le_of_ble_eq_true rfl) dX1_swap_93 ⟨Nat.le_of_ble_eq_true rfl, Nat.le_of_ble_eq_true rfl⟩) hS (fun H12 locs hp hS => ?_)
            obtain ⟨hu, hx0⟩ := hp
            have hc_X := hc_X.up hu hc_dd.tag (by decide)
            have hc_sv := hc_sv.up hu hc_dd.tag (by decide)
            have hsa := fun h9 => (hsa h9).up hu hc_dd.tag (by omega)
            have hc_tx := hc_tx.up hu hc_dd.tag (by decide)
            have hc_tb := hc_tb.up hu hc_dd.tag (by decide)
            have hc_tk := hc_tk.up hu hc_dd.tag (by decide)
            have hL := hL.up hu hc_dd.tag (by omega)
            have hV := hV.up hu hc_dd.tag (fun k9 h1 h2 h3 => by omega)
            have hX := hX.up hu fr_dd
            have hF := hF.up hA hu hc_dd.tag (fun q9 => absurd q9 (Nat.not_lt.mpr fr_dd))
            have hc_dd : b_tt G B0 ((upT τ q11 100)) H12 q11 100 (.inr (17, [.ref ((A 0)), .int (nI jx), .int c_, .int (nI jy), .ref ((A 0))])) := hx0
            have hXR : XR G B0 ((upT τ q11 100)) A H12 (S, n, L, tn, t) := ⟨d0, c0, ids, P0, F, M, E, Z, sm, rs, se, ml, hs, bt, tk9, hc_X, hc_sv, hsa, hse, hc_tx, hc_tb, hbt, hc_tk, hL, hZ, hW, hV, hd0, hdc, hn, htn, ht⟩
            refine b_xi (cx_X1_202_17 (rest := []) CX hl.1 (m_X6_done_17 l (da := q11) (x := jx) (w_ := c_) (y := jy) hc_dd hlt hXR (by omega) (by omega) (by assumption) (fun h9 => by have h7 := c_lt0 (h9); have ho : o_swap (S, n, L, tn, t) (nI jx) (nI jy) c_ = f_ok (S 3 jx jy + c_ - S 3 jy jx) (z_save (S, n, L, tn, t) ((s_swap S jx jy c_))) := (by unfold o_swap; simp only [ejx, ejy]; repeat (first | rw [if_pos (by first | assumption | exact ⟨by assumption, by assumption⟩ | (constructor <;> omega) | omega | exact fun q => absurd q (by assumption) | exact fun q => absurd q.1 (by assumption) | exact fun q => absurd q.2 (by assumption) | exact Int32.not_lt.mpr (by assumption) | exact Int32.not_le.mp (by assumption) | exact fun q => q.2 (by assumption) | exact fun q => absurd q.1 (by omega) | exact fun q => absurd (by assumption) q.1 | exact fun q => absurd q.2.1 (by assumption) | exact fun q => absurd q.2.2 (by assumption) | exact ⟨by assumption, by assumption, by assumption⟩)] | rw [if_neg (by first | assumption | exact ⟨by assumption, by assumption⟩ | (constructor <;> omega) | omega | exact fun q => absurd q (by assumption) | exact fun q => absurd q.1 (by assumption) | exact fun q => absurd q.2 (by assumption) | exact Int32.not_lt.mpr (by assumption) | exact Int32.not_le.mp (by assumption) | exact fun q => q.2 (by assumption) | exact fun q => absurd q.1 (by omega) | exact fun q => absurd (by assumption) q.1 | exact fun q => absurd q.2.1 (by assumption) | exact fun q => absurd q.2.2 (by assumption) | exact ⟨by assumption, by assumption, by assumption⟩)])); have h8 := hW1; rw [ho] at h8; exact h8)) rfl hc_dd.at hS rfl ⟨rfl, rfl, Nat.le_of_ble_eq_true rfl, Nat.le_of_ble_eq_true rfl⟩ (Nat.le_of_ble_eq_true rfl) dX1_swap_96 ⟨Nat.le_of_ble_eq_true rfl, Nat.le_of_ble_eq_true rfl⟩) hS (fun E9 q9 Hx13 locs hx9 hS he9 => ?_) (fun r H13 locs hp hS => ?_)
            · have h7 := c_lt1 (hx9.1)
              rw [← hQ]
              have ho : o_swap (S, n, L, tn, t) (nI jx) (nI jy) c_ = f_no 3 (S, n, L, tn, t) := by
                unfold o_swap
                simp only [ejx, ejy]
                repeat (first | rw [if_pos (by first | assumption | exact ⟨by assumption, by assumption⟩ | (constructor <;> omega) | omega | exact fun q => absurd q (by assumption) | exact fun q => absurd q.1 (by assumption) | exact fun q => absurd q.2 (by assumption) | exact Int32.not_lt.mpr (by assumption) | exact Int32.not_le.mp (by assumption) | exact fun q => q.2 (by assumption) | exact fun q => absurd q.1 (by omega) | exact fun q => absurd (by assumption) q.1 | exact fun q => absurd q.2.1 (by assumption) | exact fun q => absurd q.2.2 (by assumption) | exact ⟨by assumption, by assumption, by assumption⟩)] | rw [if_neg (by first | assumption | exact ⟨by assumption, by assumption⟩ | (constructor <;> omega) | omega | exact fun q => absurd q (by assumption) | exact fun q => absurd q.1 (by assumption) | exact fun q => absurd q.2 (by assumption) | exact Int32.not_lt.mpr (by assumption) | exact Int32.not_le.mp (by assumption) | exact fun q => q.2 (by assumption) | exact fun q => absurd q.1 (by omega) | exact fun q => absurd (by assumption) q.1 | exact fun q => absurd q.2.1 (by assumption) | exact fun q => absurd q.2.2 (by assumption) | exact ⟨by assumption, by assumption, by assumption⟩)])
              exact b_xout htb hlk he9 hS (Nat.le_of_ble_eq_true rfl) (Nat.le_of_ble_eq_true rfl) ⟨hX.tr hx9.2.2, 3, by omega, by rw [ho]; rfl, by rw [ho]; rfl, hx9.2.1⟩
            obtain ⟨hk_96, rfl, τ13, hA9, hF9, hXR⟩ := hp
            have hc_dd := hc_dd.ca hF9 hA9 (show ¬ (100 < 10 ∨ 1000 ≤ 100) by omega)
            have hF0 := hF.tr hA hF9 (fun q9 hq9 x9 => by have x8 : τ q9 < 10 ∨ 1000 ≤ τ q9 := x9; show τ q9 < 200 ∨ 1000 ≤ τ q9; omega)
            have hA := hA.tr hA9 hF.1
            have hF := hF0
            have hXR : XR G B0 τ13 A H13 ((s_swap S jx jy c_), (p_sn n), (p_L L S n), tn, t) := hXR
            have h7 := c_lt0 (hk_96)
            have ho : o_swap (S, n, L, tn, t) (nI jx) (nI jy) c_ = (nI 0, S 3 jx jy + c_ - S 3 jy jx, ((s_swap S jx jy c_), (p_sn n), (p_L L S n), tn, t)) := by
              unfold o_swap
              simp only [ejx, ejy]
              repeat (first | rw [if_pos (by first | assumption | exact ⟨by assumption, by assumption⟩ | (constructor <;> omega) | omega | exact fun q => absurd q (by assumption) | exact fun q => absurd q.1 (by assumption) | exact fun q => absurd q.2 (by assumption) | exact Int32.not_lt.mpr (by assumption) | exact Int32.not_le.mp (by assumption) | exact fun q => q.2 (by assumption) | exact fun q => absurd q.1 (by omega) | exact fun q => absurd (by assumption) q.1 | exact fun q => absurd q.2.1 (by assumption) | exact fun q => absurd q.2.2 (by assumption) | exact ⟨by assumption, by assumption, by assumption⟩)] | rw [if_neg (by first | assumption | exact ⟨by assumption, by assumption⟩ | (constructor <;> omega) | omega | exact fun q => absurd q (by assumption) | exact fun q => absurd q.1 (by assumption) | exact fun q => absurd q.2 (by assumption) | exact Int32.not_lt.mpr (by assumption) | exact Int32.not_le.mp (by assumption) | exact fun q => q.2 (by assumption) | exact fun q => absurd q.1 (by omega) | exact fun q => absurd (by assumption) q.1 | exact fun q => absurd q.2.1 (by assumption) | exact fun q => absurd q.2.2 (by assumption) | exact ⟨by assumption, by assumption, by assumption⟩)])
              first | rfl | (unfold f_ok f_no z_save;  rfl)
            rw [← hQ]
            exact vx_ret (b_iret CX hr hlk hS (Nat.le_of_ble_eq_true rfl) (Nat.le_of_ble_eq_true rfl) dX1_swap_99 ((by unfold o_ok1; rw [ho]; exact ⟨rfl, rfl, _, hA, hF, hXR⟩)))
set_option maxHeartbeats 2000000 in
set_option maxRecDepth 100000 in
theorem m_X1_set (l : Launch) {G : b_G} {B0 : Nat} {H : Heap} {τ : b_T} {A : Nat → Nat} {S : b_St} {n : Nat} {L : Nat → b_St} {tn : Nat} {t : Nat → Nat} {x : Int32} {b : Int32} (hlt : l.stackTraces = false) (hXR : XR G B0 τ A H (S, n, L, tn, t)) (hW1 : b_WF (o_set (S, n, L, tn, t) x b).2.2.1) (hheld : S 0 0 3 ≤ 0 ↔ S 0 0 3 = nI 0) : vx_Met l yX1_set (ws_ yX1_set cX1_set 4 (Option.some Jvm.ClassFile.FieldType.int)) ({ frames := 7, cells := 57, slots := 479, locals := 150 } : Room) (b_Pc G B0 H [.ref ((A 0)), .int x, .int b]) (b_Qi B0 (fun r H1 => o_ok1 G B0 τ A H (o_set (S, n, L, tn, t) x b) r H1)) (b_X B0 (fun E9 q9 H9 => o_px H (S, n, L, tn, t) (o_set (S, n, L, tn, t) x b) cl_A E9 H9)) 57 479 (b_A B0) := by
  refine b_ofX (by decide) (Nat.le_of_ble_eq_true rfl) ?_
  intro p e s m below meth c CX hr hlk htb hS ls hl
  have CX : b_Cx p s m _ c cX1_set 4 RX1 G B0 := CX
  have hx := CX.hx
  have hb := CX.hb
  have hl : lv_has ls 4 [(0, .ref ((A 0))), (1, .int x), (2, .int b)] := hl
  generalize hQ : vx_MQ below (b_Qi B0 (fun r H1 => o_ok1 G B0 τ A H (o_set (S, n, L, tn, t) x b) r H1)) (b_X B0 (fun E9 q9 H9 => o_px H (S, n, L, tn, t) (o_set (S, n, L, tn, t) x b) cl_A E9 H9)) ([.ref ((A 0)), .int x, .int b] : List Value).toArray s 57 479 (b_A B0) = Q
  have hF : b_Fr τ (fun t => t < 200 ∨ 1000 ≤ t) H H := b_Fr.rf
  have hA : b_Ag τ τ H := b_Ag.rf
  have hX : b_Ext H H := b_Ext.rf
  obtain ⟨d0, c0, ids, P0, F, M, E, Z, sm, rs, se, ml, hs, bt, tk9, hc_X, hc_sv, hsa, hse, hc_tx, hc_tb, hbt, hc_tk, hL, hZ, hW, hV, hd0, hdc, hn, htn, ht⟩ := hXR
  have hc_X : b_tt G B0 τ H ((A 0)) 0 (.inr (0, [.ref ((F 0)), .ref ((A 1)), .ref ((A 3)), .ref ((A 5)), .long hs])) := hc_X
  have hc_sv : b_tt G B0 τ H ((A 1)) 1 (.inr (2, [.int sm, .ref ((if se = true then rs else G.2.2 0)), .int (nI n)])) := hc_sv
  have hsa : (se = true → b_tt G B0 τ H rs 2 (.inl (G.2.1 2, q_refs 10 (fun j => if j < n then some (P0 j) else none)))) := hsa
  have hc_tx : b_tt G B0 τ H ((A 3)) 3 (.inr (3, [.ref ((A 4)), .int (nI 0), .int ml, .int (nI tn)])) := hc_tx
  have hc_tb : b_tt G B0 τ H ((A 4)) 4 (.inl (G.2.1 1, 60, .inl bt)) := hc_tb
  have hc_tk : b_tt G B0 τ H ((A 5)) 5 (.inl (G.2.1 0, 8, .inl tk9)) := hc_tk
  have hL : LR G B0 τ d0 F M E H S Z := hL
  have hV : SV G B0 τ d0 c0 n ids P0 H L := hV
  have hn8 := hL.2.2.2.1
  have hn6 := hL.2.2.2.2
  have hnb : nb S = nb S := rfl
  have hns : ns S = ns S := rfl
  have hn : n ≤ 6 := hn
  have htn : tn ≤ 60 := htn
  have ht : ∀ j, t j < 128 := ht
  have hse : se = true ∨ n = 0 := hse
  have hZ : pZ Z S := hZ
  have hW : b_WF S := hW
  have hbt : ∀ j, j < tn → bt j = nI (t j) := hbt
  refine lv_iload_n hx hb dX1_set_0 rfl (lv_at hl 1 rfl) ?_
  refine lv_iconst (v := nI 0) hx hb dX1_set_1 rfl ?_
  refine lv_iconst (v := nI 5) hx hb dX1_set_2 rfl ?_
  refine b_ci0 (cs_X1_73 (rest := []) CX hl.1 (m_X1_in l (x := x) (lo := nI 0) (hi := nI 5) ) rfl hS rfl ⟨rfl, rfl, Nat.le_of_ble_eq_true rfl, Nat.le_of_ble_eq_true rfl⟩ (Nat.le_of_ble_eq_true rfl) dX1_set_3 ⟨Nat.le_of_ble_eq_true rfl, Nat.le_of_ble_eq_true rfl⟩) hS (fun locs hS => ?_)
  refine b_xv0 (cx_X1_119 (rest := []) CX hl.1 (m_X1_needIndex l (x := bI ((nI 0) ≤ x ∧ x ≤ (nI 5))) hlt) rfl hS rfl ⟨rfl, rfl, Nat.le_of_ble_eq_true rfl, Nat.le_of_ble_eq_true rfl⟩ (Nat.le_of_ble_eq_true rfl) dX1_set_6 ⟨Nat.le_of_ble_eq_true rfl, Nat.le_of_ble_eq_true rfl⟩) hS (fun E9 q9 Hx2 locs hx9 hS he9 => ?_) (fun hk_6 locs hS => ?_)
  · have hk_6 := bI_0.mp hx9.1
    rw [← hQ]
    have ho : o_set (S, n, L, tn, t) x b = f_no 1 (S, n, L, tn, t) := by
      unfold o_set
      try dsimp only
      repeat (first | rw [if_pos (by first | assumption | exact ⟨by assumption, by assumption⟩ | (constructor <;> omega) | omega | exact fun q => absurd q (by assumption) | exact fun q => absurd q.1 (by assumption) | exact fun q => absurd q.2 (by assumption) | exact Int32.not_lt.mpr (by assumption) | exact Int32.not_le.mp (by assumption) | exact fun q => q.2 (by assumption) | exact fun q => absurd q.1 (by omega))] | rw [if_neg (by first | assumption | exact ⟨by assumption, by assumption⟩ | (constructor <;> omega) | omega | exact fun q => absurd q (by assumption) | exact fun q => absurd q.1 (by assumption) | exact fun q => absurd q.2 (by assumption) | exact Int32.not_lt.mpr (by assumption) | exact Int32.not_le.mp (by assumption) | exact fun q => q.2 (by assumption) | exact fun q => absurd q.1 (by omega))])
    exact b_xout htb hlk he9 hS (Nat.le_of_ble_eq_true rfl) (Nat.le_of_ble_eq_true rfl) ⟨hX.tr hx9.2.2, 1, by omega, by rw [ho]; rfl, by rw [ho]; rfl, hx9.2.1⟩
  have hk_6 := bI_n0.mp hk_6
  obtain ⟨jx, hjxa, hjxb, rfl⟩ := p_rg (by decide) hk_6 (by decide)
  have ejx : ix (nI jx) = jx := ix_n (by omega)
  refine lv_iload_n hx hb dX1_set_9 rfl (lv_at hl 2 rfl) ?_
  refine b_gets (v := .ref ((G.2.2 1))) CX CX.K.2.2.2.2.1.2.2.1 hS q1138 dX1_set_10 ?_
  refine lv_iload_n hx hb dX1_set_13 rfl (lv_at hl 1 rfl) ?_
  refine va_ti hx hb CX.K.2.2.2.2.1.2.2.2.1 hS (vp_in_nI (by omega) (by omega)) (show _ = Value.int (b_least jx) by rw [nI_cl (by omega)]) dX1_set_14 ?_
  refine b_gets (v := .ref ((G.2.2 2))) CX CX.K.2.2.2.2.1.2.2.2.2.1 hS q1140 dX1_set_15 ?_
  refine lv_iload_n hx hb dX1_set_18 rfl (lv_at hl 1 rfl) ?_
  refine va_ti hx hb CX.K.2.2.2.2.1.2.2.2.2.2.1 hS (vp_in_nI (by omega) (by omega)) (show _ = Value.int (b_most jx) by rw [nI_cl (by omega)]) dX1_set_19 ?_
  refine b_ci0 (cs_X1_73 (rest := []) CX hl.1 (m_X1_in l (x := b) (lo := b_least jx) (hi := b_most jx) ) rfl hS rfl ⟨rfl, rfl, Nat.le_of_ble_eq_true rfl, Nat.le_of_ble_eq_true rfl⟩ (Nat.le_of_ble_eq_true rfl) dX1_set_20 ⟨Nat.le_of_ble_eq_true rfl, Nat.le_of_ble_eq_true rfl⟩) hS (fun locs hS => ?_)
  refine b_xv0 (cx_X1_84 (rest := []) CX hl.1 (m_X1_need l (x := bI ((b_least jx) ≤ b ∧ b ≤ (b_most jx))) hlt) rfl hS rfl ⟨rfl, rfl, Nat.le_of_ble_eq_true rfl, Nat.le_of_ble_eq_true rfl⟩ (Nat.le_of_ble_eq_true rfl) dX1_set_23 ⟨Nat.le_of_ble_eq_true rfl, Nat.le_of_ble_eq_true rfl⟩) hS (fun E9 q9 Hx4 locs hx9 hS he9 => ?_) (fun hk_23 locs hS => ?_)
  · have hk_23 := bI_0.mp hx9.1
    rw [← hQ]
    have ho : o_set (S, n, L, tn, t) (nI jx) b = f_no 2 (S, n, L, tn, t) := by
      unfold o_set
      simp only [ejx]
      repeat (first | rw [if_pos (by first | assumption | exact ⟨by assumption, by assumption⟩ | (constructor <;> omega) | omega | exact fun q => absurd q (by assumption) | exact fun q => absurd q.1 (by assumption) | exact fun q => absurd q.2 (by assumption) | exact Int32.not_lt.mpr (by assumption) | exact Int32.not_le.mp (by assumption) | exact fun q => q.2 (by assumption) | exact fun q => absurd q.1 (by omega))] | rw [if_neg (by first | assumption | exact ⟨by assumption, by assumption⟩ | (constructor <;> omega) | omega | exact fun q => absurd q (by assumption) | exact fun q => absurd q.1 (by assumption) | exact fun q => absurd q.2 (by assumption) | exact Int32.not_lt.mpr (by assumption) | exact Int32.not_le.mp (by assumption) | exact fun q => q.2 (by assumption) | exact fun q => absurd q.1 (by omega))])
    exact b_xout htb hlk he9 hS (Nat.le_of_ble_eq_true rfl) (Nat.le_of_ble_eq_true rfl) ⟨hX.tr hx9.2.2, 2, by omega, by rw [ho]; rfl, by rw [ho]; rfl, hx9.2.1⟩
  have hk_23 := bI_n0.mp hk_23
  refine lv_iload_n hx hb dX1_set_26 rfl (lv_at hl 1 rfl) ?_
  refine lv_iconst (v := nI 3) hx hb dX1_set_27 rfl ?_
  refine b_icmp_gtN (tgt := 41) CX (by omega) (by omega) dX1_set_28 (by decide) (fun c_28 => ?_) (fun c_28 => ?_)
  · refine lv_iconst (v := nI 1) hx hb dX1_set_41 rfl ?_
    refine lv_goto (tgt := 46) hx hb dX1_set_42 (by decide) ?_
    refine b_xv0 (cx_X1_88 (rest := []) CX hl.1 (m_X1_needState l (x := nI 1) hlt) rfl hS rfl ⟨rfl, rfl, Nat.le_of_ble_eq_true rfl, Nat.le_of_ble_eq_true rfl⟩ (Nat.le_of_ble_eq_true rfl) dX1_set_46 ⟨Nat.le_of_ble_eq_true rfl, Nat.le_of_ble_eq_true rfl⟩) hS (fun E9 q9 Hx5 locs hx9 hS he9 => ?_) (fun hk_46 locs hS => ?_)
    · exact absurd hx9.1 (by decide)
    refine lv_aload_n hx hb dX1_set_49 rfl (lv_at hl 0 rfl) ?_
    have hXR : XR G B0 τ A H (S, n, L, tn, t) := ⟨d0, c0, ids, P0, F, M, E, Z, sm, rs, se, ml, hs, bt, tk9, hc_X, hc_sv, hsa, hse, hc_tx, hc_tb, hbt, hc_tk, hL, hZ, hW, hV, hd0, hdc, hn, htn, ht⟩
    refine b_cv (cs_X1_91 (rest := []) CX hl.1 (m_X1_save l  hXR) rfl rfl rfl hc_X.at hS rfl ⟨rfl, rfl, Nat.le_of_ble_eq_true rfl, Nat.le_of_ble_eq_true rfl⟩ (Nat.le_of_ble_eq_true rfl) dX1_set_50 ⟨Nat.le_of_ble_eq_true rfl, Nat.le_of_ble_eq_true rfl⟩) hS (fun H6 locs hp hS => ?_)
    obtain ⟨τ6, hA9, hF9, hXR⟩ := hp
    have hF0 := hF.tr hA hF9 (fun q9 hq9 x9 => by have x8 : τ q9 = 1 ∨ τ q9 = 2 ∨ 1000 ≤ τ q9 := x9; show τ q9 < 200 ∨ 1000 ≤ τ q9; omega)
    have hA := hA.tr hA9 hF.1
    have hF := hF0
    have hXR : XR G B0 τ6 A H6 (S, (p_sn n), (p_L L S n), tn, t) := hXR
    obtain ⟨d06, c06, ids6, P06, F6, M6, E6, Z6, sm6, rs6, se6, ml6, hs6, bt6, tk96, hc_X, hc_sv, hsa, hse, hc_tx, hc_tb, hbt, hc_tk, hL, hZ, hW, hV, hd0, hdc, hn, htn, ht⟩ := hXR
    have hc_X : b_tt G B0 τ6 H6 ((A 0)) 0 (.inr (0, [.ref ((F6 0)), .ref ((A 1)), .ref ((A 3)), .ref ((A 5)), .long hs6])) := hc_X
    have hc_sv : b_tt G B0 τ6 H6 ((A 1)) 1 (.inr (2, [.int sm6, .ref ((if se6 = true then rs6 else G.2.2 0)), .int (nI ((p_sn n)))])) := hc_sv
    have hsa : (se6 = true → b_tt G B0 τ6 H6 rs6 2 (.inl (G.2.1 2, q_refs 10 (fun j => if j < (p_sn n) then some (P06 j) else none)))) := hsa
    have hc_tx : b_tt G B0 τ6 H6 ((A 3)) 3 (.inr (3, [.ref ((A 4)), .int (nI 0), .int ml6, .int (nI tn)])) := hc_tx
    have hc_tb : b_tt G B0 τ6 H6 ((A 4)) 4 (.inl (G.2.1 1, 60, .inl bt6)) := hc_tb
    have hc_tk : b_tt G B0 τ6 H6 ((A 5)) 5 (.inl (G.2.1 0, 8, .inl tk96)) := hc_tk
    have hL : LR G B0 τ6 d06 F6 M6 E6 H6 S Z6 := hL
    have hV : SV G B0 τ6 d06 c06 ((p_sn n)) ids6 P06 H6 ((p_L L S n)) := hV
    have hn8 := hL.2.2.2.1
    have hn6 := hL.2.2.2.2
    have hnb : nb S = nb S := rfl
    have hns : ns S = ns S := rfl
    have hn : (p_sn n) ≤ 6 := hn
    have htn : tn ≤ 60 := htn
    have ht : ∀ j, t j < 128 := ht
    have hse : se6 = true ∨ (p_sn n) = 0 := hse
    have hZ : pZ Z6 S := hZ
    have hW : b_WF S := hW
    have hbt : ∀ j, j < tn → bt6 j = nI (t j) := hbt
    refine lv_aload_n hx hb dX1_set_53 rfl (lv_at hl 0 rfl) ?_
    refine gf_X1_19_0 CX hc_X.at rfl dX1_set_54 ?_
    refine gf_X1_131_1 CX hL.loop.at rfl dX1_set_57 ?_
    refine lv_iload_n hx hb dX1_set_60 rfl (lv_at hl 1 rfl) ?_
    refine b_ild CX hL.sett.at (x := S 0 0 (7 + jx)) (vp_in_nI (by omega) (by omega)) (b_at_nI (f := (fun j => S 0 0 (7 + j))) (n := jx) (by omega) rfl) dX1_set_61 ?_
    refine lv_istore_n (lv' := [(3, .int (S 0 0 (7 + jx))), (0, .ref ((A 0))), (1, .int (nI jx)), (2, .int b)]) hx hb dX1_set_62 rfl hl (Nat.le_of_ble_eq_true rfl) rfl (fun ls hl => ?_)
    refine lv_aload_n hx hb dX1_set_63 rfl (lv_at hl 1 rfl) ?_
    refine gf_X1_19_0 CX hc_X.at rfl dX1_set_64 ?_
    refine gf_X1_131_1 CX hL.loop.at rfl dX1_set_67 ?_
    refine lv_iload_n hx hb dX1_set_70 rfl (lv_at hl 2 rfl) ?_
    refine lv_iload_n hx hb dX1_set_71 rfl (lv_at hl 3 rfl) ?_
    refine b_ist CX hL.sett.at hS hL.sett.B (vp_in_nI (by omega) (by omega)) dX1_set_72 (fun H7 locs hat hu hS => ?_)
    have hc_X := hc_X.up hu hL.sett.tag (by omega)
    have hc_sv := hc_sv.up hu hL.sett.tag (by omega)
    have hsa := fun h9 => (hsa h9).up hu hL.sett.tag (by omega)
    have hc_tx := hc_tx.up hu hL.sett.tag (by omega)
    have hc_tb := hc_tb.up hu hL.sett.tag (by omega)
    have hc_tk := hc_tk.up hu hL.sett.tag (by omega)
    have hV := hV.up hu hL.sett.tag (fun k9 h1 h2 h3 => by omega)
    have hF := hF.up hA hu hL.sett.tag (fun _ => show (1000 * d06 + 5) < 200 ∨ 1000 ≤ (1000 * d06 + 5) by omega)
    rw [nI_cl (by omega)] at hat
    have hL : LR G B0 τ6 d06 F6 M6 E6 H7 ((u3 S 0 0 (7 + jx) b)) Z6 := hL.set5 hat hu
    have hnb : nb ((u3 S 0 0 (7 + jx) b)) = nb S := (nb_u (by omega)).trans hnb
    have hns : ns ((u3 S 0 0 (7 + jx) b)) = ns S := (ns_u (by omega)).trans hns
    refine lv_iload_n hx hb dX1_set_73 rfl (lv_at hl 0 rfl) ?_
    have ho : o_set (S, n, L, tn, t) (nI jx) b = (nI 0, S 0 0 (7 + jx), ((u3 S 0 0 (7 + jx) b), (p_sn n), (p_L L S n), tn, t)) := by
      unfold o_set
      simp only [ejx]
      repeat (first | rw [if_pos (by first | assumption | exact ⟨by assumption, by assumption⟩ | (constructor <;> omega) | omega | exact fun q => absurd q (by assumption) | exact fun q => absurd q.1 (by assumption) | exact fun q => absurd q.2 (by assumption) | exact Int32.not_lt.mpr (by assumption) | exact Int32.not_le.mp (by assumption) | exact fun q => q.2 (by assumption) | exact fun q => absurd q.1 (by omega))] | rw [if_neg (by first | assumption | exact ⟨by assumption, by assumption⟩ | (constructor <;> omega) | omega | exact fun q => absurd q (by assumption) | exact fun q => absurd q.1 (by assumption) | exact fun q => absurd q.2 (by assumption) | exact Int32.not_lt.mpr (by assumption) | exact Int32.not_le.mp (by assumption) | exact fun q => q.2 (by assumption) | exact fun q => absurd q.1 (by omega))])
      first | rfl | (unfold f_ok f_no z_save;  rfl)
    rw [← hQ]
    exact vx_ret (b_iret CX hr hlk hS (Nat.le_of_ble_eq_true rfl) (Nat.le_of_ble_eq_true rfl) dX1_set_74 ((by unfold o_ok1; rw [ho]; exact ⟨rfl, rfl, _, hA, hF, ⟨d06, c06, ids6, P06, F6, M6, E6, Z6, sm6, rs6, se6, ml6, hs6, bt6, tk96, hc_X, hc_sv, hsa, hse, hc_tx, hc_tb, hbt, hc_tk, hL, (pZ.of hZ (fun i j => by simp [u3])), (by have h9 := hW1; rw [ho] at h9; exact h9), hV, hd0, hdc, hn, htn, ht⟩⟩)))
  · refine lv_aload_n hx hb dX1_set_31 rfl (lv_at hl 0 rfl) ?_
    refine gf_X1_19_0 CX hc_X.at rfl dX1_set_32 ?_
    refine gf_X1_128_1 CX hL.loop.at rfl dX1_set_35 ?_
    refine lv_if_ne (tgt := 45) hx hb dX1_set_38 (by decide) (fun c_38 => ?_) (fun c_38 => ?_)
    · have h38 : ¬ S 0 0 3 ≤ 0 := fun q => c_38 (hheld.mp q)
      refine lv_iconst (v := nI 0) hx hb dX1_set_45 rfl ?_
      refine b_xv0 (cx_X1_88 (rest := []) CX hl.1 (m_X1_needState l (x := nI 0) hlt) rfl hS rfl ⟨rfl, rfl, Nat.le_of_ble_eq_true rfl, Nat.le_of_ble_eq_true rfl⟩ (Nat.le_of_ble_eq_true rfl) dX1_set_46 ⟨Nat.le_of_ble_eq_true rfl, Nat.le_of_ble_eq_true rfl⟩) hS (fun E9 q9 Hx8 locs hx9 hS he9 => ?_) (fun hk_46 locs hS => ?_)
      · rw [← hQ]
        have ho : o_set (S, n, L, tn, t) (nI jx) b = f_no 3 (S, n, L, tn, t) := by
          unfold o_set
          simp only [ejx]
          repeat (first | rw [if_pos (by first | assumption | exact ⟨by assumption, by assumption⟩ | (constructor <;> omega) | omega | exact fun q => absurd q (by assumption) | exact fun q => absurd q.1 (by assumption) | exact fun q => absurd q.2 (by assumption) | exact Int32.not_lt.mpr (by assumption) | exact Int32.not_le.mp (by assumption) | exact fun q => q.2 (by assumption) | exact fun q => absurd q.1 (by omega))] | rw [if_neg (by first | assumption | exact ⟨by assumption, by assumption⟩ | (constructor <;> omega) | omega | exact fun q => absurd q (by assumption) | exact fun q => absurd q.1 (by assumption) | exact fun q => absurd q.2 (by assumption) | exact Int32.not_lt.mpr (by assumption) | exact Int32.not_le.mp (by assumption) | exact fun q => q.2 (by assumption) | exact fun q => absurd q.1 (by omega))])
        exact b_xout htb hlk he9 hS (Nat.le_of_ble_eq_true rfl) (Nat.le_of_ble_eq_true rfl) ⟨hX.tr hx9.2.2, 3, by omega, by rw [ho]; rfl, by rw [ho]; rfl, hx9.2.1⟩
      exact absurd (by decide) hk_46
    · have h38 : S 0 0 3 ≤ 0 := hheld.mpr c_38
      refine lv_iconst (v := nI 1) hx hb dX1_set_41 rfl ?_
      refine lv_goto (tgt := 46) hx hb dX1_set_42 (by decide) ?_
      refine b_xv0 (cx_X1_88 (rest := []) CX hl.1 (m_X1_needState l (x := nI 1) hlt) rfl hS rfl ⟨rfl, rfl, Nat.le_of_ble_eq_true rfl, Nat.le_of_ble_eq_true rfl⟩ (Nat.le_of_ble_eq_true rfl) dX1_set_46 ⟨Nat.le_of_ble_eq_true rfl, Nat.le_of_ble_eq_true rfl⟩) hS (fun E9 q9 Hx9 locs hx9 hS he9 => ?_) (fun hk_46 locs hS => ?_)
      · exact absurd hx9.1 (by decide)
      refine lv_aload_n hx hb dX1_set_49 rfl (lv_at hl 0 rfl) ?_
      have hXR : XR G B0 τ A H (S, n, L, tn, t) := ⟨d0, c0, ids, P0, F, M, E, Z, sm, rs, se, ml, hs, bt, tk9, hc_X, hc_sv, hsa, hse, hc_tx, hc_tb, hbt, hc_tk, hL, hZ, hW, hV, hd0, hdc, hn, htn, ht⟩
      refine b_cv (cs_X1_91 (rest := []) CX hl.1 (m_X1_save l  hXR) rfl rfl rfl hc_X.at hS rfl ⟨rfl, rfl, Nat.le_of_ble_eq_true rfl, Nat.le_of_ble_eq_true rfl⟩ (Nat.le_of_ble_eq_true rfl) dX1_set_50 ⟨Nat.le_of_ble_eq_true rfl, Nat.le_of_ble_eq_true rfl⟩) hS (fun H10 locs hp hS => ?_)
      obtain ⟨τ10, hA9, hF9, hXR⟩ := hp
      have hF0 := hF.tr hA hF9 (fun q9 hq9 x9 => by have x8 : τ q9 = 1 ∨ τ q9 = 2 ∨ 1000 ≤ τ q9 := x9; show τ q9 < 200 ∨ 1000 ≤ τ q9; omega)
      have hA := hA.tr hA9 hF.1
      have hF := hF0
      have hXR : XR G B0 τ10 A H10 (S, (p_sn n), (p_L L S n), tn, t) := hXR
      obtain ⟨d010, c010, ids10, P010, F10, M10, E10, Z10, sm10, rs10, se10, ml10, hs10, bt10, tk910, hc_X, hc_sv, hsa, hse, hc_tx, hc_tb, hbt, hc_tk, hL, hZ, hW, hV, hd0, hdc, hn, htn, ht⟩ := hXR
      have hc_X : b_tt G B0 τ10 H10 ((A 0)) 0 (.inr (0, [.ref ((F10 0)), .ref ((A 1)), .ref ((A 3)), .ref ((A 5)), .long hs10])) := hc_X
      have hc_sv : b_tt G B0 τ10 H10 ((A 1)) 1 (.inr (2, [.int sm10, .ref ((if se10 = true then rs10 else G.2.2 0)), .int (nI ((p_sn n)))])) := hc_sv
      have hsa : (se10 = true → b_tt G B0 τ10 H10 rs10 2 (.inl (G.2.1 2, q_refs 10 (fun j => if j < (p_sn n) then some (P010 j) else none)))) := hsa
      have hc_tx : b_tt G B0 τ10 H10 ((A 3)) 3 (.inr (3, [.ref ((A 4)), .int (nI 0), .int ml10, .int (nI tn)])) := hc_tx
      have hc_tb : b_tt G B0 τ10 H10 ((A 4)) 4 (.inl (G.2.1 1, 60, .inl bt10)) := hc_tb
      have hc_tk : b_tt G B0 τ10 H10 ((A 5)) 5 (.inl (G.2.1 0, 8, .inl tk910)) := hc_tk
      have hL : LR G B0 τ10 d010 F10 M10 E10 H10 S Z10 := hL
      have hV : SV G B0 τ10 d010 c010 ((p_sn n)) ids10 P010 H10 ((p_L L S n)) := hV
      have hn8 := hL.2.2.2.1
      have hn6 := hL.2.2.2.2
      have hnb : nb S = nb S := rfl
      have hns : ns S = ns S := rfl
      have hn : (p_sn n) ≤ 6 := hn
      have htn : tn ≤ 60 := htn
      have ht : ∀ j, t j < 128 := ht
      have hse : se10 = true ∨ (p_sn n) = 0 := hse
      have hZ : pZ Z10 S := hZ
      have hW : b_WF S := hW
      have hbt : ∀ j, j < tn → bt10 j = nI (t j) := hbt
      refine lv_aload_n hx hb dX1_set_53 rfl (lv_at hl 0 rfl) ?_
      refine gf_X1_19_0 CX hc_X.at rfl dX1_set_54 ?_
      refine gf_X1_131_1 CX hL.loop.at rfl dX1_set_57 ?_
      refine lv_iload_n hx hb dX1_set_60 rfl (lv_at hl 1 rfl) ?_
      refine b_ild CX hL.sett.at (x := S 0 0 (7 + jx)) (vp_in_nI (by omega) (by omega)) (b_at_nI (f := (fun j => S 0 0 (7 + j))) (n := jx) (by omega) rfl) dX1_set_61 ?_
      refine lv_istore_n (lv' := [(3, .int (S 0 0 (7 + jx))), (0, .ref ((A 0))), (1, .int (nI jx)), (2, .int b)]) hx hb dX1_set_62 rfl hl (Nat.le_of_ble_eq_true rfl) rfl (fun ls hl => ?_)
      refine lv_aload_n hx hb dX1_set_63 rfl (lv_at hl 1 rfl) ?_
      refine gf_X1_19_0 CX hc_X.at rfl dX1_set_64 ?_
      refine gf_X1_131_1 CX hL.loop.at rfl dX1_set_67 ?_
      refine lv_iload_n hx hb dX1_set_70 rfl (lv_at hl 2 rfl) ?_
      refine lv_iload_n hx hb dX1_set_71 rfl (lv_at hl 3 rfl) ?_
      refine b_ist CX hL.sett.at hS hL.sett.B (vp_in_nI (by omega) (by omega)) dX1_set_72 (fun H11 locs hat hu hS => ?_)
      have hc_X := hc_X.up hu hL.sett.tag (by omega)
      have hc_sv := hc_sv.up hu hL.sett.tag (by omega)
      have hsa := fun h9 => (hsa h9).up hu hL.sett.tag (by omega)
      have hc_tx := hc_tx.up hu hL.sett.tag (by omega)
      have hc_tb := hc_tb.up hu hL.sett.tag (by omega)
      have hc_tk := hc_tk.up hu hL.sett.tag (by omega)
      have hV := hV.up hu hL.sett.tag (fun k9 h1 h2 h3 => by omega)
      have hF := hF.up hA hu hL.sett.tag (fun _ => show (1000 * d010 + 5) < 200 ∨ 1000 ≤ (1000 * d010 + 5) by omega)
      rw [nI_cl (by omega)] at hat
      have hL : LR G B0 τ10 d010 F10 M10 E10 H11 ((u3 S 0 0 (7 + jx) b)) Z10 := hL.set5 hat hu
      have hnb : nb ((u3 S 0 0 (7 + jx) b)) = nb S := (nb_u (by omega)).trans hnb
      have hns : ns ((u3 S 0 0 (7 + jx) b)) = ns S := (ns_u (by omega)).trans hns
      refine lv_iload_n hx hb dX1_set_73 rfl (lv_at hl 0 rfl) ?_
      have ho : o_set (S, n, L, tn, t) (nI jx) b = (nI 0, S 0 0 (7 + jx), ((u3 S 0 0 (7 + jx) b), (p_sn n), (p_L L S n), tn, t)) := by
        unfold o_set
        simp only [ejx]
        repeat (first | rw [if_pos (by first | assumption | exact ⟨by assumption, by assumption⟩ | (constructor <;> omega) | omega | exact fun q => absurd q (by assumption) | exact fun q => absurd q.1 (by assumption) | exact fun q => absurd q.2 (by assumption) | exact Int32.not_lt.mpr (by assumption) | exact Int32.not_le.mp (by assumption) | exact fun q => q.2 (by assumption) | exact fun q => absurd q.1 (by omega))] | rw [if_neg (by first | assumption | exact ⟨by assumption, by assumption⟩ | (constructor <;> omega) | omega | exact fun q => absurd q (by assumption) | exact fun q => absurd q.1 (by assumption) | exact fun q => absurd q.2 (by assumption) | exact Int32.not_lt.mpr (by assumption) | exact Int32.not_le.mp (by assumption) | exact fun q => q.2 (by assumption) | exact fun q => absurd q.1 (by omega))])
        first | rfl | (unfold f_ok f_no z_save;  rfl)
      rw [← hQ]
      exact vx_ret (b_iret CX hr hlk hS (Nat.le_of_ble_eq_true rfl) (Nat.le_of_ble_eq_true rfl) dX1_set_74 ((by unfold o_ok1; rw [ho]; exact ⟨rfl, rfl, _, hA, hF, ⟨d010, c010, ids10, P010, F10, M10, E10, Z10, sm10, rs10, se10, ml10, hs10, bt10, tk910, hc_X, hc_sv, hsa, hse, hc_tx, hc_tb, hbt, hc_tk, hL, (pZ.of hZ (fun i j => by simp [u3])), (by have h9 := hW1; rw [ho] at h9; exact h9), hV, hd0, hdc, hn, htn, ht⟩⟩)))
theorem cs_X1_96 {p : Program} {l : Launch} {e : Env} {R : Room} {s : State} {m : MethodId} {args : Array Value} {below : List Frame} {meth : Method} {c : Code} {H : Heap} {locs : List Loc} {cells slots : Nat} {cc : ByteArray} {pc nL a : Nat} {ls : Array Slot} {rest : List Value} {G : b_G} {B0 : Nat} (CX : b_Cx p s m args c cc nL RX1 G B0) (hls : ls.size = nL) {rm : Room} {mc ms : Nat} {As st0 : List Value} {Qc : Array Value → State → Outcome → State → Prop} (hM : Met l yX4_init (ws_ yX4_init cX4_init 3 (Option.none)) rm (b_Pc G B0 H (.ref a :: As)) Qc mc ms (b_A B0)) (hn : As.length = 2) (hS : va_S (b_A B0) s.heap H locs) (hst : st0 = As.reverse ++ .ref a :: rest) (hr : rm.cells = mc ∧ rm.slots = ms ∧ rm.frames + 1 ≤ R.frames ∧ 8 + (3 + 11) + rm.locals ≤ R.locals) (hw : (rest.map fun v => v.category).sum ≤ 8) (hdg : decode cc pc = .ok (.invokespecial 96, 3)) (hf : cells + mc ≤ R.cells ∧ slots + ms ≤ R.slots) : va_Run p l e R s m args below meth c H locs cells slots mc ms (F0 m pc ls st0) rest (Qc (Value.ref a :: As).toArray) (b_A B0) := va_runI CX.fix hM (cwI 2 CX.ts (lw_meth q989) rfl hr.1 hr.2.1 (CX.ts _ q97) (CX.ts _ q1093) (CX.ts _ q988) rfl (by decide +kernel) ⟨hr.2.2.1, hr.2.2.2⟩) ⟨b_blind G B0 H _, b_pre _ CX.K hS⟩ rfl hn hls hst (lv_room hw) hdg hf
set_option maxHeartbeats 2000000 in
set_option maxRecDepth 100000 in
theorem m_X1_addBrand (l : Launch) {G : b_G} {B0 : Nat} {H : Heap} {τ : b_T} {A : Nat → Nat} {S : b_St} {n : Nat} {L : Nat → b_St} {tn : Nat} {t : Nat → Nat} {k : Int32} {b : Int32} (hlt : l.stackTraces = false) (hXR : XR G B0 τ A H (S, n, L, tn, t)) (hW1 : b_WF (o_addBrand (S, n, L, tn, t) k b).2.2.1) (hz0 : ∀ w, 2 ≤ w → w < 10 → S 1 (nb S) w = nI 0) : vx_Met l yX1_addBrand (ws_ yX1_addBrand cX1_addBrand 3 (Option.some Jvm.ClassFile.FieldType.int)) ({ frames := 7, cells := 62, slots := 510, locals := 150 } : Room) (b_Pc G B0 H [.ref ((A 0)), .int k, .int b]) (b_Qi B0 (fun r H1 => o_ok1 G B0 τ A H (o_addBrand (S, n, L, tn, t) k b) r H1)) (b_X B0 (fun E9 q9 H9 => o_px H (S, n, L, tn, t) (o_addBrand (S, n, L, tn, t) k b) cl_B E9 H9)) 62 510 (b_A B0) := by
  refine b_ofX (by decide) (Nat.le_of_ble_eq_true rfl) ?_
  intro p e s m below meth c CX hr hlk htb hS ls hl
  have CX : b_Cx p s m _ c cX1_addBrand 3 RX1 G B0 := CX
  have hx := CX.hx
  have hb := CX.hb
  have hl : lv_has ls 3 [(0, .ref ((A 0))), (1, .int k), (2, .int b)] := hl
  generalize hQ : vx_MQ below (b_Qi B0 (fun r H1 => o_ok1 G B0 τ A H (o_addBrand (S, n, L, tn, t) k b) r H1)) (b_X B0 (fun E9 q9 H9 => o_px H (S, n, L, tn, t) (o_addBrand (S, n, L, tn, t) k b) cl_B E9 H9)) ([.ref ((A 0)), .int k, .int b] : List Value).toArray s 62 510 (b_A B0) = Q
  have hF : b_Fr τ (fun t => t < 200 ∨ 1000 ≤ t) H H := b_Fr.rf
  have hA : b_Ag τ τ H := b_Ag.rf
  have hX : b_Ext H H := b_Ext.rf
  obtain ⟨d0, c0, ids, P0, F, M, E, Z, sm, rs, se, ml, hs, bt, tk9, hc_X, hc_sv, hsa, hse, hc_tx, hc_tb, hbt, hc_tk, hL, hZ, hW, hV, hd0, hdc, hn, htn, ht⟩ := hXR
  have hc_X : b_tt G B0 τ H ((A 0)) 0 (.inr (0, [.ref ((F 0)), .ref ((A 1)), .ref ((A 3)), .ref ((A 5)), .long hs])) := hc_X
  have hc_sv : b_tt G B0 τ H ((A 1)) 1 (.inr (2, [.int sm, .ref ((if se = true then rs else G.2.2 0)), .int (nI n)])) := hc_sv
  have hsa : (se = true → b_tt G B0 τ H rs 2 (.inl (G.2.1 2, q_refs 10 (fun j => if j < n then some (P0 j) else none)))) := hsa
  have hc_tx : b_tt G B0 τ H ((A 3)) 3 (.inr (3, [.ref ((A 4)), .int (nI 0), .int ml, .int (nI tn)])) := hc_tx
  have hc_tb : b_tt G B0 τ H ((A 4)) 4 (.inl (G.2.1 1, 60, .inl bt)) := hc_tb
  have hc_tk : b_tt G B0 τ H ((A 5)) 5 (.inl (G.2.1 0, 8, .inl tk9)) := hc_tk
  have hL : LR G B0 τ d0 F M E H S Z := hL
  have hV : SV G B0 τ d0 c0 n ids P0 H L := hV
  have hn8 := hL.2.2.2.1
  have hn6 := hL.2.2.2.2
  have hnb : nb S = nb S := rfl
  have hns : ns S = ns S := rfl
  have hn : n ≤ 6 := hn
  have htn : tn ≤ 60 := htn
  have ht : ∀ j, t j < 128 := ht
  have hse : se = true ∨ n = 0 := hse
  have hZ : pZ Z S := hZ
  have hW : b_WF S := hW
  have hbt : ∀ j, j < tn → bt j = nI (t j) := hbt
  refine lv_iload_n hx hb dX1_addBrand_0 rfl (lv_at hl 1 rfl) ?_
  refine b_ci0 (cs_X1_80 (rest := []) CX hl.1 (m_X1_isKind l (x := k) ) rfl hS rfl ⟨rfl, rfl, Nat.le_of_ble_eq_true rfl, Nat.le_of_ble_eq_true rfl⟩ (Nat.le_of_ble_eq_true rfl) dX1_addBrand_1 ⟨Nat.le_of_ble_eq_true rfl, Nat.le_of_ble_eq_true rfl⟩) hS (fun locs hS => ?_)
  refine b_ifeq (tgt := 22) CX dX1_addBrand_4 (by decide) (fun c_4 => ?_) (fun c_4 => ?_)
  · refine lv_iconst (v := nI 0) hx hb dX1_addBrand_22 rfl ?_
    refine b_xv0 (cx_X1_84 (rest := []) CX hl.1 (m_X1_need l (x := nI 0) hlt) rfl hS rfl ⟨rfl, rfl, Nat.le_of_ble_eq_true rfl, Nat.le_of_ble_eq_true rfl⟩ (Nat.le_of_ble_eq_true rfl) dX1_addBrand_23 ⟨Nat.le_of_ble_eq_true rfl, Nat.le_of_ble_eq_true rfl⟩) hS (fun E9 q9 Hx2 locs hx9 hS he9 => ?_) (fun hk_23 locs hS => ?_)
    · rw [← hQ]
      have ho : o_addBrand (S, n, L, tn, t) k b = f_no 1 (S, n, L, tn, t) := by
        unfold o_addBrand
        try dsimp only
        repeat (first | rw [if_pos (by first | assumption | exact ⟨by assumption, by assumption⟩ | (constructor <;> omega) | omega | exact fun q => absurd q (by assumption) | exact fun q => absurd q.1 (by assumption) | exact fun q => absurd q.2 (by assumption) | exact Int32.not_lt.mpr (by assumption) | exact Int32.not_le.mp (by assumption) | exact fun q => q.2 (by assumption) | exact fun q => absurd q.1 (by omega))] | rw [if_neg (by first | assumption | exact ⟨by assumption, by assumption⟩ | (constructor <;> omega) | omega | exact fun q => absurd q (by assumption) | exact fun q => absurd q.1 (by assumption) | exact fun q => absurd q.2 (by assumption) | exact Int32.not_lt.mpr (by assumption) | exact Int32.not_le.mp (by assumption) | exact fun q => q.2 (by assumption) | exact fun q => absurd q.1 (by omega))])
      exact b_xout htb hlk he9 hS (Nat.le_of_ble_eq_true rfl) (Nat.le_of_ble_eq_true rfl) ⟨hX.tr hx9.2.2, 1, by omega, by rw [ho]; rfl, by rw [ho]; rfl, hx9.2.1⟩
    exact absurd (by decide) hk_23
  · refine lv_iload_n hx hb dX1_addBrand_7 rfl (lv_at hl 2 rfl) ?_
    refine lv_iconst (v := nI 0) hx hb dX1_addBrand_8 rfl ?_
    refine lv_sipush (v := nI 5000) hx hb dX1_addBrand_9 rfl ?_
    refine b_ci0 (cs_X1_73 (rest := []) CX hl.1 (m_X1_in l (x := b) (lo := nI 0) (hi := nI 5000) ) rfl hS rfl ⟨rfl, rfl, Nat.le_of_ble_eq_true rfl, Nat.le_of_ble_eq_true rfl⟩ (Nat.le_of_ble_eq_true rfl) dX1_addBrand_12 ⟨Nat.le_of_ble_eq_true rfl, Nat.le_of_ble_eq_true rfl⟩) hS (fun locs hS => ?_)
    refine b_ifeq (tgt := 22) CX dX1_addBrand_15 (by decide) (fun c_15 => ?_) (fun c_15 => ?_)
    · refine lv_iconst (v := nI 0) hx hb dX1_addBrand_22 rfl ?_
      refine b_xv0 (cx_X1_84 (rest := []) CX hl.1 (m_X1_need l (x := nI 0) hlt) rfl hS rfl ⟨rfl, rfl, Nat.le_of_ble_eq_true rfl, Nat.le_of_ble_eq_true rfl⟩ (Nat.le_of_ble_eq_true rfl) dX1_addBrand_23 ⟨Nat.le_of_ble_eq_true rfl, Nat.le_of_ble_eq_true rfl⟩) hS (fun E9 q9 Hx4 locs hx9 hS he9 => ?_) (fun hk_23 locs hS => ?_)
      · rw [← hQ]
        have ho : o_addBrand (S, n, L, tn, t) k b = f_no 1 (S, n, L, tn, t) := by
          unfold o_addBrand
          try dsimp only
          repeat (first | rw [if_pos (by first | assumption | exact ⟨by assumption, by assumption⟩ | (constructor <;> omega) | omega | exact fun q => absurd q (by assumption) | exact fun q => absurd q.1 (by assumption) | exact fun q => absurd q.2 (by assumption) | exact Int32.not_lt.mpr (by assumption) | exact Int32.not_le.mp (by assumption) | exact fun q => q.2 (by assumption) | exact fun q => absurd q.1 (by omega))] | rw [if_neg (by first | assumption | exact ⟨by assumption, by assumption⟩ | (constructor <;> omega) | omega | exact fun q => absurd q (by assumption) | exact fun q => absurd q.1 (by assumption) | exact fun q => absurd q.2 (by assumption) | exact Int32.not_lt.mpr (by assumption) | exact Int32.not_le.mp (by assumption) | exact fun q => q.2 (by assumption) | exact fun q => absurd q.1 (by omega))])
        exact b_xout htb hlk he9 hS (Nat.le_of_ble_eq_true rfl) (Nat.le_of_ble_eq_true rfl) ⟨hX.tr hx9.2.2, 1, by omega, by rw [ho]; rfl, by rw [ho]; rfl, hx9.2.1⟩
      exact absurd (by decide) hk_23
    · obtain ⟨jk, hjka, hjkb, rfl⟩ := p_rg (by decide) c_4 (by decide)
      have ejk : ix (nI jk) = jk := ix_n (by omega)
      refine lv_iconst (v := nI 1) hx hb dX1_addBrand_18 rfl ?_
      refine lv_goto (tgt := 23) hx hb dX1_addBrand_19 (by decide) ?_
      refine b_xv0 (cx_X1_84 (rest := []) CX hl.1 (m_X1_need l (x := nI 1) hlt) rfl hS rfl ⟨rfl, rfl, Nat.le_of_ble_eq_true rfl, Nat.le_of_ble_eq_true rfl⟩ (Nat.le_of_ble_eq_true rfl) dX1_addBrand_23 ⟨Nat.le_of_ble_eq_true rfl, Nat.le_of_ble_eq_true rfl⟩) hS (fun E9 q9 Hx5 locs hx9 hS he9 => ?_) (fun hk_23 locs hS => ?_)
      · exact absurd hx9.1 (by decide)
      refine lv_aload_n hx hb dX1_addBrand_26 rfl (lv_at hl 0 rfl) ?_
      refine gf_X1_19_0 CX hc_X.at rfl dX1_addBrand_27 ?_
      refine gf_X1_70_1 CX hL.loop.at rfl dX1_addBrand_30 ?_
      refine b_ci0 (cs_X1_45 (rest := []) CX hl.1 (m_J2_size l (a := (F 1)) (ta := 1000 * d0 + 1) (mc := M 1) (ra := (if E 1 = true then F 2 else G.2.2 0)) (x := S 0 0 0) hL.al1) rfl rfl rfl hL.al1.at hS rfl ⟨rfl, rfl, Nat.le_of_ble_eq_true rfl, Nat.le_of_ble_eq_true rfl⟩ (Nat.le_of_ble_eq_true rfl) dX1_addBrand_33 ⟨Nat.le_of_ble_eq_true rfl, Nat.le_of_ble_eq_true rfl⟩) hS (fun locs hS => ?_)
      refine b_top (x := (S 0 0 0)) (y := nI (nb S)) (hW.nbE) ?_
      refine lv_bipush (v := nI 8) hx hb dX1_addBrand_36 rfl ?_
      refine b_icmp_geN (tgt := 45) CX (by omega) (by omega) dX1_addBrand_38 (by decide) (fun c_38 => ?_) (fun c_38 => ?_)
      · refine lv_iconst (v := nI 0) hx hb dX1_addBrand_45 rfl ?_
        refine b_xv0 (cx_X1_88 (rest := []) CX hl.1 (m_X1_needState l (x := nI 0) hlt) rfl hS rfl ⟨rfl, rfl, Nat.le_of_ble_eq_true rfl, Nat.le_of_ble_eq_true rfl⟩ (Nat.le_of_ble_eq_true rfl) dX1_addBrand_46 ⟨Nat.le_of_ble_eq_true rfl, Nat.le_of_ble_eq_true rfl⟩) hS (fun E9 q9 Hx6 locs hx9 hS he9 => ?_) (fun hk_46 locs hS => ?_)
        · rw [← hQ]
          have ho : o_addBrand (S, n, L, tn, t) (nI jk) b = f_no 2 (S, n, L, tn, t) := by
            unfold o_addBrand
            simp only [ejk]
            repeat (first | rw [if_pos (by first | assumption | exact ⟨by assumption, by assumption⟩ | (constructor <;> omega) | omega | exact fun q => absurd q (by assumption) | exact fun q => absurd q.1 (by assumption) | exact fun q => absurd q.2 (by assumption) | exact Int32.not_lt.mpr (by assumption) | exact Int32.not_le.mp (by assumption) | exact fun q => q.2 (by assumption) | exact fun q => absurd q.1 (by omega))] | rw [if_neg (by first | assumption | exact ⟨by assumption, by assumption⟩ | (constructor <;> omega) | omega | exact fun q => absurd q (by assumption) | exact fun q => absurd q.1 (by assumption) | exact fun q => absurd q.2 (by assumption) | exact Int32.not_lt.mpr (by assumption) | exact Int32.not_le.mp (by assumption) | exact fun q => q.2 (by assumption) | exact fun q => absurd q.1 (by omega))])
          exact b_xout htb hlk he9 hS (Nat.le_of_ble_eq_true rfl) (Nat.le_of_ble_eq_true rfl) ⟨hX.tr hx9.2.2, 2, by omega, by rw [ho]; rfl, by rw [ho]; rfl, hx9.2.1⟩
        exact absurd (by decide) hk_46
      · refine lv_iconst (v := nI 1) hx hb dX1_addBrand_41 rfl ?_
        refine lv_goto (tgt := 46) hx hb dX1_addBrand_42 (by decide) ?_
        refine b_xv0 (cx_X1_88 (rest := []) CX hl.1 (m_X1_needState l (x := nI 1) hlt) rfl hS rfl ⟨rfl, rfl, Nat.le_of_ble_eq_true rfl, Nat.le_of_ble_eq_true rfl⟩ (Nat.le_of_ble_eq_true rfl) dX1_addBrand_46 ⟨Nat.le_of_ble_eq_true rfl, Nat.le_of_ble_eq_true rfl⟩) hS (fun E9 q9 Hx7 locs hx9 hS he9 => ?_) (fun hk_46 locs hS => ?_)
        · exact absurd hx9.1 (by decide)
        have ho : o_addBrand (S, n, L, tn, t) (nI jk) b = f_ok (nI (nb S)) (z_save (S, n, L, tn, t) (s_addB S (nI jk) b)) := by
          unfold o_addBrand
          simp only [ejk]
          repeat (first | rw [if_pos (by first | assumption | exact ⟨by assumption, by assumption⟩ | (constructor <;> omega) | omega | exact fun q => absurd q (by assumption) | exact fun q => absurd q.1 (by assumption) | exact fun q => absurd q.2 (by assumption) | exact Int32.not_lt.mpr (by assumption) | exact Int32.not_le.mp (by assumption) | exact fun q => q.2 (by assumption) | exact fun q => absurd q.1 (by omega))] | rw [if_neg (by first | assumption | exact ⟨by assumption, by assumption⟩ | (constructor <;> omega) | omega | exact fun q => absurd q (by assumption) | exact fun q => absurd q.1 (by assumption) | exact fun q => absurd q.2 (by assumption) | exact Int32.not_lt.mpr (by assumption) | exact Int32.not_le.mp (by assumption) | exact fun q => q.2 (by assumption) | exact fun q => absurd q.1 (by omega))])
        have hWn : b_WF (s_addB S (nI jk) b) := by have h9 := hW1; rw [ho] at h9; exact h9
        refine lv_aload_n hx hb dX1_addBrand_49 rfl (lv_at hl 0 rfl) ?_
        have hXR : XR G B0 τ A H (S, n, L, tn, t) := ⟨d0, c0, ids, P0, F, M, E, Z, sm, rs, se, ml, hs, bt, tk9, hc_X, hc_sv, hsa, hse, hc_tx, hc_tb, hbt, hc_tk, hL, hZ, hW, hV, hd0, hdc, hn, htn, ht⟩
        refine b_cv (cs_X1_91 (rest := []) CX hl.1 (m_X1_save l  hXR) rfl rfl rfl hc_X.at hS rfl ⟨rfl, rfl, Nat.le_of_ble_eq_true rfl, Nat.le_of_ble_eq_true rfl⟩ (Nat.le_of_ble_eq_true rfl) dX1_addBrand_50 ⟨Nat.le_of_ble_eq_true rfl, Nat.le_of_ble_eq_true rfl⟩) hS (fun H8 locs hp hS => ?_)
        obtain ⟨τ8, hA9, hF9, hXR⟩ := hp
        have hF0 := hF.tr hA hF9 (fun q9 hq9 x9 => by have x8 : τ q9 = 1 ∨ τ q9 = 2 ∨ 1000 ≤ τ q9 := x9; show τ q9 < 200 ∨ 1000 ≤ τ q9; omega)
        have hA := hA.tr hA9 hF.1
        have hF := hF0
        have hXR : XR G B0 τ8 A H8 (S, (p_sn n), (p_L L S n), tn, t) := hXR
        obtain ⟨d08, c08, ids8, P08, F8, M8, E8, Z8, sm8, rs8, se8, ml8, hs8, bt8, tk98, hc_X, hc_sv, hsa, hse, hc_tx, hc_tb, hbt, hc_tk, hL, hZ, hW, hV, hd0, hdc, hn, htn, ht⟩ := hXR
        have hc_X : b_tt G B0 τ8 H8 ((A 0)) 0 (.inr (0, [.ref ((F8 0)), .ref ((A 1)), .ref ((A 3)), .ref ((A 5)), .long hs8])) := hc_X
        have hc_sv : b_tt G B0 τ8 H8 ((A 1)) 1 (.inr (2, [.int sm8, .ref ((if se8 = true then rs8 else G.2.2 0)), .int (nI ((p_sn n)))])) := hc_sv
        have hsa : (se8 = true → b_tt G B0 τ8 H8 rs8 2 (.inl (G.2.1 2, q_refs 10 (fun j => if j < (p_sn n) then some (P08 j) else none)))) := hsa
        have hc_tx : b_tt G B0 τ8 H8 ((A 3)) 3 (.inr (3, [.ref ((A 4)), .int (nI 0), .int ml8, .int (nI tn)])) := hc_tx
        have hc_tb : b_tt G B0 τ8 H8 ((A 4)) 4 (.inl (G.2.1 1, 60, .inl bt8)) := hc_tb
        have hc_tk : b_tt G B0 τ8 H8 ((A 5)) 5 (.inl (G.2.1 0, 8, .inl tk98)) := hc_tk
        have hL : LR G B0 τ8 d08 F8 M8 E8 H8 S Z8 := hL
        have hV : SV G B0 τ8 d08 c08 ((p_sn n)) ids8 P08 H8 ((p_L L S n)) := hV
        have hn8 := hL.2.2.2.1
        have hn6 := hL.2.2.2.2
        have hnb : nb S = nb S := rfl
        have hns : ns S = ns S := rfl
        have hn : (p_sn n) ≤ 6 := hn
        have htn : tn ≤ 60 := htn
        have ht : ∀ j, t j < 128 := ht
        have hse : se8 = true ∨ (p_sn n) = 0 := hse
        have hZ : pZ Z8 S := hZ
        have hW : b_WF S := hW
        have hbt : ∀ j, j < tn → bt8 j = nI (t j) := hbt
        refine lv_aload_n hx hb dX1_addBrand_53 rfl (lv_at hl 0 rfl) ?_
        refine gf_X1_19_0 CX hc_X.at rfl dX1_addBrand_54 ?_
        refine gf_X1_70_1 CX hL.loop.at rfl dX1_addBrand_57 ?_
        refine b_new CX in_X4 tyX4 tyX4_ok (ci := 4) rfl q807 q986 q97 (fs := [.int (nI 0), .int (nI 0), .int (nI 0), .int (nI 0), .int (nI 0), .int (nI 0), .int (nI 0), .int (nI 0), .int (nI 0), .int (nI 0)]) (nofn_X4) hS (Nat.le_of_ble_eq_true rfl) (Nat.le_of_ble_eq_true rfl) dX1_addBrand_60 (fun q9 H9 hq hB hat hsz hE hS => ?_)
        have hc_X := hc_X.new (tb := (1000 * d08 + (20 + nb S))) hE hq
        have hc_sv := hc_sv.new (tb := (1000 * d08 + (20 + nb S))) hE hq
        have hsa := fun h9 => (hsa h9).new (tb := (1000 * d08 + (20 + nb S))) hE hq
        have hc_tx := hc_tx.new (tb := (1000 * d08 + (20 + nb S))) hE hq
        have hc_tb := hc_tb.new (tb := (1000 * d08 + (20 + nb S))) hE hq
        have hc_tk := hc_tk.new (tb := (1000 * d08 + (20 + nb S))) hE hq
        have hL := hL.new (tb := (1000 * d08 + (20 + nb S))) hE hq
        have hV := hV.new (tb := (1000 * d08 + (20 + nb S))) hE hq
        have fr_br : H.size ≤ q9 := by rw [hq]; exact hF.1
        have hA := hA.tr (b_Ag.new (t := (1000 * d08 + (20 + nb S))) hq) hF.1
        have hF := hF.ext hE
        have hc_br : b_tt G B0 ((upT τ8 q9 ((1000 * d08 + (20 + nb S))))) H9 q9 ((1000 * d08 + (20 + nb S))) (.inr (4, [.int (nI 0), .int (nI 0), .int (nI 0), .int (nI 0), .int (nI 0), .int (nI 0), .int (nI 0), .int (nI 0), .int (nI 0), .int (nI 0)])) := b_tt.mk hat hB
        refine lv_dup hx hb dX1_addBrand_63 rfl ?_
        refine lv_iload_n hx hb dX1_addBrand_64 rfl (lv_at hl 1 rfl) ?_
        refine lv_iload_n hx hb dX1_addBrand_65 rfl (lv_at hl 2 rfl) ?_
        refine b_cv (cs_X1_96 (rest := [.ref q9, .ref ((F8 1))]) CX hl.1 (m_X4_init l (a := q9) (ta := (1000 * d08 + (20 + nb S))) (k := nI jk) (x := b) hc_br) rfl hS rfl ⟨rfl, rfl, Nat.le_of_ble_eq_true rfl, Nat.le_of_ble_eq_true rfl⟩ (Nat.le_of_ble_eq_true rfl) dX1_addBrand_66 ⟨Nat.le_of_ble_eq_true rfl, Nat.le_of_ble_eq_true rfl⟩) hS (fun H10 locs hp hS => ?_)
        obtain ⟨hF9, hx0⟩ := hp
        have hc_X := hc_X.fr hF9 (show ¬ (0 = ((1000 * d08 + (20 + nb S)))) by omega)
        have hc_sv := hc_sv.fr hF9 (show ¬ (1 = ((1000 * d08 + (20 + nb S)))) by omega)
        have hsa := fun h9 => (hsa h9).fr hF9 (show ¬ (2 = ((1000 * d08 + (20 + nb S)))) by omega)
        have hc_tx := hc_tx.fr hF9 (show ¬ (3 = ((1000 * d08 + (20 + nb S)))) by omega)
        have hc_tb := hc_tb.fr hF9 (show ¬ (4 = ((1000 * d08 + (20 + nb S)))) by omega)
        have hc_tk := hc_tk.fr hF9 (show ¬ (5 = ((1000 * d08 + (20 + nb S)))) by omega)
        have hL := hL.fru hF9 (fun i9 hi9 => by unfold l_use at hi9; show ¬ ((1000 * d08 + i9) = ((1000 * d08 + (20 + nb S)))); omega)
        have hV := hV.fr hF9 (fun k9 h1 h2 h3 i9 hi9 => show ¬ ((1000 * k9 + i9) = ((1000 * d08 + (20 + nb S)))) by omega)
        have hz9 := hF.1
        have hF0 := hF.tr hA hF9 (fun q9 hq9 x9 => by have x8 : τ q9 = ((1000 * d08 + (20 + nb S))) := x9; show τ q9 < 200 ∨ 1000 ≤ τ q9; omega)
        have hF := hF0
        have hc_br : b_tt G B0 ((upT τ8 q9 ((1000 * d08 + (20 + nb S))))) H10 q9 ((1000 * d08 + (20 + nb S))) (.inr (4, [.int ((nI jk)), .int b, .int (nI 0), .int (nI 0), .int (nI 0), .int (nI 0), .int (nI 0), .int (nI 0), .int (nI 0), .int (nI 0)])) := hx0
        rcases hE1 : E8 1 with _ | _
        · have hnn : S 0 0 0 = nI (nb S) := hW.nbE
          have he1 := hL.ale1 hE1 hnn
          have hc_al := he1.1
          have he0 := he1.2
          have ho9 : ∀ j, l_use (nb S) (ns S) E8 j → ¬ j = 1 → ¬ j = 2 → b_tt G B0 ((upT τ8 q9 ((1000 * d08 + (20 + nb S))))) H10 (F8 j) (1000 * d08 + j) (l_cnt G F8 S Z8 M8 E8 j) := fun j h1 h2 h3 => hL.1 j h1
          refine b_ci (cs_X1_57 (rest := []) CX hl.1 (m_J2_add_s l (a := (F8 1)) (ta := 1000 * d08 + 1) (mc := M8 1) (v := q9) (tv := (1000 * d08 + (20 + nb S))) (ci := 4) (fs := [.int ((nI jk)), .int b, .int (nI 0), .int (nI 0), .int (nI 0), .int (nI 0), .int (nI 0), .int (nI 0), .int (nI 0), .int (nI 0)]) (tr := (1000 * d08 + 2)) hc_al hc_br ⟨_, rfl, q2237⟩ (by omega) (by omega) (by omega)) rfl rfl rfl hc_al.at hS rfl ⟨rfl, rfl, Nat.le_of_ble_eq_true rfl, Nat.le_of_ble_eq_true rfl⟩ (Nat.le_of_ble_eq_true rfl) dX1_addBrand_69 ⟨Nat.le_of_ble_eq_true rfl, Nat.le_of_ble_eq_true rfl⟩) hS (fun r H11 locs hp hS => ?_)
          obtain ⟨τ11, q11, rfl, hA9, hF9, hr0, hx0, hx1⟩ := hp
          have hc_X := hc_X.ca hF9 hA9 (show ¬ (0 = (1000 * d08 + 1) ∨ 0 = ((1000 * d08 + 2))) by omega)
          have hc_sv := hc_sv.ca hF9 hA9 (show ¬ (1 = (1000 * d08 + 1) ∨ 1 = ((1000 * d08 + 2))) by omega)
          have hsa := fun h9 => (hsa h9).ca hF9 hA9 (show ¬ (2 = (1000 * d08 + 1) ∨ 2 = ((1000 * d08 + 2))) by omega)
          have hc_tx := hc_tx.ca hF9 hA9 (show ¬ (3 = (1000 * d08 + 1) ∨ 3 = ((1000 * d08 + 2))) by omega)
          have hc_tb := hc_tb.ca hF9 hA9 (show ¬ (4 = (1000 * d08 + 1) ∨ 4 = ((1000 * d08 + 2))) by omega)
          have hc_tk := hc_tk.ca hF9 hA9 (show ¬ (5 = (1000 * d08 + 1) ∨ 5 = ((1000 * d08 + 2))) by omega)
          have hV := hV.ca hF9 hA9 (fun k9 h1 h2 h3 i9 hi9 => show ¬ ((1000 * k9 + i9) = (1000 * d08 + 1) ∨ (1000 * k9 + i9) = ((1000 * d08 + 2))) by omega)
          have hc_br := hc_br.ca hF9 hA9 (show ¬ (((1000 * d08 + (20 + nb S))) = (1000 * d08 + 1) ∨ ((1000 * d08 + (20 + nb S))) = ((1000 * d08 + 2))) by omega)
          have ho9 := fun j h1 h2 h3 => (ho9 j h1 h2 h3).ca hF9 hA9 (show ¬ ((1000 * d08 + j) = (1000 * d08 + 1) ∨ (1000 * d08 + j) = ((1000 * d08 + 2))) by omega)
          have hz9 := hF.1
          have hF0 := hF.tr hA hF9 (fun q9 hq9 x9 => by have x8 : τ q9 = (1000 * d08 + 1) ∨ τ q9 = ((1000 * d08 + 2)) := x9; show τ q9 < 200 ∨ 1000 ≤ τ q9; omega)
          have hA := hA.tr hA9 hF.1
          have hF := hF0
          have hc_al : b_tt G B0 τ11 H11 ((F8 1)) (1000 * d08 + 1) (.inr (2, [.int ((M8 1) + 1), .ref q11, .int (nI 1)])) := hx0
          have hc_arr11 : b_tt G B0 τ11 H11 q11 (((1000 * d08 + 2))) (.inl (G.2.1 2, q_refs 10 ((fun j => if j < 1 then some q9 else none)))) := hx1
          have fr_arr11 : H.size ≤ q11 := Nat.le_trans hz9 hr0
          have hc_arr11 : b_tt G B0 τ11 H11 q11 (((1000 * d08 + 2))) (.inl (G.2.1 2, q_refs 10 ((fun j => if j < nb S + 1 then some (if j = nb S then q9 else F8 (20 + j)) else none)))) := b_tt.cgr hc_arr11 (fun j hj => by have h0 : nb S = 0 := (by omega); show (if j < 1 then _ else _) = _; by_cases c9 : j < 1 <;> first | rw [if_pos c9, if_pos (by omega), if_pos (by omega)] | rw [if_neg c9, if_neg (by omega)])
          have hc_al : b_tt G B0 τ11 H11 ((F8 1)) (1000 * d08 + 1) (.inr (2, [.int ((M8 1) + 1), .ref q11, .int (nI ((nb S) + 1))])) := hc_al.cg (by rw [show (nb S : Nat) = 0 by omega])
          have hL : LR G B0 τ11 d08 ((upF F8 (20 + nb S) q9 2 q11)) ((upd M8 1 ((M8 1) + 1))) ((upB E8 1)) H11 ((s_addB S (nI jk) b)) Z8 := hL.pushB (S1 := (s_addB S (nI jk) b)) (by omega) ho9 hc_al hc_arr11 hc_br (by simp [s_addB, u3, hz0 2 (by decide) (by decide), hz0 3 (by decide) (by decide), hz0 4 (by decide) (by decide), hz0 5 (by decide) (by decide), hz0 6 (by decide) (by decide), hz0 7 (by decide) (by decide), hz0 8 (by decide) (by decide), hz0 9 (by decide) (by decide)]) (by simp [s_addB, u3]) (s_addB_o S (nI jk) b)
          have hX0 : b_tt G B0 τ11 H11 (A 0) 0 (.inr (0, [.ref ((upF F8 (20 + nb S) q9 2 q11) 0), .ref (A 1), .ref (A 3), .ref (A 5), .long hs8])) := hc_X.cg (by rw [show (upF F8 (20 + nb S) q9 2 q11) 0 = F8 0 from (by unfold upF; rw [if_neg (by omega), if_neg (by omega)])])
          have hc_X := hX0
          have hW := hWn
          refine lv_pop hx hb dX1_addBrand_72 rfl ?_
          refine lv_aload_n hx hb dX1_addBrand_73 rfl (lv_at hl 0 rfl) ?_
          refine gf_X1_19_0 CX hc_X.at rfl dX1_addBrand_74 ?_
          refine gf_X1_70_1 CX hL.loop.at rfl dX1_addBrand_77 ?_
          refine b_ci0 (cs_X1_45 (rest := []) CX hl.1 (m_J2_size l (a := ((upF F8 (20 + nb S) q9 2 q11) 1)) (ta := 1000 * d08 + 1) (mc := (upd M8 1 ((M8 1) + 1)) 1) (ra := (if (upB E8 1) 1 = true then (upF F8 (20 + nb S) q9 2 q11) 2 else G.2.2 0)) (x := ((s_addB S (nI jk) b)) 0 0 0) hL.al1) rfl rfl rfl hL.al1.at hS rfl ⟨rfl, rfl, Nat.le_of_ble_eq_true rfl, Nat.le_of_ble_eq_true rfl⟩ (Nat.le_of_ble_eq_true rfl) dX1_addBrand_80 ⟨Nat.le_of_ble_eq_true rfl, Nat.le_of_ble_eq_true rfl⟩) hS (fun locs hS => ?_)
          refine b_top (x := (((s_addB S (nI jk) b)) 0 0 0)) (y := nI (nb ((s_addB S (nI jk) b)))) (hW.nbE) ?_
          refine b_top (x := nI (nb ((s_addB S (nI jk) b)))) (y := nI ((nb S) + 1)) (by rw [s_addB_n S (nI jk) b (by omega)]) ?_
          refine lv_iconst (v := nI 1) hx hb dX1_addBrand_83 rfl ?_
          refine b_isubN CX (by omega) dX1_addBrand_84 ?_
          have ho : o_addBrand (S, n, L, tn, t) (nI jk) b = (nI 0, nI ((nb S) + 1 - 1), ((s_addB S (nI jk) b), (p_sn n), (p_L L S n), tn, t)) := by
            unfold o_addBrand
            simp only [ejk]
            repeat (first | rw [if_pos (by first | assumption | exact ⟨by assumption, by assumption⟩ | (constructor <;> omega) | omega | exact fun q => absurd q (by assumption) | exact fun q => absurd q.1 (by assumption) | exact fun q => absurd q.2 (by assumption) | exact Int32.not_lt.mpr (by assumption) | exact Int32.not_le.mp (by assumption) | exact fun q => q.2 (by assumption) | exact fun q => absurd q.1 (by omega))] | rw [if_neg (by first | assumption | exact ⟨by assumption, by assumption⟩ | (constructor <;> omega) | omega | exact fun q => absurd q (by assumption) | exact fun q => absurd q.1 (by assumption) | exact fun q => absurd q.2 (by assumption) | exact Int32.not_lt.mpr (by assumption) | exact Int32.not_le.mp (by assumption) | exact fun q => q.2 (by assumption) | exact fun q => absurd q.1 (by omega))])
            first | rfl | (unfold f_ok f_no z_save;  rfl)
          rw [← hQ]
          exact vx_ret (b_iret CX hr hlk hS (Nat.le_of_ble_eq_true rfl) (Nat.le_of_ble_eq_true rfl) dX1_addBrand_85 ((by unfold o_ok1; rw [ho]; exact ⟨rfl, rfl, _, hA, hF, ⟨d08, c08, ids8, P08, (upF F8 (20 + nb S) q9 2 q11), (upd M8 1 ((M8 1) + 1)), (upB E8 1), Z8, sm8, rs8, se8, ml8, hs8, bt8, tk98, hc_X, hc_sv, hsa, hse, hc_tx, hc_tb, hbt, hc_tk, hL, (pZ.of hZ (fun i j => by simp [s_addB, u3])), (by have h9 := hW1; rw [ho] at h9; exact h9), hV, hd0, hdc, hn, htn, ht⟩⟩)))
        · have hnn : S 0 0 0 = nI (nb S) := hW.nbE
          have hc_al := hL.alf1 hE1 hnn
          have hc_ar := hL.ar2 hE1
          have ho9 : ∀ j, l_use (nb S) (ns S) E8 j → ¬ j = 1 → ¬ j = 2 → b_tt G B0 ((upT τ8 q9 ((1000 * d08 + (20 + nb S))))) H10 (F8 j) (1000 * d08 + j) (l_cnt G F8 S Z8 M8 E8 j) := fun j h1 h2 h3 => hL.1 j h1
          refine b_ci (cs_X1_57 (rest := []) CX hl.1 (m_J2_add_d l (a := (F8 1)) (ta := 1000 * d08 + 1) (mc := M8 1) (ra := (F8 2)) (tr := (1000 * d08 + 2)) (f := (fun j => F8 (20 + j))) (n := nb S) (v := q9) (tv := (1000 * d08 + (20 + nb S))) (ci := 4) (fs := [.int ((nI jk)), .int b, .int (nI 0), .int (nI 0), .int (nI 0), .int (nI 0), .int (nI 0), .int (nI 0), .int (nI 0), .int (nI 0)]) hc_al hc_ar hc_br ⟨_, rfl, q2237⟩ (by omega) (by omega) (by omega) (by omega)) rfl rfl rfl hc_al.at hS rfl ⟨rfl, rfl, Nat.le_of_ble_eq_true rfl, Nat.le_of_ble_eq_true rfl⟩ (Nat.le_of_ble_eq_true rfl) dX1_addBrand_69 ⟨Nat.le_of_ble_eq_true rfl, Nat.le_of_ble_eq_true rfl⟩) hS (fun r H12 locs hp hS => ?_)
          obtain ⟨rfl, hF9, hx0, hx1⟩ := hp
          have hc_X := hc_X.fr hF9 (show ¬ (0 = (1000 * d08 + 1) ∨ 0 = ((1000 * d08 + 2))) by omega)
          have hc_sv := hc_sv.fr hF9 (show ¬ (1 = (1000 * d08 + 1) ∨ 1 = ((1000 * d08 + 2))) by omega)
          have hsa := fun h9 => (hsa h9).fr hF9 (show ¬ (2 = (1000 * d08 + 1) ∨ 2 = ((1000 * d08 + 2))) by omega)
          have hc_tx := hc_tx.fr hF9 (show ¬ (3 = (1000 * d08 + 1) ∨ 3 = ((1000 * d08 + 2))) by omega)
          have hc_tb := hc_tb.fr hF9 (show ¬ (4 = (1000 * d08 + 1) ∨ 4 = ((1000 * d08 + 2))) by omega)
          have hc_tk := hc_tk.fr hF9 (show ¬ (5 = (1000 * d08 + 1) ∨ 5 = ((1000 * d08 + 2))) by omega)
          have hV := hV.fr hF9 (fun k9 h1 h2 h3 i9 hi9 => show ¬ ((1000 * k9 + i9) = (1000 * d08 + 1) ∨ (1000 * k9 + i9) = ((1000 * d08 + 2))) by omega)
          have hc_br := hc_br.fr hF9 (show ¬ (((1000 * d08 + (20 + nb S))) = (1000 * d08 + 1) ∨ ((1000 * d08 + (20 + nb S))) = ((1000 * d08 + 2))) by omega)
          have ho9 := fun j h1 h2 h3 => (ho9 j h1 h2 h3).fr hF9 (show ¬ ((1000 * d08 + j) = (1000 * d08 + 1) ∨ (1000 * d08 + j) = ((1000 * d08 + 2))) by omega)
          have hz9 := hF.1
          have hF0 := hF.tr hA hF9 (fun q9 hq9 x9 => by have x8 : τ q9 = (1000 * d08 + 1) ∨ τ q9 = ((1000 * d08 + 2)) := x9; show τ q9 < 200 ∨ 1000 ≤ τ q9; omega)
          have hF := hF0
          have hc_al : b_tt G B0 ((upT τ8 q9 ((1000 * d08 + (20 + nb S))))) H12 ((F8 1)) (1000 * d08 + 1) (.inr (2, [.int ((M8 1) + 1), .ref (((F8 2))), .int (nI ((nb S) + 1))])) := hx0
          have hc_ar : b_tt G B0 ((upT τ8 q9 ((1000 * d08 + (20 + nb S))))) H12 ((F8 2)) (1000 * d08 + 2) (.inl (G.2.1 2, q_refs 10 ((fun j => if j < (nb S) + 1 then some (if j = (nb S) then q9 else ((fun j => F8 (20 + j))) j) else none)))) := hx1
          have hL : LR G B0 ((upT τ8 q9 ((1000 * d08 + (20 + nb S))))) d08 ((upF F8 (20 + nb S) q9 2 (F8 2))) ((upd M8 1 ((M8 1) + 1))) ((upB E8 1)) H12 ((s_addB S (nI jk) b)) Z8 := hL.pushB (S1 := (s_addB S (nI jk) b)) (by omega) ho9 hc_al hc_ar hc_br (by simp [s_addB, u3, hz0 2 (by decide) (by decide), hz0 3 (by decide) (by decide), hz0 4 (by decide) (by decide), hz0 5 (by decide) (by decide), hz0 6 (by decide) (by decide), hz0 7 (by decide) (by decide), hz0 8 (by decide) (by decide), hz0 9 (by decide) (by decide)]) (by simp [s_addB, u3]) (s_addB_o S (nI jk) b)
          have hX0 : b_tt G B0 (upT τ8 q9 ((1000 * d08 + (20 + nb S)))) H12 (A 0) 0 (.inr (0, [.ref ((upF F8 (20 + nb S) q9 2 (F8 2)) 0), .ref (A 1), .ref (A 3), .ref (A 5), .long hs8])) := hc_X.cg (by rw [show (upF F8 (20 + nb S) q9 2 (F8 2)) 0 = F8 0 from (by unfold upF; rw [if_neg (by omega), if_neg (by omega)])])
          have hc_X := hX0
          have hW := hWn
          refine lv_pop hx hb dX1_addBrand_72 rfl ?_
          refine lv_aload_n hx hb dX1_addBrand_73 rfl (lv_at hl 0 rfl) ?_
          refine gf_X1_19_0 CX hc_X.at rfl dX1_addBrand_74 ?_
          refine gf_X1_70_1 CX hL.loop.at rfl dX1_addBrand_77 ?_
          refine b_ci0 (cs_X1_45 (rest := []) CX hl.1 (m_J2_size l (a := ((upF F8 (20 + nb S) q9 2 (F8 2)) 1)) (ta := 1000 * d08 + 1) (mc := (upd M8 1 ((M8 1) + 1)) 1) (ra := (if (upB E8 1) 1 = true then (upF F8 (20 + nb S) q9 2 (F8 2)) 2 else G.2.2 0)) (x := ((s_addB S (nI jk) b)) 0 0 0) hL.al1) rfl rfl rfl hL.al1.at hS rfl ⟨rfl, rfl, Nat.le_of_ble_eq_true rfl, Nat.le_of_ble_eq_true rfl⟩ (Nat.le_of_ble_eq_true rfl) dX1_addBrand_80 ⟨Nat.le_of_ble_eq_true rfl, Nat.le_of_ble_eq_true rfl⟩) hS (fun locs hS => ?_)
          refine b_top (x := (((s_addB S (nI jk) b)) 0 0 0)) (y := nI (nb ((s_addB S (nI jk) b)))) (hW.nbE) ?_
          refine b_top (x := nI (nb ((s_addB S (nI jk) b)))) (y := nI ((nb S) + 1)) (by rw [s_addB_n S (nI jk) b (by omega)]) ?_
          refine lv_iconst (v := nI 1) hx hb dX1_addBrand_83 rfl ?_
          refine b_isubN CX (by omega) dX1_addBrand_84 ?_
          have ho : o_addBrand (S, n, L, tn, t) (nI jk) b = (nI 0, nI ((nb S) + 1 - 1), ((s_addB S (nI jk) b), (p_sn n), (p_L L S n), tn, t)) := by
            unfold o_addBrand
            simp only [ejk]
            repeat (first | rw [if_pos (by first | assumption | exact ⟨by assumption, by assumption⟩ | (constructor <;> omega) | omega | exact fun q => absurd q (by assumption) | exact fun q => absurd q.1 (by assumption) | exact fun q => absurd q.2 (by assumption) | exact Int32.not_lt.mpr (by assumption) | exact Int32.not_le.mp (by assumption) | exact fun q => q.2 (by assumption) | exact fun q => absurd q.1 (by omega))] | rw [if_neg (by first | assumption | exact ⟨by assumption, by assumption⟩ | (constructor <;> omega) | omega | exact fun q => absurd q (by assumption) | exact fun q => absurd q.1 (by assumption) | exact fun q => absurd q.2 (by assumption) | exact Int32.not_lt.mpr (by assumption) | exact Int32.not_le.mp (by assumption) | exact fun q => q.2 (by assumption) | exact fun q => absurd q.1 (by omega))])
            first | rfl | (unfold f_ok f_no z_save;  rfl)
          rw [← hQ]
          exact vx_ret (b_iret CX hr hlk hS (Nat.le_of_ble_eq_true rfl) (Nat.le_of_ble_eq_true rfl) dX1_addBrand_85 ((by unfold o_ok1; rw [ho]; exact ⟨rfl, rfl, _, hA, hF, ⟨d08, c08, ids8, P08, (upF F8 (20 + nb S) q9 2 (F8 2)), (upd M8 1 ((M8 1) + 1)), (upB E8 1), Z8, sm8, rs8, se8, ml8, hs8, bt8, tk98, hc_X, hc_sv, hsa, hse, hc_tx, hc_tb, hbt, hc_tk, hL, (pZ.of hZ (fun i j => by simp [s_addB, u3])), (by have h9 := hW1; rw [ho] at h9; exact h9), hV, hd0, hdc, hn, htn, ht⟩⟩)))
theorem cs_X1_102 {p : Program} {l : Launch} {e : Env} {R : Room} {s : State} {m : MethodId} {args : Array Value} {below : List Frame} {meth : Method} {c : Code} {H : Heap} {locs : List Loc} {cells slots : Nat} {cc : ByteArray} {pc nL a : Nat} {ls : Array Slot} {rest : List Value} {G : b_G} {B0 : Nat} (CX : b_Cx p s m args c cc nL RX1 G B0) (hls : ls.size = nL) {rm : Room} {mc ms : Nat} {As st0 : List Value} {Qc : Array Value → State → Outcome → State → Prop} (hM : Met l yX5_init (ws_ yX5_init cX5_init 1 (Option.none)) rm (b_Pc G B0 H (.ref a :: As)) Qc mc ms (b_A B0)) (hn : As.length = 0) (hS : va_S (b_A B0) s.heap H locs) (hst : st0 = As.reverse ++ .ref a :: rest) (hr : rm.cells = mc ∧ rm.slots = ms ∧ rm.frames + 1 ≤ R.frames ∧ 8 + (1 + 11) + rm.locals ≤ R.locals) (hw : (rest.map fun v => v.category).sum ≤ 8) (hdg : decode cc pc = .ok (.invokespecial 102, 3)) (hf : cells + mc ≤ R.cells ∧ slots + ms ≤ R.slots) : va_Run p l e R s m args below meth c H locs cells slots mc ms (F0 m pc ls st0) rest (Qc (Value.ref a :: As).toArray) (b_A B0) := va_runIN CX.fix hM (⟨va_cnB 0 CX.ts (lw_meth q1052) rfl hr.1 hr.2.1 (CX.K.2.1 _ q1102 rfl) (CX.ts _ q101) (by decide +kernel) ⟨hr.2.2.1, hr.2.2.2⟩, rfl, CX.ts _ q1051⟩) ⟨b_blind G B0 H _, b_pre _ CX.K hS⟩ rfl hn hls hst (lv_room hw) hdg hf
theorem pf_X1_106_5 {p : Program} {l : Launch} {e : Env} {R : Room} {s : State} {m : MethodId} {args : Array Value} {below : List Frame} {meth : Method} {c : Code} {H : Heap} {locs : List Loc} {cells slots : Nat} {Q : State → Prop} {cc : ByteArray} {pc nL a : Nat} {ls : Array Slot} {rest : List Value} {G : b_G} {B0 : Nat} (CX : b_Cx p s m args c cc nL RX1 G B0) {fs : List Value} (hP : b_at G a (.inr (5, fs)) H) (hS : va_S (b_A B0) s.heap H locs) (ha : B0 ≤ a) {v : Value} (hn : narrow (tyX5 2) v = v) (hfit : fits (tyX5 2) v = true) (hl : 2 < fs.length) (hdg : decode cc pc = .ok (.putfield 106, 3)) (kk : ∀ (H1 : Heap) (locs1 : List Loc), b_at G a (.inr (5, fs.set 2 v)) H1 → b_Up a H H1 → va_S (b_A B0) s.heap H1 locs1 → W p l e R s m args below meth c H1 locs1 cells slots Q (F0 m (pc + 3) ls rest)) : W p l e R s m args below meth c H locs cells slots Q (F0 m pc ls (v :: .ref a :: rest)) := b_putN CX in_X5 tyX5 tyX5_ok rfl 2 (by decide) (by decide +kernel) q1062 (Or.inl rfl) rfl hP hS ha hn hfit hl hdg kk
set_option maxHeartbeats 2000000 in
set_option maxRecDepth 100000 in
theorem m_X1_addShop (l : Launch) {G : b_G} {B0 : Nat} {H : Heap} {τ : b_T} {A : Nat → Nat} {S : b_St} {n : Nat} {L : Nat → b_St} {tn : Nat} {t : Nat → Nat} {b : Int32} (hlt : l.stackTraces = false) (hXR : XR G B0 τ A H (S, n, L, tn, t)) (hW1 : b_WF (o_addShop (S, n, L, tn, t) b).2.2.1) (hz2 : ∀ w, w < 5 → S 2 (ns S) w = nI 0) (hz4 : ∀ j, j < 8 → S 4 (ns S) j = nI 0) (hz5 : ∀ j, j < 8 → S 5 (ns S) j = nI 0) (hW0 : b_WF (s_addS0 S)) : vx_Met l yX1_addShop (ws_ yX1_addShop cX1_addShop 2 (Option.some Jvm.ClassFile.FieldType.int)) ({ frames := 7, cells := 62, slots := 510, locals := 150 } : Room) (b_Pc G B0 H [.ref ((A 0)), .int b]) (b_Qi B0 (fun r H1 => o_ok1 G B0 τ A H (o_addShop (S, n, L, tn, t) b) r H1)) (b_X B0 (fun E9 q9 H9 => o_px H (S, n, L, tn, t) (o_addShop (S, n, L, tn, t) b) cl_B E9 H9)) 62 510 (b_A B0) := by
  refine b_ofX (by decide) (Nat.le_of_ble_eq_true rfl) ?_
  intro p e s m below meth c CX hr hlk htb hS ls hl
  have CX : b_Cx p s m _ c cX1_addShop 2 RX1 G B0 := CX
  have hx := CX.hx
  have hb := CX.hb
  have hl : lv_has ls 2 [(0, .ref ((A 0))), (1, .int b)] := hl
  generalize hQ : vx_MQ below (b_Qi B0 (fun r H1 => o_ok1 G B0 τ A H (o_addShop (S, n, L, tn, t) b) r H1)) (b_X B0 (fun E9 q9 H9 => o_px H (S, n, L, tn, t) (o_addShop (S, n, L, tn, t) b) cl_B E9 H9)) ([.ref ((A 0)), .int b] : List Value).toArray s 62 510 (b_A B0) = Q
  have hF : b_Fr τ (fun t => t < 200 ∨ 1000 ≤ t) H H := b_Fr.rf
  have hA : b_Ag τ τ H := b_Ag.rf
  have hX : b_Ext H H := b_Ext.rf
  obtain ⟨d0, c0, ids, P0, F, M, E, Z, sm, rs, se, ml, hs, bt, tk9, hc_X, hc_sv, hsa, hse, hc_tx, hc_tb, hbt, hc_tk, hL, hZ, hW, hV, hd0, hdc, hn, htn, ht⟩ := hXR
  have hc_X : b_tt G B0 τ H ((A 0)) 0 (.inr (0, [.ref ((F 0)), .ref ((A 1)), .ref ((A 3)), .ref ((A 5)), .long hs])) := hc_X
  have hc_sv : b_tt G B0 τ H ((A 1)) 1 (.inr (2, [.int sm, .ref ((if se = true then rs else G.2.2 0)), .int (nI n)])) := hc_sv
  have hsa : (se = true → b_tt G B0 τ H rs 2 (.inl (G.2.1 2, q_refs 10 (fun j => if j < n then some (P0 j) else none)))) := hsa
  have hc_tx : b_tt G B0 τ H ((A 3)) 3 (.inr (3, [.ref ((A 4)), .int (nI 0), .int ml, .int (nI tn)])) := hc_tx
  have hc_tb : b_tt G B0 τ H ((A 4)) 4 (.inl (G.2.1 1, 60, .inl bt)) := hc_tb
  have hc_tk : b_tt G B0 τ H ((A 5)) 5 (.inl (G.2.1 0, 8, .inl tk9)) := hc_tk
  have hL : LR G B0 τ d0 F M E H S Z := hL
  have hV : SV G B0 τ d0 c0 n ids P0 H L := hV
  have hn8 := hL.2.2.2.1
  have hn6 := hL.2.2.2.2
  have hnb : nb S = nb S := rfl
  have hns : ns S = ns S := rfl
  have hn : n ≤ 6 := hn
  have htn : tn ≤ 60 := htn
  have ht : ∀ j, t j < 128 := ht
  have hse : se = true ∨ n = 0 := hse
  have hZ : pZ Z S := hZ
  have hW : b_WF S := hW
  have hbt : ∀ j, j < tn → bt j = nI (t j) := hbt
  refine lv_iload_n hx hb dX1_addShop_0 rfl (lv_at hl 1 rfl) ?_
  refine lv_iconst (v := nI 0) hx hb dX1_addShop_1 rfl ?_
  refine lv_ldc (v := nI 100000) hx hb CX.ow (CX.ts _ q1101) dX1_addShop_2 ?_
  refine b_ci0 (cs_X1_73 (rest := []) CX hl.1 (m_X1_in l (x := b) (lo := nI 0) (hi := nI 100000) ) rfl hS rfl ⟨rfl, rfl, Nat.le_of_ble_eq_true rfl, Nat.le_of_ble_eq_true rfl⟩ (Nat.le_of_ble_eq_true rfl) dX1_addShop_4 ⟨Nat.le_of_ble_eq_true rfl, Nat.le_of_ble_eq_true rfl⟩) hS (fun locs hS => ?_)
  refine b_xv0 (cx_X1_84 (rest := []) CX hl.1 (m_X1_need l (x := bI ((nI 0) ≤ b ∧ b ≤ (nI 100000))) hlt) rfl hS rfl ⟨rfl, rfl, Nat.le_of_ble_eq_true rfl, Nat.le_of_ble_eq_true rfl⟩ (Nat.le_of_ble_eq_true rfl) dX1_addShop_7 ⟨Nat.le_of_ble_eq_true rfl, Nat.le_of_ble_eq_true rfl⟩) hS (fun E9 q9 Hx2 locs hx9 hS he9 => ?_) (fun hk_7 locs hS => ?_)
  · have hk_7 := bI_0.mp hx9.1
    rw [← hQ]
    have ho : o_addShop (S, n, L, tn, t) b = f_no 1 (S, n, L, tn, t) := by
      unfold o_addShop
      try dsimp only
      repeat (first | rw [if_pos (by first | assumption | exact ⟨by assumption, by assumption⟩ | (constructor <;> omega) | omega | exact fun q => absurd q (by assumption) | exact fun q => absurd q.1 (by assumption) | exact fun q => absurd q.2 (by assumption) | exact Int32.not_lt.mpr (by assumption) | exact Int32.not_le.mp (by assumption) | exact fun q => q.2 (by assumption) | exact fun q => absurd q.1 (by omega))] | rw [if_neg (by first | assumption | exact ⟨by assumption, by assumption⟩ | (constructor <;> omega) | omega | exact fun q => absurd q (by assumption) | exact fun q => absurd q.1 (by assumption) | exact fun q => absurd q.2 (by assumption) | exact Int32.not_lt.mpr (by assumption) | exact Int32.not_le.mp (by assumption) | exact fun q => q.2 (by assumption) | exact fun q => absurd q.1 (by omega))])
    exact b_xout htb hlk he9 hS (Nat.le_of_ble_eq_true rfl) (Nat.le_of_ble_eq_true rfl) ⟨hX.tr hx9.2.2, 1, by omega, by rw [ho]; rfl, by rw [ho]; rfl, hx9.2.1⟩
  have hk_7 := bI_n0.mp hk_7
  refine lv_aload_n hx hb dX1_addShop_10 rfl (lv_at hl 0 rfl) ?_
  refine gf_X1_19_0 CX hc_X.at rfl dX1_addShop_11 ?_
  refine gf_X1_77_1 CX hL.loop.at rfl dX1_addShop_14 ?_
  refine b_ci0 (cs_X1_45 (rest := []) CX hl.1 (m_J2_size l (a := (F 3)) (ta := 1000 * d0 + 3) (mc := M 3) (ra := (if E 3 = true then F 4 else G.2.2 0)) (x := S 0 0 1) hL.al3) rfl rfl rfl hL.al3.at hS rfl ⟨rfl, rfl, Nat.le_of_ble_eq_true rfl, Nat.le_of_ble_eq_true rfl⟩ (Nat.le_of_ble_eq_true rfl) dX1_addShop_17 ⟨Nat.le_of_ble_eq_true rfl, Nat.le_of_ble_eq_true rfl⟩) hS (fun locs hS => ?_)
  refine b_top (x := (S 0 0 1)) (y := nI (ns S)) (hW.nsE) ?_
  refine lv_bipush (v := nI 6) hx hb dX1_addShop_20 rfl ?_
  refine b_icmp_geN (tgt := 29) CX (by omega) (by omega) dX1_addShop_22 (by decide) (fun c_22 => ?_) (fun c_22 => ?_)
  · refine lv_iconst (v := nI 0) hx hb dX1_addShop_29 rfl ?_
    refine b_xv0 (cx_X1_88 (rest := []) CX hl.1 (m_X1_needState l (x := nI 0) hlt) rfl hS rfl ⟨rfl, rfl, Nat.le_of_ble_eq_true rfl, Nat.le_of_ble_eq_true rfl⟩ (Nat.le_of_ble_eq_true rfl) dX1_addShop_30 ⟨Nat.le_of_ble_eq_true rfl, Nat.le_of_ble_eq_true rfl⟩) hS (fun E9 q9 Hx3 locs hx9 hS he9 => ?_) (fun hk_30 locs hS => ?_)
    · rw [← hQ]
      have ho : o_addShop (S, n, L, tn, t) b = f_no 2 (S, n, L, tn, t) := by
        unfold o_addShop
        try dsimp only
        repeat (first | rw [if_pos (by first | assumption | exact ⟨by assumption, by assumption⟩ | (constructor <;> omega) | omega | exact fun q => absurd q (by assumption) | exact fun q => absurd q.1 (by assumption) | exact fun q => absurd q.2 (by assumption) | exact Int32.not_lt.mpr (by assumption) | exact Int32.not_le.mp (by assumption) | exact fun q => q.2 (by assumption) | exact fun q => absurd q.1 (by omega))] | rw [if_neg (by first | assumption | exact ⟨by assumption, by assumption⟩ | (constructor <;> omega) | omega | exact fun q => absurd q (by assumption) | exact fun q => absurd q.1 (by assumption) | exact fun q => absurd q.2 (by assumption) | exact Int32.not_lt.mpr (by assumption) | exact Int32.not_le.mp (by assumption) | exact fun q => q.2 (by assumption) | exact fun q => absurd q.1 (by omega))])
      exact b_xout htb hlk he9 hS (Nat.le_of_ble_eq_true rfl) (Nat.le_of_ble_eq_true rfl) ⟨hX.tr hx9.2.2, 2, by omega, by rw [ho]; rfl, by rw [ho]; rfl, hx9.2.1⟩
    exact absurd (by decide) hk_30
  · refine lv_iconst (v := nI 1) hx hb dX1_addShop_25 rfl ?_
    refine lv_goto (tgt := 30) hx hb dX1_addShop_26 (by decide) ?_
    refine b_xv0 (cx_X1_88 (rest := []) CX hl.1 (m_X1_needState l (x := nI 1) hlt) rfl hS rfl ⟨rfl, rfl, Nat.le_of_ble_eq_true rfl, Nat.le_of_ble_eq_true rfl⟩ (Nat.le_of_ble_eq_true rfl) dX1_addShop_30 ⟨Nat.le_of_ble_eq_true rfl, Nat.le_of_ble_eq_true rfl⟩) hS (fun E9 q9 Hx4 locs hx9 hS he9 => ?_) (fun hk_30 locs hS => ?_)
    · exact absurd hx9.1 (by decide)
    have ho : o_addShop (S, n, L, tn, t) b = f_ok (nI (ns S)) (z_save (S, n, L, tn, t) (s_addS S b)) := by
      unfold o_addShop
      try dsimp only
      repeat (first | rw [if_pos (by first | assumption | exact ⟨by assumption, by assumption⟩ | (constructor <;> omega) | omega | exact fun q => absurd q (by assumption) | exact fun q => absurd q.1 (by assumption) | exact fun q => absurd q.2 (by assumption) | exact Int32.not_lt.mpr (by assumption) | exact Int32.not_le.mp (by assumption) | exact fun q => q.2 (by assumption) | exact fun q => absurd q.1 (by omega))] | rw [if_neg (by first | assumption | exact ⟨by assumption, by assumption⟩ | (constructor <;> omega) | omega | exact fun q => absurd q (by assumption) | exact fun q => absurd q.1 (by assumption) | exact fun q => absurd q.2 (by assumption) | exact Int32.not_lt.mpr (by assumption) | exact Int32.not_le.mp (by assumption) | exact fun q => q.2 (by assumption) | exact fun q => absurd q.1 (by omega))])
    have hWn : b_WF (s_addS S b) := by have h9 := hW1; rw [ho] at h9; exact h9
    refine lv_aload_n hx hb dX1_addShop_33 rfl (lv_at hl 0 rfl) ?_
    have hXR : XR G B0 τ A H (S, n, L, tn, t) := ⟨d0, c0, ids, P0, F, M, E, Z, sm, rs, se, ml, hs, bt, tk9, hc_X, hc_sv, hsa, hse, hc_tx, hc_tb, hbt, hc_tk, hL, hZ, hW, hV, hd0, hdc, hn, htn, ht⟩
    refine b_cv (cs_X1_91 (rest := []) CX hl.1 (m_X1_save l  hXR) rfl rfl rfl hc_X.at hS rfl ⟨rfl, rfl, Nat.le_of_ble_eq_true rfl, Nat.le_of_ble_eq_true rfl⟩ (Nat.le_of_ble_eq_true rfl) dX1_addShop_34 ⟨Nat.le_of_ble_eq_true rfl, Nat.le_of_ble_eq_true rfl⟩) hS (fun H5 locs hp hS => ?_)
    obtain ⟨τ5, hA9, hF9, hXR⟩ := hp
    have hF0 := hF.tr hA hF9 (fun q9 hq9 x9 => by have x8 : τ q9 = 1 ∨ τ q9 = 2 ∨ 1000 ≤ τ q9 := x9; show τ q9 < 200 ∨ 1000 ≤ τ q9; omega)
    have hA := hA.tr hA9 hF.1
    have hF := hF0
    have hXR : XR G B0 τ5 A H5 (S, (p_sn n), (p_L L S n), tn, t) := hXR
    obtain ⟨d05, c05, ids5, P05, F5, M5, E5, Z5, sm5, rs5, se5, ml5, hs5, bt5, tk95, hc_X, hc_sv, hsa, hse, hc_tx, hc_tb, hbt, hc_tk, hL, hZ, hW, hV, hd0, hdc, hn, htn, ht⟩ := hXR
    have hc_X : b_tt G B0 τ5 H5 ((A 0)) 0 (.inr (0, [.ref ((F5 0)), .ref ((A 1)), .ref ((A 3)), .ref ((A 5)), .long hs5])) := hc_X
    have hc_sv : b_tt G B0 τ5 H5 ((A 1)) 1 (.inr (2, [.int sm5, .ref ((if se5 = true then rs5 else G.2.2 0)), .int (nI ((p_sn n)))])) := hc_sv
    have hsa : (se5 = true → b_tt G B0 τ5 H5 rs5 2 (.inl (G.2.1 2, q_refs 10 (fun j => if j < (p_sn n) then some (P05 j) else none)))) := hsa
    have hc_tx : b_tt G B0 τ5 H5 ((A 3)) 3 (.inr (3, [.ref ((A 4)), .int (nI 0), .int ml5, .int (nI tn)])) := hc_tx
    have hc_tb : b_tt G B0 τ5 H5 ((A 4)) 4 (.inl (G.2.1 1, 60, .inl bt5)) := hc_tb
    have hc_tk : b_tt G B0 τ5 H5 ((A 5)) 5 (.inl (G.2.1 0, 8, .inl tk95)) := hc_tk
    have hL : LR G B0 τ5 d05 F5 M5 E5 H5 S Z5 := hL
    have hV : SV G B0 τ5 d05 c05 ((p_sn n)) ids5 P05 H5 ((p_L L S n)) := hV
    have hn8 := hL.2.2.2.1
    have hn6 := hL.2.2.2.2
    have hnb : nb S = nb S := rfl
    have hns : ns S = ns S := rfl
    have hn : (p_sn n) ≤ 6 := hn
    have htn : tn ≤ 60 := htn
    have ht : ∀ j, t j < 128 := ht
    have hse : se5 = true ∨ (p_sn n) = 0 := hse
    have hZ : pZ Z5 S := hZ
    have hW : b_WF S := hW
    have hbt : ∀ j, j < tn → bt5 j = nI (t j) := hbt
    refine lv_aload_n hx hb dX1_addShop_37 rfl (lv_at hl 0 rfl) ?_
    refine gf_X1_19_0 CX hc_X.at rfl dX1_addShop_38 ?_
    refine gf_X1_77_1 CX hL.loop.at rfl dX1_addShop_41 ?_
    refine b_new CX in_X5 tyX5 tyX5_ok (ci := 5) rfl q820 q1049 q101 (fs := [.null, .null, .int (nI 0), .int (nI 0), .int (nI 0), .int (nI 0), .int (nI 0)]) (nofn_X5) hS (Nat.le_of_ble_eq_true rfl) (Nat.le_of_ble_eq_true rfl) dX1_addShop_44 (fun q6 H6 hq hB hat hsz hE hS => ?_)
    have hc_X := hc_X.new (tb := (1000 * d05 + (30 + ns S))) hE hq
    have hc_sv := hc_sv.new (tb := (1000 * d05 + (30 + ns S))) hE hq
    have hsa := fun h9 => (hsa h9).new (tb := (1000 * d05 + (30 + ns S))) hE hq
    have hc_tx := hc_tx.new (tb := (1000 * d05 + (30 + ns S))) hE hq
    have hc_tb := hc_tb.new (tb := (1000 * d05 + (30 + ns S))) hE hq
    have hc_tk := hc_tk.new (tb := (1000 * d05 + (30 + ns S))) hE hq
    have hL := hL.new (tb := (1000 * d05 + (30 + ns S))) hE hq
    have hV := hV.new (tb := (1000 * d05 + (30 + ns S))) hE hq
    have fr_sh : H.size ≤ q6 := by rw [hq]; exact hF.1
    have hA := hA.tr (b_Ag.new (t := (1000 * d05 + (30 + ns S))) hq) hF.1
    have hF := hF.ext hE
    have hc_sh : b_tt G B0 ((upT τ5 q6 ((1000 * d05 + (30 + ns S))))) H6 q6 ((1000 * d05 + (30 + ns S))) (.inr (5, [.null, .null, .int (nI 0), .int (nI 0), .int (nI 0), .int (nI 0), .int (nI 0)])) := b_tt.mk hat hB
    refine lv_dup hx hb dX1_addShop_47 rfl ?_
    refine b_cv (cs_X1_102 (rest := [.ref q6, .ref ((F5 3))]) CX hl.1 (m_X5_init l (a := q6) (ta := (1000 * d05 + (30 + ns S))) (t1 := (1000 * d05 + (40 + ns S))) (t2 := (1000 * d05 + (50 + ns S))) hc_sh (by omega) (by omega) (by omega)) rfl hS rfl ⟨rfl, rfl, Nat.le_of_ble_eq_true rfl, Nat.le_of_ble_eq_true rfl⟩ (Nat.le_of_ble_eq_true rfl) dX1_addShop_48 ⟨Nat.le_of_ble_eq_true rfl, Nat.le_of_ble_eq_true rfl⟩) hS (fun H7 locs hp hS => ?_)
    obtain ⟨τ7, q17, q27, hA9, hF9, hr0, hr1, hx0, hx1, hx2⟩ := hp
    have hc_X := hc_X.ca hF9 hA9 (show ¬ (0 = ((1000 * d05 + (30 + ns S)))) by omega)
    have hc_sv := hc_sv.ca hF9 hA9 (show ¬ (1 = ((1000 * d05 + (30 + ns S)))) by omega)
    have hsa := fun h9 => (hsa h9).ca hF9 hA9 (show ¬ (2 = ((1000 * d05 + (30 + ns S)))) by omega)
    have hc_tx := hc_tx.ca hF9 hA9 (show ¬ (3 = ((1000 * d05 + (30 + ns S)))) by omega)
    have hc_tb := hc_tb.ca hF9 hA9 (show ¬ (4 = ((1000 * d05 + (30 + ns S)))) by omega)
    have hc_tk := hc_tk.ca hF9 hA9 (show ¬ (5 = ((1000 * d05 + (30 + ns S)))) by omega)
    have hL := hL.cau hF9 hA9 (fun i9 hi9 => by unfold l_use at hi9; show ¬ ((1000 * d05 + i9) = ((1000 * d05 + (30 + ns S)))); omega)
    have hV := hV.ca hF9 hA9 (fun k9 h1 h2 h3 i9 hi9 => show ¬ ((1000 * k9 + i9) = ((1000 * d05 + (30 + ns S)))) by omega)
    have hz9 := hF.1
    have hF0 := hF.tr hA hF9 (fun q9 hq9 x9 => by have x8 : τ q9 = ((1000 * d05 + (30 + ns S))) := x9; show τ q9 < 200 ∨ 1000 ≤ τ q9; omega)
    have hA := hA.tr hA9 hF.1
    have hF := hF0
    have hc_sh : b_tt G B0 τ7 H7 q6 ((1000 * d05 + (30 + ns S))) (.inr (5, [.ref q17, .ref q27, .int (nI 0), .int (nI 0), .int (nI 0), .int (nI 0), .int (nI 0)])) := hx0
    have hc_fu7 : b_tt G B0 τ7 H7 q17 (((1000 * d05 + (40 + ns S)))) (.inl (G.2.1 0, 8, .inl ((fun _ => nI 0)))) := hx1
    have fr_fu7 : H.size ≤ q17 := Nat.le_trans hz9 hr0
    have hc_em7 : b_tt G B0 τ7 H7 q27 (((1000 * d05 + (50 + ns S)))) (.inl (G.2.1 0, 8, .inl ((fun _ => nI 0)))) := hx2
    have fr_em7 : H.size ≤ q27 := Nat.le_trans hz9 hr1
    rcases hE1 : E5 3 with _ | _
    · have hnn : S 0 0 1 = nI (ns S) := hW.nsE
      have he1 := hL.ale3 hE1 hnn
      have hc_al := he1.1
      have he0 := he1.2
      have ho9 : ∀ j, l_use (nb S) (ns S) E5 j → ¬ j = 3 → ¬ j = 4 → b_tt G B0 τ7 H7 (F5 j) (1000 * d05 + j) (l_cnt G F5 S Z5 M5 E5 j) := fun j h1 h2 h3 => hL.1 j h1
      refine b_ci (cs_X1_57 (rest := []) CX hl.1 (m_J2_add_s l (a := (F5 3)) (ta := 1000 * d05 + 3) (mc := M5 3) (v := q6) (tv := (1000 * d05 + (30 + ns S))) (ci := 5) (fs := [.ref q17, .ref q27, .int (nI 0), .int (nI 0), .int (nI 0), .int (nI 0), .int (nI 0)]) (tr := (1000 * d05 + 4)) hc_al hc_sh ⟨_, rfl, q2238⟩ (by omega) (by omega) (by omega)) rfl rfl rfl hc_al.at hS rfl ⟨rfl, rfl, Nat.le_of_ble_eq_true rfl, Nat.le_of_ble_eq_true rfl⟩ (Nat.le_of_ble_eq_true rfl) dX1_addShop_51 ⟨Nat.le_of_ble_eq_true rfl, Nat.le_of_ble_eq_true rfl⟩) hS (fun r H8 locs hp hS => ?_)
      obtain ⟨τ8, q8, rfl, hA9, hF9, hr0, hx0, hx1⟩ := hp
      have hc_X := hc_X.ca hF9 hA9 (show ¬ (0 = (1000 * d05 + 3) ∨ 0 = ((1000 * d05 + 4))) by omega)
      have hc_sv := hc_sv.ca hF9 hA9 (show ¬ (1 = (1000 * d05 + 3) ∨ 1 = ((1000 * d05 + 4))) by omega)
      have hsa := fun h9 => (hsa h9).ca hF9 hA9 (show ¬ (2 = (1000 * d05 + 3) ∨ 2 = ((1000 * d05 + 4))) by omega)
      have hc_tx := hc_tx.ca hF9 hA9 (show ¬ (3 = (1000 * d05 + 3) ∨ 3 = ((1000 * d05 + 4))) by omega)
      have hc_tb := hc_tb.ca hF9 hA9 (show ¬ (4 = (1000 * d05 + 3) ∨ 4 = ((1000 * d05 + 4))) by omega)
      have hc_tk := hc_tk.ca hF9 hA9 (show ¬ (5 = (1000 * d05 + 3) ∨ 5 = ((1000 * d05 + 4))) by omega)
      have hV := hV.ca hF9 hA9 (fun k9 h1 h2 h3 i9 hi9 => show ¬ ((1000 * k9 + i9) = (1000 * d05 + 3) ∨ (1000 * k9 + i9) = ((1000 * d05 + 4))) by omega)
      have hc_sh := hc_sh.ca hF9 hA9 (show ¬ (((1000 * d05 + (30 + ns S))) = (1000 * d05 + 3) ∨ ((1000 * d05 + (30 + ns S))) = ((1000 * d05 + 4))) by omega)
      have hc_fu7 := hc_fu7.ca hF9 hA9 (show ¬ ((((1000 * d05 + (40 + ns S)))) = (1000 * d05 + 3) ∨ (((1000 * d05 + (40 + ns S)))) = ((1000 * d05 + 4))) by omega)
      have hc_em7 := hc_em7.ca hF9 hA9 (show ¬ ((((1000 * d05 + (50 + ns S)))) = (1000 * d05 + 3) ∨ (((1000 * d05 + (50 + ns S)))) = ((1000 * d05 + 4))) by omega)
      have ho9 := fun j h1 h2 h3 => (ho9 j h1 h2 h3).ca hF9 hA9 (show ¬ ((1000 * d05 + j) = (1000 * d05 + 3) ∨ (1000 * d05 + j) = ((1000 * d05 + 4))) by omega)
      have hz9 := hF.1
      have hF0 := hF.tr hA hF9 (fun q9 hq9 x9 => by have x8 : τ q9 = (1000 * d05 + 3) ∨ τ q9 = ((1000 * d05 + 4)) := x9; show τ q9 < 200 ∨ 1000 ≤ τ q9; omega)
      have hA := hA.tr hA9 hF.1
      have hF := hF0
      have hc_al : b_tt G B0 τ8 H8 ((F5 3)) (1000 * d05 + 3) (.inr (2, [.int ((M5 3) + 1), .ref q8, .int (nI 1)])) := hx0
      have hc_arr8 : b_tt G B0 τ8 H8 q8 (((1000 * d05 + 4))) (.inl (G.2.1 2, q_refs 10 ((fun j => if j < 1 then some q6 else none)))) := hx1
      have fr_arr8 : H.size ≤ q8 := Nat.le_trans hz9 hr0
      have hc_arr8 : b_tt G B0 τ8 H8 q8 (((1000 * d05 + 4))) (.inl (G.2.1 2, q_refs 10 ((fun j => if j < ns S + 1 then some (if j = ns S then q6 else F5 (30 + j)) else none)))) := b_tt.cgr hc_arr8 (fun j hj => by have h0 : ns S = 0 := (by omega); show (if j < 1 then _ else _) = _; by_cases c9 : j < 1 <;> first | rw [if_pos c9, if_pos (by omega), if_pos (by omega)] | rw [if_neg c9, if_neg (by omega)])
      have hc_al : b_tt G B0 τ8 H8 ((F5 3)) (1000 * d05 + 3) (.inr (2, [.int ((M5 3) + 1), .ref q8, .int (nI ((ns S) + 1))])) := hc_al.cg (by rw [show (ns S : Nat) = 0 by omega])
      have hL : LR G B0 τ8 d05 ((upS F5 (ns S) q6 q17 q27 q8)) ((upd M5 3 ((M5 3) + 1))) ((upB E5 3)) H8 ((s_addS0 S)) Z5 := hL.pushS (S1 := (s_addS0 S)) (by omega) ho9 hc_al hc_arr8 hc_sh (by simp [s_addS0, u3, hz2 0 (by decide), hz2 1 (by decide), hz2 2 (by decide), hz2 3 (by decide), hz2 4 (by decide)]) hc_fu7 (fun j hj => (hz4 j hj).symm) hc_em7 (fun j hj => (hz5 j hj).symm) (by simp [s_addS0, u3]) (s_addS0_o S)
      have hX0 : b_tt G B0 τ8 H8 (A 0) 0 (.inr (0, [.ref ((upS F5 (ns S) q6 q17 q27 q8) 0), .ref (A 1), .ref (A 3), .ref (A 5), .long hs5])) := hc_X.cg (by rw [show (upS F5 (ns S) q6 q17 q27 q8) 0 = F5 0 from (by unfold upS; rw [if_neg (by omega), if_neg (by omega), if_neg (by omega), if_neg (by omega)])])
      have hc_X := hX0
      have hnS : ns (s_addS0 S) = ns S + 1 := s_addS0_n S (by omega)
      have hW := hW0
      refine lv_pop hx hb dX1_addShop_54 rfl ?_
      refine lv_aload_n hx hb dX1_addShop_55 rfl (lv_at hl 0 rfl) ?_
      refine gf_X1_19_0 CX hc_X.at rfl dX1_addShop_56 ?_
      refine gf_X1_77_1 CX hL.loop.at rfl dX1_addShop_59 ?_
      refine lv_aload_n hx hb dX1_addShop_62 rfl (lv_at hl 0 rfl) ?_
      refine gf_X1_19_0 CX hc_X.at rfl dX1_addShop_63 ?_
      refine gf_X1_77_1 CX hL.loop.at rfl dX1_addShop_66 ?_
      refine b_ci0 (cs_X1_45 (rest := [.ref (((upS F5 (ns S) q6 q17 q27 q8) 3))]) CX hl.1 (m_J2_size l (a := ((upS F5 (ns S) q6 q17 q27 q8) 3)) (ta := 1000 * d05 + 3) (mc := (upd M5 3 ((M5 3) + 1)) 3) (ra := (if (upB E5 3) 3 = true then (upS F5 (ns S) q6 q17 q27 q8) 4 else G.2.2 0)) (x := ((s_addS0 S)) 0 0 1) hL.al3) rfl rfl rfl hL.al3.at hS rfl ⟨rfl, rfl, Nat.le_of_ble_eq_true rfl, Nat.le_of_ble_eq_true rfl⟩ (Nat.le_of_ble_eq_true rfl) dX1_addShop_69 ⟨Nat.le_of_ble_eq_true rfl, Nat.le_of_ble_eq_true rfl⟩) hS (fun locs hS => ?_)
      refine b_top (x := (((s_addS0 S)) 0 0 1)) (y := nI (ns ((s_addS0 S)))) (hW.nsE) ?_
      refine b_top (x := nI (ns ((s_addS0 S)))) (y := nI ((ns S) + 1)) (congrArg nI hnS) ?_
      refine lv_iconst (v := nI 1) hx hb dX1_addShop_72 rfl ?_
      refine b_isubN CX (by omega) dX1_addShop_73 ?_
      refine b_cq0 (cs_X1_103 (rest := []) CX hl.1 (m_J2_get l (a := ((upS F5 (ns S) q6 q17 q27 q8) 3)) (ta := 1000 * d05 + 3) (mc := (upd M5 3 ((M5 3) + 1)) 3) (ra := ((upS F5 (ns S) q6 q17 q27 q8) 4)) (tr := 1000 * d05 + 4) (f := (fun j => (upS F5 (ns S) q6 q17 q27 q8) (30 + j))) (n := ns ((s_addS0 S))) (i := (ns S) + 1 - 1) (hL.alg3 hW (by omega)) (hL.arg4 (by omega)) (by omega) (by omega)) rfl rfl rfl (hL.alg3 hW (by omega)).at hS rfl ⟨rfl, rfl, Nat.le_of_ble_eq_true rfl, Nat.le_of_ble_eq_true rfl⟩ (Nat.le_of_ble_eq_true rfl) dX1_addShop_74 ⟨Nat.le_of_ble_eq_true rfl, Nat.le_of_ble_eq_true rfl⟩) hS (fun locs hS => ?_)
      refine b_cast CX (ci := 5) rfl (hL.shop (k := (ns S) + 1 - 1) (by omega)).at q820 dX1_addShop_77 ?_
      refine lv_iload_n hx hb dX1_addShop_80 rfl (lv_at hl 1 rfl) ?_
      refine pf_X1_106_5 CX (hL.shop (k := (ns S) + 1 - 1) (by omega)).at hS (hL.shop (k := (ns S) + 1 - 1) (by omega)).B rfl rfl (Nat.le_of_ble_eq_true rfl) dX1_addShop_81 (fun H9 locs hat hu hS => ?_)
      have hc_X := hc_X.up hu (hL.shop (k := (ns S) + 1 - 1) (by omega)).tag (by omega)
      have hc_sv := hc_sv.up hu (hL.shop (k := (ns S) + 1 - 1) (by omega)).tag (by omega)
      have hsa := fun h9 => (hsa h9).up hu (hL.shop (k := (ns S) + 1 - 1) (by omega)).tag (by omega)
      have hc_tx := hc_tx.up hu (hL.shop (k := (ns S) + 1 - 1) (by omega)).tag (by omega)
      have hc_tb := hc_tb.up hu (hL.shop (k := (ns S) + 1 - 1) (by omega)).tag (by omega)
      have hc_tk := hc_tk.up hu (hL.shop (k := (ns S) + 1 - 1) (by omega)).tag (by omega)
      have hV := hV.up hu (hL.shop (k := (ns S) + 1 - 1) (by omega)).tag (fun k9 h1 h2 h3 => by omega)
      have hF := hF.up hA hu (hL.shop (k := (ns S) + 1 - 1) (by omega)).tag (fun _ => show (1000 * d05 + (30 + ((ns S) + 1 - 1))) < 200 ∨ 1000 ≤ (1000 * d05 + (30 + ((ns S) + 1 - 1))) by omega)
      have hL : LR G B0 τ8 d05 ((upS F5 (ns S) q6 q17 q27 q8)) ((upd M5 3 ((M5 3) + 1))) ((upB E5 3)) H9 ((u3 (s_addS0 S) 2 ((ns S) + 1 - 1) 0 b)) Z5 := hL.set2 (k := (ns S) + 1 - 1) (w := 0) (by omega) hat hu (by simp [u3])
      have hL : LR G B0 τ8 d05 ((upS F5 (ns S) q6 q17 q27 q8)) ((upd M5 3 ((M5 3) + 1))) ((upB E5 3)) H9 ((s_addS S b)) Z5 := by rw [← s_addS_e]; exact hL
      have hW := hWn
      refine lv_aload_n hx hb dX1_addShop_84 rfl (lv_at hl 0 rfl) ?_
      refine gf_X1_19_0 CX hc_X.at rfl dX1_addShop_85 ?_
      refine gf_X1_77_1 CX hL.loop.at rfl dX1_addShop_88 ?_
      refine b_ci0 (cs_X1_45 (rest := []) CX hl.1 (m_J2_size l (a := ((upS F5 (ns S) q6 q17 q27 q8) 3)) (ta := 1000 * d05 + 3) (mc := (upd M5 3 ((M5 3) + 1)) 3) (ra := (if (upB E5 3) 3 = true then (upS F5 (ns S) q6 q17 q27 q8) 4 else G.2.2 0)) (x := ((s_addS S b)) 0 0 1) hL.al3) rfl rfl rfl hL.al3.at hS rfl ⟨rfl, rfl, Nat.le_of_ble_eq_true rfl, Nat.le_of_ble_eq_true rfl⟩ (Nat.le_of_ble_eq_true rfl) dX1_addShop_91 ⟨Nat.le_of_ble_eq_true rfl, Nat.le_of_ble_eq_true rfl⟩) hS (fun locs hS => ?_)
      refine b_top (x := (((s_addS S b)) 0 0 1)) (y := nI (ns ((s_addS S b)))) (hW.nsE) ?_
      refine b_top (x := nI (ns ((s_addS S b)))) (y := nI ((ns S) + 1)) (congrArg nI (s_addS_n S b (by omega))) ?_
      refine lv_iconst (v := nI 1) hx hb dX1_addShop_94 rfl ?_
      refine b_isubN CX (by omega) dX1_addShop_95 ?_
      have ho : o_addShop (S, n, L, tn, t) b = (nI 0, nI ((ns S) + 1 - 1), ((s_addS S b), (p_sn n), (p_L L S n), tn, t)) := by
        unfold o_addShop
        try dsimp only
        repeat (first | rw [if_pos (by first | assumption | exact ⟨by assumption, by assumption⟩ | (constructor <;> omega) | omega | exact fun q => absurd q (by assumption) | exact fun q => absurd q.1 (by assumption) | exact fun q => absurd q.2 (by assumption) | exact Int32.not_lt.mpr (by assumption) | exact Int32.not_le.mp (by assumption) | exact fun q => q.2 (by assumption) | exact fun q => absurd q.1 (by omega))] | rw [if_neg (by first | assumption | exact ⟨by assumption, by assumption⟩ | (constructor <;> omega) | omega | exact fun q => absurd q (by assumption) | exact fun q => absurd q.1 (by assumption) | exact fun q => absurd q.2 (by assumption) | exact Int32.not_lt.mpr (by assumption) | exact Int32.not_le.mp (by assumption) | exact fun q => q.2 (by assumption) | exact fun q => absurd q.1 (by omega))])
        first | rfl | (unfold f_ok f_no z_save;  rfl)
      rw [← hQ]
      exact vx_ret (b_iret CX hr hlk hS (Nat.le_of_ble_eq_true rfl) (Nat.le_of_ble_eq_true rfl) dX1_addShop_96 ((by unfold o_ok1; rw [ho]; exact ⟨rfl, rfl, _, hA, hF, ⟨d05, c05, ids5, P05, (upS F5 (ns S) q6 q17 q27 q8), (upd M5 3 ((M5 3) + 1)), (upB E5 3), Z5, sm5, rs5, se5, ml5, hs5, bt5, tk95, hc_X, hc_sv, hsa, hse, hc_tx, hc_tb, hbt, hc_tk, hL, (pZ.of hZ (fun i j => by simp [s_addS, u3])), (by have h9 := hW1; rw [ho] at h9; exact h9), hV, hd0, hdc, hn, htn, ht⟩⟩)))
    · have hnn : S 0 0 1 = nI (ns S) := hW.nsE
      have hc_al := hL.alf3 hE1 hnn
      have hc_ar := hL.ar4 hE1
      have ho9 : ∀ j, l_use (nb S) (ns S) E5 j → ¬ j = 3 → ¬ j = 4 → b_tt G B0 τ7 H7 (F5 j) (1000 * d05 + j) (l_cnt G F5 S Z5 M5 E5 j) := fun j h1 h2 h3 => hL.1 j h1
      refine b_ci (cs_X1_57 (rest := []) CX hl.1 (m_J2_add_d l (a := (F5 3)) (ta := 1000 * d05 + 3) (mc := M5 3) (ra := (F5 4)) (tr := (1000 * d05 + 4)) (f := (fun j => F5 (30 + j))) (n := ns S) (v := q6) (tv := (1000 * d05 + (30 + ns S))) (ci := 5) (fs := [.ref q17, .ref q27, .int (nI 0), .int (nI 0), .int (nI 0), .int (nI 0), .int (nI 0)]) hc_al hc_ar hc_sh ⟨_, rfl, q2238⟩ (by omega) (by omega) (by omega) (by omega)) rfl rfl rfl hc_al.at hS rfl ⟨rfl, rfl, Nat.le_of_ble_eq_true rfl, Nat.le_of_ble_eq_true rfl⟩ (Nat.le_of_ble_eq_true rfl) dX1_addShop_51 ⟨Nat.le_of_ble_eq_true rfl, Nat.le_of_ble_eq_true rfl⟩) hS (fun r H10 locs hp hS => ?_)
      obtain ⟨rfl, hF9, hx0, hx1⟩ := hp
      have hc_X := hc_X.fr hF9 (show ¬ (0 = (1000 * d05 + 3) ∨ 0 = ((1000 * d05 + 4))) by omega)
      have hc_sv := hc_sv.fr hF9 (show ¬ (1 = (1000 * d05 + 3) ∨ 1 = ((1000 * d05 + 4))) by omega)
      have hsa := fun h9 => (hsa h9).fr hF9 (show ¬ (2 = (1000 * d05 + 3) ∨ 2 = ((1000 * d05 + 4))) by omega)
      have hc_tx := hc_tx.fr hF9 (show ¬ (3 = (1000 * d05 + 3) ∨ 3 = ((1000 * d05 + 4))) by omega)
      have hc_tb := hc_tb.fr hF9 (show ¬ (4 = (1000 * d05 + 3) ∨ 4 = ((1000 * d05 + 4))) by omega)
      have hc_tk := hc_tk.fr hF9 (show ¬ (5 = (1000 * d05 + 3) ∨ 5 = ((1000 * d05 + 4))) by omega)
      have hV := hV.fr hF9 (fun k9 h1 h2 h3 i9 hi9 => show ¬ ((1000 * k9 + i9) = (1000 * d05 + 3) ∨ (1000 * k9 + i9) = ((1000 * d05 + 4))) by omega)
      have hc_sh := hc_sh.fr hF9 (show ¬ (((1000 * d05 + (30 + ns S))) = (1000 * d05 + 3) ∨ ((1000 * d05 + (30 + ns S))) = ((1000 * d05 + 4))) by omega)
      have hc_fu7 := hc_fu7.fr hF9 (show ¬ ((((1000 * d05 + (40 + ns S)))) = (1000 * d05 + 3) ∨ (((1000 * d05 + (40 + ns S)))) = ((1000 * d05 + 4))) by omega)
      have hc_em7 := hc_em7.fr hF9 (show ¬ ((((1000 * d05 + (50 + ns S)))) = (1000 * d05 + 3) ∨ (((1000 * d05 + (50 + ns S)))) = ((1000 * d05 + 4))) by omega)
      have ho9 := fun j h1 h2 h3 => (ho9 j h1 h2 h3).fr hF9 (show ¬ ((1000 * d05 + j) = (1000 * d05 + 3) ∨ (1000 * d05 + j) = ((1000 * d05 + 4))) by omega)
      have hz9 := hF.1
      have hF0 := hF.tr hA hF9 (fun q9 hq9 x9 => by have x8 : τ q9 = (1000 * d05 + 3) ∨ τ q9 = ((1000 * d05 + 4)) := x9; show τ q9 < 200 ∨ 1000 ≤ τ q9; omega)
      have hF := hF0
      have hc_al : b_tt G B0 τ7 H10 ((F5 3)) (1000 * d05 + 3) (.inr (2, [.int ((M5 3) + 1), .ref (((F5 4))), .int (nI ((ns S) + 1))])) := hx0
      have hc_ar : b_tt G B0 τ7 H10 ((F5 4)) (1000 * d05 + 4) (.inl (G.2.1 2, q_refs 10 ((fun j => if j < (ns S) + 1 then some (if j = (ns S) then q6 else ((fun j => F5 (30 + j))) j) else none)))) := hx1
      have hL : LR G B0 τ7 d05 ((upS F5 (ns S) q6 q17 q27 (F5 4))) ((upd M5 3 ((M5 3) + 1))) ((upB E5 3)) H10 ((s_addS0 S)) Z5 := hL.pushS (S1 := (s_addS0 S)) (by omega) ho9 hc_al hc_ar hc_sh (by simp [s_addS0, u3, hz2 0 (by decide), hz2 1 (by decide), hz2 2 (by decide), hz2 3 (by decide), hz2 4 (by decide)]) hc_fu7 (fun j hj => (hz4 j hj).symm) hc_em7 (fun j hj => (hz5 j hj).symm) (by simp [s_addS0, u3]) (s_addS0_o S)
      have hX0 : b_tt G B0 τ7 H10 (A 0) 0 (.inr (0, [.ref ((upS F5 (ns S) q6 q17 q27 (F5 4)) 0), .ref (A 1), .ref (A 3), .ref (A 5), .long hs5])) := hc_X.cg (by rw [show (upS F5 (ns S) q6 q17 q27 (F5 4)) 0 = F5 0 from (by unfold upS; rw [if_neg (by omega), if_neg (by omega), if_neg (by omega), if_neg (by omega)])])
      have hc_X := hX0
      have hnS : ns (s_addS0 S) = ns S + 1 := s_addS0_n S (by omega)
      have hW := hW0
      refine lv_pop hx hb dX1_addShop_54 rfl ?_
      refine lv_aload_n hx hb dX1_addShop_55 rfl (lv_at hl 0 rfl) ?_
      refine gf_X1_19_0 CX hc_X.at rfl dX1_addShop_56 ?_
      refine gf_X1_77_1 CX hL.loop.at rfl dX1_addShop_59 ?_
      refine lv_aload_n hx hb dX1_addShop_62 rfl (lv_at hl 0 rfl) ?_
      refine gf_X1_19_0 CX hc_X.at rfl dX1_addShop_63 ?_
      refine gf_X1_77_1 CX hL.loop.at rfl dX1_addShop_66 ?_
      refine b_ci0 (cs_X1_45 (rest := [.ref (((upS F5 (ns S) q6 q17 q27 (F5 4)) 3))]) CX hl.1 (m_J2_size l (a := ((upS F5 (ns S) q6 q17 q27 (F5 4)) 3)) (ta := 1000 * d05 + 3) (mc := (upd M5 3 ((M5 3) + 1)) 3) (ra := (if (upB E5 3) 3 = true then (upS F5 (ns S) q6 q17 q27 (F5 4)) 4 else G.2.2 0)) (x := ((s_addS0 S)) 0 0 1) hL.al3) rfl rfl rfl hL.al3.at hS rfl ⟨rfl, rfl, Nat.le_of_ble_eq_true rfl, Nat.le_of_ble_eq_true rfl⟩ (Nat.le_of_ble_eq_true rfl) dX1_addShop_69 ⟨Nat.le_of_ble_eq_true rfl, Nat.le_of_ble_eq_true rfl⟩) hS (fun locs hS => ?_)
      refine b_top (x := (((s_addS0 S)) 0 0 1)) (y := nI (ns ((s_addS0 S)))) (hW.nsE) ?_
      refine b_top (x := nI (ns ((s_addS0 S)))) (y := nI ((ns S) + 1)) (congrArg nI hnS) ?_
      refine lv_iconst (v := nI 1) hx hb dX1_addShop_72 rfl ?_
      refine b_isubN CX (by omega) dX1_addShop_73 ?_
      refine b_cq0 (cs_X1_103 (rest := []) CX hl.1 (m_J2_get l (a := ((upS F5 (ns S) q6 q17 q27 (F5 4)) 3)) (ta := 1000 * d05 + 3) (mc := (upd M5 3 ((M5 3) + 1)) 3) (ra := ((upS F5 (ns S) q6 q17 q27 (F5 4)) 4)) (tr := 1000 * d05 + 4) (f := (fun j => (upS F5 (ns S) q6 q17 q27 (F5 4)) (30 + j))) (n := ns ((s_addS0 S))) (i := (ns S) + 1 - 1) (hL.alg3 hW (by omega)) (hL.arg4 (by omega)) (by omega) (by omega)) rfl rfl rfl (hL.alg3 hW (by omega)).at hS rfl ⟨rfl, rfl, Nat.le_of_ble_eq_true rfl, Nat.le_of_ble_eq_true rfl⟩ (Nat.le_of_ble_eq_true rfl) dX1_addShop_74 ⟨Nat.le_of_ble_eq_true rfl, Nat.le_of_ble_eq_true rfl⟩) hS (fun locs hS => ?_)
      refine b_cast CX (ci := 5) rfl (hL.shop (k := (ns S) + 1 - 1) (by omega)).at q820 dX1_addShop_77 ?_
      refine lv_iload_n hx hb dX1_addShop_80 rfl (lv_at hl 1 rfl) ?_
      refine pf_X1_106_5 CX (hL.shop (k := (ns S) + 1 - 1) (by omega)).at hS (hL.shop (k := (ns S) + 1 - 1) (by omega)).B rfl rfl (Nat.le_of_ble_eq_true rfl) dX1_addShop_81 (fun H11 locs hat hu hS => ?_)
      have hc_X := hc_X.up hu (hL.shop (k := (ns S) + 1 - 1) (by omega)).tag (by omega)
      have hc_sv := hc_sv.up hu (hL.shop (k := (ns S) + 1 - 1) (by omega)).tag (by omega)
      have hsa := fun h9 => (hsa h9).up hu (hL.shop (k := (ns S) + 1 - 1) (by omega)).tag (by omega)
      have hc_tx := hc_tx.up hu (hL.shop (k := (ns S) + 1 - 1) (by omega)).tag (by omega)
      have hc_tb := hc_tb.up hu (hL.shop (k := (ns S) + 1 - 1) (by omega)).tag (by omega)
      have hc_tk := hc_tk.up hu (hL.shop (k := (ns S) + 1 - 1) (by omega)).tag (by omega)
      have hV := hV.up hu (hL.shop (k := (ns S) + 1 - 1) (by omega)).tag (fun k9 h1 h2 h3 => by omega)
      have hF := hF.up hA hu (hL.shop (k := (ns S) + 1 - 1) (by omega)).tag (fun _ => show (1000 * d05 + (30 + ((ns S) + 1 - 1))) < 200 ∨ 1000 ≤ (1000 * d05 + (30 + ((ns S) + 1 - 1))) by omega)
      have hL : LR G B0 τ7 d05 ((upS F5 (ns S) q6 q17 q27 (F5 4))) ((upd M5 3 ((M5 3) + 1))) ((upB E5 3)) H11 ((u3 (s_addS0 S) 2 ((ns S) + 1 - 1) 0 b)) Z5 := hL.set2 (k := (ns S) + 1 - 1) (w := 0) (by omega) hat hu (by simp [u3])
      have hL : LR G B0 τ7 d05 ((upS F5 (ns S) q6 q17 q27 (F5 4))) ((upd M5 3 ((M5 3) + 1))) ((upB E5 3)) H11 ((s_addS S b)) Z5 := by rw [← s_addS_e]; exact hL
      have hW := hWn
      refine lv_aload_n hx hb dX1_addShop_84 rfl (lv_at hl 0 rfl) ?_
      refine gf_X1_19_0 CX hc_X.at rfl dX1_addShop_85 ?_
      refine gf_X1_77_1 CX hL.loop.at rfl dX1_addShop_88 ?_
      refine b_ci0 (cs_X1_45 (rest := []) CX hl.1 (m_J2_size l (a := ((upS F5 (ns S) q6 q17 q27 (F5 4)) 3)) (ta := 1000 * d05 + 3) (mc := (upd M5 3 ((M5 3) + 1)) 3) (ra := (if (upB E5 3) 3 = true then (upS F5 (ns S) q6 q17 q27 (F5 4)) 4 else G.2.2 0)) (x := ((s_addS S b)) 0 0 1) hL.al3) rfl rfl rfl hL.al3.at hS rfl ⟨rfl, rfl, Nat.le_of_ble_eq_true rfl, Nat.le_of_ble_eq_true rfl⟩ (Nat.le_of_ble_eq_true rfl) dX1_addShop_91 ⟨Nat.le_of_ble_eq_true rfl, Nat.le_of_ble_eq_true rfl⟩) hS (fun locs hS => ?_)
      refine b_top (x := (((s_addS S b)) 0 0 1)) (y := nI (ns ((s_addS S b)))) (hW.nsE) ?_
      refine b_top (x := nI (ns ((s_addS S b)))) (y := nI ((ns S) + 1)) (congrArg nI (s_addS_n S b (by omega))) ?_
      refine lv_iconst (v := nI 1) hx hb dX1_addShop_94 rfl ?_
      refine b_isubN CX (by omega) dX1_addShop_95 ?_
      have ho : o_addShop (S, n, L, tn, t) b = (nI 0, nI ((ns S) + 1 - 1), ((s_addS S b), (p_sn n), (p_L L S n), tn, t)) := by
        unfold o_addShop
        try dsimp only
        repeat (first | rw [if_pos (by first | assumption | exact ⟨by assumption, by assumption⟩ | (constructor <;> omega) | omega | exact fun q => absurd q (by assumption) | exact fun q => absurd q.1 (by assumption) | exact fun q => absurd q.2 (by assumption) | exact Int32.not_lt.mpr (by assumption) | exact Int32.not_le.mp (by assumption) | exact fun q => q.2 (by assumption) | exact fun q => absurd q.1 (by omega))] | rw [if_neg (by first | assumption | exact ⟨by assumption, by assumption⟩ | (constructor <;> omega) | omega | exact fun q => absurd q (by assumption) | exact fun q => absurd q.1 (by assumption) | exact fun q => absurd q.2 (by assumption) | exact Int32.not_lt.mpr (by assumption) | exact Int32.not_le.mp (by assumption) | exact fun q => q.2 (by assumption) | exact fun q => absurd q.1 (by omega))])
        first | rfl | (unfold f_ok f_no z_save;  rfl)
      rw [← hQ]
      exact vx_ret (b_iret CX hr hlk hS (Nat.le_of_ble_eq_true rfl) (Nat.le_of_ble_eq_true rfl) dX1_addShop_96 ((by unfold o_ok1; rw [ho]; exact ⟨rfl, rfl, _, hA, hF, ⟨d05, c05, ids5, P05, (upS F5 (ns S) q6 q17 q27 (F5 4)), (upd M5 3 ((M5 3) + 1)), (upB E5 3), Z5, sm5, rs5, se5, ml5, hs5, bt5, tk95, hc_X, hc_sv, hsa, hse, hc_tx, hc_tb, hbt, hc_tk, hL, (pZ.of hZ (fun i j => by simp [s_addS, u3])), (by have h9 := hW1; rw [ho] at h9; exact h9), hV, hd0, hdc, hn, htn, ht⟩⟩)))
theorem gf_X1_37_0 {p : Program} {l : Launch} {e : Env} {R : Room} {s : State} {m : MethodId} {args : Array Value} {below : List Frame} {meth : Method} {c : Code} {H : Heap} {locs : List Loc} {cells slots : Nat} {Q : State → Prop} {cc : ByteArray} {pc nL a : Nat} {ls : Array Slot} {rest : List Value} {G : b_G} {B0 : Nat} (CX : b_Cx p s m args c cc nL RX1 G B0) {fs : List Value} (hP : b_at G a (.inr (0, fs)) H) {v : Value} (hv : fs[2]? = some v) (hdg : decode cc pc = .ok (.getfield 37, 3)) (kk : W p l e R s m args below meth c H locs cells slots Q (F0 m (pc + 3) ls (v :: rest))) : W p l e R s m args below meth c H locs cells slots Q (F0 m pc ls (.ref a :: rest)) := b_get CX in_X1 rfl 2 (by decide) q260 (Or.inl rfl) hP hv hdg kk
theorem cs_X1_203 {p : Program} {l : Launch} {e : Env} {R : Room} {s : State} {m : MethodId} {args : Array Value} {below : List Frame} {meth : Method} {c : Code} {H : Heap} {locs : List Loc} {cells slots : Nat} {cc : ByteArray} {pc nL a : Nat} {ls : Array Slot} {rest : List Value} {G : b_G} {B0 : Nat} (CX : b_Cx p s m args c cc nL RX1 G B0) (hls : ls.size = nL) {rm : Room} {mc ms : Nat} {As st0 : List Value} {Qc : Array Value → State → Outcome → State → Prop} (hM : Met l yJ4_length (ws_ yJ4_length cJ4_length 1 (Option.some Jvm.ClassFile.FieldType.int)) rm (b_Pc G B0 H (.ref a :: As)) Qc mc ms (b_A B0)) (hn : As.length = 0) {fs : List Value} {ci : Nat} {qc : vw_C} (hc : b_cl[ci]? = some qc) (hq : qc.1 = RJ4) (hP : b_at G a (.inr (ci, fs)) H) (hS : va_S (b_A B0) s.heap H locs) (hst : st0 = As.reverse ++ .ref a :: rest) (hr : rm.cells = mc ∧ rm.slots = ms ∧ rm.frames + 1 ≤ R.frames ∧ 8 + (1 + 11) + rm.locals ≤ R.locals) (hw : (rest.map fun v => v.category).sum ≤ 8) (hdg : decode cc pc = .ok (.invokevirtual 203, 3)) (hf : cells + mc ≤ R.cells ∧ slots + ms ≤ R.slots) : va_Run p l e R s m args below meth c H locs cells slots mc ms (F0 m pc ls st0) rest (Qc (Value.ref a :: As).toArray) (b_A B0) := va_runV CX.fix hM (cwV 0 CX.ts (lw_V q279 q280 q281 q85 q282) rfl hr.1 hr.2.1 (by decide +kernel) ⟨hr.2.2.1, hr.2.2.2⟩) ⟨b_blind G B0 H _, by have h9 := b_recv CX.K hc hP; rw [hq] at h9; exact h9, b_pre _ CX.K hS⟩ rfl hn hls hst (lv_room hw) hdg hf
theorem cs_X1_206 {p : Program} {l : Launch} {e : Env} {R : Room} {s : State} {m : MethodId} {args : Array Value} {below : List Frame} {meth : Method} {c : Code} {H : Heap} {locs : List Loc} {cells slots : Nat} {cc : ByteArray} {pc nL a : Nat} {ls : Array Slot} {rest : List Value} {G : b_G} {B0 : Nat} (CX : b_Cx p s m args c cc nL RX1 G B0) (hls : ls.size = nL) {rm : Room} {mc ms : Nat} {As st0 : List Value} {Qc : Array Value → State → Outcome → State → Prop} (hM : Met l yJ4_append_3 (ws_ yJ4_append_3 cJ4_append_3 2 (Option.some (Jvm.ClassFile.FieldType.object "java/lang/StringBuilder"))) rm (b_Pc G B0 H (.ref a :: As)) Qc mc ms (b_A B0)) (hn : As.length = 1) {fs : List Value} {ci : Nat} {qc : vw_C} (hc : b_cl[ci]? = some qc) (hq : qc.1 = RJ4) (hP : b_at G a (.inr (ci, fs)) H) (hS : va_S (b_A B0) s.heap H locs) (hst : st0 = As.reverse ++ .ref a :: rest) (hr : rm.cells = mc ∧ rm.slots = ms ∧ rm.frames + 1 ≤ R.frames ∧ 8 + (2 + 11) + rm.locals ≤ R.locals) (hw : (rest.map fun v => v.category).sum ≤ 8) (hdg : decode cc pc = .ok (.invokevirtual 206, 3)) (hf : cells + mc ≤ R.cells ∧ slots + ms ≤ R.slots) : va_Run p l e R s m args below meth c H locs cells slots mc ms (F0 m pc ls st0) rest (Qc (Value.ref a :: As).toArray) (b_A B0) := va_runV CX.fix hM (cwV 1 CX.ts (lw_V q1687 q1688 q1689 q85 q1690) rfl hr.1 hr.2.1 (by decide +kernel) ⟨hr.2.2.1, hr.2.2.2⟩) ⟨b_blind G B0 H _, by have h9 := b_recv CX.K hc hP; rw [hq] at h9; exact h9, b_pre _ CX.K hS⟩ rfl hn hls hst (lv_room hw) hdg hf
set_option maxHeartbeats 2000000 in
set_option maxRecDepth 100000 in
theorem m_X1_append (l : Launch) {G : b_G} {B0 : Nat} {H : Heap} {τ : b_T} {A : Nat → Nat} {S : b_St} {n : Nat} {L : Nat → b_St} {tn : Nat} {t : Nat → Nat} {b : Int32} (hlt : l.stackTraces = false) (hXR : XR G B0 τ A H (S, n, L, tn, t)) : vx_Met l yX1_append (ws_ yX1_append cX1_append 2 (Option.some Jvm.ClassFile.FieldType.int)) ({ frames := 7, cells := 2, slots := 12, locals := 109 } : Room) (b_Pc G B0 H [.ref ((A 0)), .int b]) (b_Qi B0 (fun r H1 => o_ok1 G B0 τ A H (o_append (S, n, L, tn, t) b) r H1)) (b_X B0 (fun E9 q9 H9 => o_px H (S, n, L, tn, t) (o_append (S, n, L, tn, t) b) cl_B E9 H9)) 2 12 (b_A B0) := by
  refine b_ofX (by decide) (Nat.le_of_ble_eq_true rfl) ?_
  intro p e s m below meth c CX hr hlk htb hS ls hl
  have CX : b_Cx p s m _ c cX1_append 2 RX1 G B0 := CX
  have hx := CX.hx
  have hb := CX.hb
  have hl : lv_has ls 2 [(0, .ref ((A 0))), (1, .int b)] := hl
  generalize hQ : vx_MQ below (b_Qi B0 (fun r H1 => o_ok1 G B0 τ A H (o_append (S, n, L, tn, t) b) r H1)) (b_X B0 (fun E9 q9 H9 => o_px H (S, n, L, tn, t) (o_append (S, n, L, tn, t) b) cl_B E9 H9)) ([.ref ((A 0)), .int b] : List Value).toArray s 2 12 (b_A B0) = Q
  have hF : b_Fr τ (fun t => t < 200 ∨ 1000 ≤ t) H H := b_Fr.rf
  have hA : b_Ag τ τ H := b_Ag.rf
  have hX : b_Ext H H := b_Ext.rf
  obtain ⟨d0, c0, ids, P0, F, M, E, Z, sm, rs, se, ml, hs, bt, tk9, hc_X, hc_sv, hsa, hse, hc_tx, hc_tb, hbt, hc_tk, hL, hZ, hW, hV, hd0, hdc, hn, htn, ht⟩ := hXR
  have hc_X : b_tt G B0 τ H ((A 0)) 0 (.inr (0, [.ref ((F 0)), .ref ((A 1)), .ref ((A 3)), .ref ((A 5)), .long hs])) := hc_X
  have hc_sv : b_tt G B0 τ H ((A 1)) 1 (.inr (2, [.int sm, .ref ((if se = true then rs else G.2.2 0)), .int (nI n)])) := hc_sv
  have hsa : (se = true → b_tt G B0 τ H rs 2 (.inl (G.2.1 2, q_refs 10 (fun j => if j < n then some (P0 j) else none)))) := hsa
  have hc_tx : b_tt G B0 τ H ((A 3)) 3 (.inr (3, [.ref ((A 4)), .int (nI 0), .int ml, .int (nI tn)])) := hc_tx
  have hc_tb : b_tt G B0 τ H ((A 4)) 4 (.inl (G.2.1 1, 60, .inl bt)) := hc_tb
  have hc_tk : b_tt G B0 τ H ((A 5)) 5 (.inl (G.2.1 0, 8, .inl tk9)) := hc_tk
  have hL : LR G B0 τ d0 F M E H S Z := hL
  have hV : SV G B0 τ d0 c0 n ids P0 H L := hV
  have hn8 := hL.2.2.2.1
  have hn6 := hL.2.2.2.2
  have hnb : nb S = nb S := rfl
  have hns : ns S = ns S := rfl
  have hn : n ≤ 6 := hn
  have htn : tn ≤ 60 := htn
  have ht : ∀ j, t j < 128 := ht
  have hse : se = true ∨ n = 0 := hse
  have hZ : pZ Z S := hZ
  have hW : b_WF S := hW
  have hbt : ∀ j, j < tn → bt j = nI (t j) := hbt
  refine lv_iload_n hx hb dX1_append_0 rfl (lv_at hl 1 rfl) ?_
  refine lv_bipush (v := nI 33) hx hb dX1_append_1 rfl ?_
  refine lv_bipush (v := nI 126) hx hb dX1_append_3 rfl ?_
  refine b_ci0 (cs_X1_73 (rest := []) CX hl.1 (m_X1_in l (x := b) (lo := nI 33) (hi := nI 126) ) rfl hS rfl ⟨rfl, rfl, Nat.le_of_ble_eq_true rfl, Nat.le_of_ble_eq_true rfl⟩ (Nat.le_of_ble_eq_true rfl) dX1_append_5 ⟨Nat.le_of_ble_eq_true rfl, Nat.le_of_ble_eq_true rfl⟩) hS (fun locs hS => ?_)
  refine b_xv0 (cx_X1_84 (rest := []) CX hl.1 (m_X1_need l (x := bI ((nI 33) ≤ b ∧ b ≤ (nI 126))) hlt) rfl hS rfl ⟨rfl, rfl, Nat.le_of_ble_eq_true rfl, Nat.le_of_ble_eq_true rfl⟩ (Nat.le_of_ble_eq_true rfl) dX1_append_8 ⟨Nat.le_of_ble_eq_true rfl, Nat.le_of_ble_eq_true rfl⟩) hS (fun E9 q9 Hx2 locs hx9 hS he9 => ?_) (fun hk_8 locs hS => ?_)
  · have hk_8 := bI_0.mp hx9.1
    rw [← hQ]
    have ho : o_append (S, n, L, tn, t) b = f_no 1 (S, n, L, tn, t) := by
      unfold o_append
      try dsimp only
      repeat (first | rw [if_pos (by first | assumption | exact ⟨by assumption, by assumption⟩ | (constructor <;> omega) | omega | exact fun q => absurd q (by assumption) | exact fun q => absurd q.1 (by assumption) | exact fun q => absurd q.2 (by assumption) | exact Int32.not_lt.mpr (by assumption) | exact Int32.not_le.mp (by assumption) | exact fun q => q.2 (by assumption) | exact fun q => absurd q.1 (by omega))] | rw [if_neg (by first | assumption | exact ⟨by assumption, by assumption⟩ | (constructor <;> omega) | omega | exact fun q => absurd q (by assumption) | exact fun q => absurd q.1 (by assumption) | exact fun q => absurd q.2 (by assumption) | exact Int32.not_lt.mpr (by assumption) | exact Int32.not_le.mp (by assumption) | exact fun q => q.2 (by assumption) | exact fun q => absurd q.1 (by omega))])
    exact b_xout htb hlk he9 hS (Nat.le_of_ble_eq_true rfl) (Nat.le_of_ble_eq_true rfl) ⟨hX.tr hx9.2.2, 1, by omega, by rw [ho]; rfl, by rw [ho]; rfl, hx9.2.1⟩
  have hk_8 := bI_n0.mp hk_8
  obtain ⟨jb, hjba, hjbb, rfl⟩ := p_rg (by decide) hk_8 (by decide)
  have ejb : ix (nI jb) = jb := ix_n (by omega)
  refine lv_aload_n hx hb dX1_append_11 rfl (lv_at hl 0 rfl) ?_
  refine gf_X1_37_0 CX hc_X.at rfl dX1_append_12 ?_
  refine b_ci0 (cs_X1_203 (rest := []) CX hl.1 (m_J4_length l (a := (A 3)) (ta := 3) (va := (A 4)) (tv := 4) (f := bt) (ml := ml) (n := tn) hc_tx hc_tb) rfl rfl rfl hc_tx.at hS rfl ⟨rfl, rfl, Nat.le_of_ble_eq_true rfl, Nat.le_of_ble_eq_true rfl⟩ (Nat.le_of_ble_eq_true rfl) dX1_append_15 ⟨Nat.le_of_ble_eq_true rfl, Nat.le_of_ble_eq_true rfl⟩) hS (fun locs hS => ?_)
  refine lv_bipush (v := nI 60) hx hb dX1_append_18 rfl ?_
  refine b_icmp_geN (tgt := 27) CX (by omega) (by omega) dX1_append_20 (by decide) (fun c_20 => ?_) (fun c_20 => ?_)
  · refine lv_iconst (v := nI 0) hx hb dX1_append_27 rfl ?_
    refine b_xv0 (cx_X1_88 (rest := []) CX hl.1 (m_X1_needState l (x := nI 0) hlt) rfl hS rfl ⟨rfl, rfl, Nat.le_of_ble_eq_true rfl, Nat.le_of_ble_eq_true rfl⟩ (Nat.le_of_ble_eq_true rfl) dX1_append_28 ⟨Nat.le_of_ble_eq_true rfl, Nat.le_of_ble_eq_true rfl⟩) hS (fun E9 q9 Hx3 locs hx9 hS he9 => ?_) (fun hk_28 locs hS => ?_)
    · rw [← hQ]
      have ho : o_append (S, n, L, tn, t) (nI jb) = f_no 2 (S, n, L, tn, t) := by
        unfold o_append
        simp only [ejb]
        repeat (first | rw [if_pos (by first | assumption | exact ⟨by assumption, by assumption⟩ | (constructor <;> omega) | omega | exact fun q => absurd q (by assumption) | exact fun q => absurd q.1 (by assumption) | exact fun q => absurd q.2 (by assumption) | exact Int32.not_lt.mpr (by assumption) | exact Int32.not_le.mp (by assumption) | exact fun q => q.2 (by assumption) | exact fun q => absurd q.1 (by omega))] | rw [if_neg (by first | assumption | exact ⟨by assumption, by assumption⟩ | (constructor <;> omega) | omega | exact fun q => absurd q (by assumption) | exact fun q => absurd q.1 (by assumption) | exact fun q => absurd q.2 (by assumption) | exact Int32.not_lt.mpr (by assumption) | exact Int32.not_le.mp (by assumption) | exact fun q => q.2 (by assumption) | exact fun q => absurd q.1 (by omega))])
      exact b_xout htb hlk he9 hS (Nat.le_of_ble_eq_true rfl) (Nat.le_of_ble_eq_true rfl) ⟨hX.tr hx9.2.2, 2, by omega, by rw [ho]; rfl, by rw [ho]; rfl, hx9.2.1⟩
    exact absurd (by decide) hk_28
  · refine lv_iconst (v := nI 1) hx hb dX1_append_23 rfl ?_
    refine lv_goto (tgt := 28) hx hb dX1_append_24 (by decide) ?_
    refine b_xv0 (cx_X1_88 (rest := []) CX hl.1 (m_X1_needState l (x := nI 1) hlt) rfl hS rfl ⟨rfl, rfl, Nat.le_of_ble_eq_true rfl, Nat.le_of_ble_eq_true rfl⟩ (Nat.le_of_ble_eq_true rfl) dX1_append_28 ⟨Nat.le_of_ble_eq_true rfl, Nat.le_of_ble_eq_true rfl⟩) hS (fun E9 q9 Hx4 locs hx9 hS he9 => ?_) (fun hk_28 locs hS => ?_)
    · exact absurd hx9.1 (by decide)
    refine lv_aload_n hx hb dX1_append_31 rfl (lv_at hl 0 rfl) ?_
    refine gf_X1_37_0 CX hc_X.at rfl dX1_append_32 ?_
    refine lv_iload_n hx hb dX1_append_35 rfl (lv_at hl 1 rfl) ?_
    refine lv_i2c (v := nI jb) hx hb dX1_append_36 (p_i2c (by omega)) ?_
    refine b_cq (cs_X1_206 (rest := []) CX hl.1 (m_J4_append_3 l (a := (A 3)) (ta := 3) (va := (A 4)) (tv := 4) (f := bt) (ml := ml) (n := tn) (k := jb) hc_tx hc_tb (by omega) (by omega) (by omega)) rfl rfl rfl hc_tx.at hS rfl ⟨rfl, rfl, Nat.le_of_ble_eq_true rfl, Nat.le_of_ble_eq_true rfl⟩ (Nat.le_of_ble_eq_true rfl) dX1_append_37 ⟨Nat.le_of_ble_eq_true rfl, Nat.le_of_ble_eq_true rfl⟩) hS (fun r H5 locs hp hS => ?_)
    obtain ⟨rfl, hF9, hx0, hx1⟩ := hp
    have hc_X := hc_X.fr hF9 (show ¬ (0 = 3 ∨ 0 = 4) by omega)
    have hc_sv := hc_sv.fr hF9 (show ¬ (1 = 3 ∨ 1 = 4) by omega)
    have hsa := fun h9 => (hsa h9).fr hF9 (show ¬ (2 = 3 ∨ 2 = 4) by omega)
    have hc_tk := hc_tk.fr hF9 (show ¬ (5 = 3 ∨ 5 = 4) by omega)
    have hL := hL.fr hF9 (fun i9 hi9 => show ¬ ((1000 * d0 + i9) = 3 ∨ (1000 * d0 + i9) = 4) by omega)
    have hV := hV.fr hF9 (fun k9 h1 h2 h3 i9 hi9 => show ¬ ((1000 * k9 + i9) = 3 ∨ (1000 * k9 + i9) = 4) by omega)
    have hz9 := hF.1
    have hF0 := hF.tr hA hF9 (fun q9 hq9 x9 => by have x8 : τ q9 = 3 ∨ τ q9 = 4 := x9; show τ q9 < 200 ∨ 1000 ≤ τ q9; omega)
    have hF := hF0
    have hc_tx : b_tt G B0 τ H5 ((A 3)) 3 (.inr (3, [.ref (((A 4))), .int (nI 0), .int ml, .int (nI (tn + 1))])) := hx0
    have hc_tb : b_tt G B0 τ H5 ((A 4)) 4 (.inl (G.2.1 1, 60, .inl ((upd bt tn (nI jb))))) := hx1
    refine lv_pop hx hb dX1_append_40 rfl ?_
    refine lv_aload_n hx hb dX1_append_41 rfl (lv_at hl 0 rfl) ?_
    refine gf_X1_37_0 CX hc_X.at rfl dX1_append_42 ?_
    refine b_ci0 (cs_X1_203 (rest := []) CX hl.1 (m_J4_length l (a := (A 3)) (ta := 3) (va := ((A 4))) (tv := 4) (f := (upd bt tn (nI jb))) (ml := ml) (n := tn + 1) hc_tx hc_tb) rfl rfl rfl hc_tx.at hS rfl ⟨rfl, rfl, Nat.le_of_ble_eq_true rfl, Nat.le_of_ble_eq_true rfl⟩ (Nat.le_of_ble_eq_true rfl) dX1_append_45 ⟨Nat.le_of_ble_eq_true rfl, Nat.le_of_ble_eq_true rfl⟩) hS (fun locs hS => ?_)
    have ho : o_append (S, n, L, tn, t) (nI jb) = (nI 0, nI (tn + 1), (S, n, L, (tn + 1), (updT t tn jb))) := by
      unfold o_append
      simp only [ejb]
      repeat (first | rw [if_pos (by first | assumption | exact ⟨by assumption, by assumption⟩ | (constructor <;> omega) | omega | exact fun q => absurd q (by assumption) | exact fun q => absurd q.1 (by assumption) | exact fun q => absurd q.2 (by assumption) | exact Int32.not_lt.mpr (by assumption) | exact Int32.not_le.mp (by assumption) | exact fun q => q.2 (by assumption) | exact fun q => absurd q.1 (by omega))] | rw [if_neg (by first | assumption | exact ⟨by assumption, by assumption⟩ | (constructor <;> omega) | omega | exact fun q => absurd q (by assumption) | exact fun q => absurd q.1 (by assumption) | exact fun q => absurd q.2 (by assumption) | exact Int32.not_lt.mpr (by assumption) | exact Int32.not_le.mp (by assumption) | exact fun q => q.2 (by assumption) | exact fun q => absurd q.1 (by omega))])
      first | rfl | (unfold f_ok f_no z_save;  rfl)
    rw [← hQ]
    exact vx_ret (b_iret CX hr hlk hS (Nat.le_of_ble_eq_true rfl) (Nat.le_of_ble_eq_true rfl) dX1_append_48 ((by unfold o_ok1; rw [ho]; exact ⟨rfl, rfl, _, hA, hF, ⟨d0, c0, ids, P0, F, M, E, Z, sm, rs, se, ml, hs, (upd bt tn (nI jb)), tk9, hc_X, hc_sv, hsa, hse, hc_tx, hc_tb, (hbt_app hbt), hc_tk, hL, hZ, hW, hV, hd0, hdc, hn, (show tn + 1 ≤ 60 by omega), (ht_app ht (by omega))⟩⟩)))
theorem cs_X1_210 {p : Program} {l : Launch} {e : Env} {R : Room} {s : State} {m : MethodId} {args : Array Value} {below : List Frame} {meth : Method} {c : Code} {H : Heap} {locs : List Loc} {cells slots : Nat} {cc : ByteArray} {pc nL a : Nat} {ls : Array Slot} {rest : List Value} {G : b_G} {B0 : Nat} (CX : b_Cx p s m args c cc nL RX1 G B0) (hls : ls.size = nL) {rm : Room} {mc ms : Nat} {As st0 : List Value} {Qc : Array Value → State → Outcome → State → Prop} (hM : Met l yJ4_setLength (ws_ yJ4_setLength cJ4_setLength 2 (Option.none)) rm (b_Pc G B0 H (.ref a :: As)) Qc mc ms (b_A B0)) (hn : As.length = 1) {fs : List Value} {ci : Nat} {qc : vw_C} (hc : b_cl[ci]? = some qc) (hq : qc.1 = RJ4) (hP : b_at G a (.inr (ci, fs)) H) (hS : va_S (b_A B0) s.heap H locs) (hst : st0 = As.reverse ++ .ref a :: rest) (hr : rm.cells = mc ∧ rm.slots = ms ∧ rm.frames + 1 ≤ R.frames ∧ 8 + (2 + 11) + rm.locals ≤ R.locals) (hw : (rest.map fun v => v.category).sum ≤ 8) (hdg : decode cc pc = .ok (.invokevirtual 210, 3)) (hf : cells + mc ≤ R.cells ∧ slots + ms ≤ R.slots) : va_Run p l e R s m args below meth c H locs cells slots mc ms (F0 m pc ls st0) rest (Qc (Value.ref a :: As).toArray) (b_A B0) := va_runV CX.fix hM (cwV 1 CX.ts (lw_V q286 q287 q288 q85 q289) rfl hr.1 hr.2.1 (by decide +kernel) ⟨hr.2.2.1, hr.2.2.2⟩) ⟨b_blind G B0 H _, by have h9 := b_recv CX.K hc hP; rw [hq] at h9; exact h9, b_pre _ CX.K hS⟩ rfl hn hls hst (lv_room hw) hdg hf
set_option maxHeartbeats 2000000 in
set_option maxRecDepth 100000 in
theorem m_X1_clearBuffer (l : Launch) {G : b_G} {B0 : Nat} {H : Heap} {τ : b_T} {A : Nat → Nat} {S : b_St} {n : Nat} {L : Nat → b_St} {tn : Nat} {t : Nat → Nat} (hXR : XR G B0 τ A H (S, n, L, tn, t)) : Met l yX1_clearBuffer (ws_ yX1_clearBuffer cX1_clearBuffer 2 (Option.some Jvm.ClassFile.FieldType.int)) ({ frames := 3, cells := 0, slots := 0, locals := 64 } : Room) (b_Pc G B0 H [.ref ((A 0))]) (b_Qi B0 (fun r H1 => o_ok1 G B0 τ A H (o_clear (S, n, L, tn, t) ) r H1)) 0 0 (b_A B0) := by
  refine b_of (by decide) (Nat.le_of_ble_eq_true rfl) ?_
  intro p e s m below meth c CX hr hlk hnm hS ls hl
  have CX : b_Cx p s m _ c cX1_clearBuffer 2 RX1 G B0 := CX
  have hx := CX.hx
  have hb := CX.hb
  have hl : lv_has ls 2 [(0, .ref ((A 0)))] := hl
  generalize hQ : MQ below (b_Qi B0 (fun r H1 => o_ok1 G B0 τ A H (o_clear (S, n, L, tn, t) ) r H1)) ([.ref ((A 0))] : List Value).toArray s 0 0 (b_A B0) = Q
  have hF : b_Fr τ (fun t => t < 200 ∨ 1000 ≤ t) H H := b_Fr.rf
  have hA : b_Ag τ τ H := b_Ag.rf
  have hX : b_Ext H H := b_Ext.rf
  obtain ⟨d0, c0, ids, P0, F, M, E, Z, sm, rs, se, ml, hs, bt, tk9, hc_X, hc_sv, hsa, hse, hc_tx, hc_tb, hbt, hc_tk, hL, hZ, hW, hV, hd0, hdc, hn, htn, ht⟩ := hXR
  have hc_X : b_tt G B0 τ H ((A 0)) 0 (.inr (0, [.ref ((F 0)), .ref ((A 1)), .ref ((A 3)), .ref ((A 5)), .long hs])) := hc_X
  have hc_sv : b_tt G B0 τ H ((A 1)) 1 (.inr (2, [.int sm, .ref ((if se = true then rs else G.2.2 0)), .int (nI n)])) := hc_sv
  have hsa : (se = true → b_tt G B0 τ H rs 2 (.inl (G.2.1 2, q_refs 10 (fun j => if j < n then some (P0 j) else none)))) := hsa
  have hc_tx : b_tt G B0 τ H ((A 3)) 3 (.inr (3, [.ref ((A 4)), .int (nI 0), .int ml, .int (nI tn)])) := hc_tx
  have hc_tb : b_tt G B0 τ H ((A 4)) 4 (.inl (G.2.1 1, 60, .inl bt)) := hc_tb
  have hc_tk : b_tt G B0 τ H ((A 5)) 5 (.inl (G.2.1 0, 8, .inl tk9)) := hc_tk
  have hL : LR G B0 τ d0 F M E H S Z := hL
  have hV : SV G B0 τ d0 c0 n ids P0 H L := hV
  have hn8 := hL.2.2.2.1
  have hn6 := hL.2.2.2.2
  have hnb : nb S = nb S := rfl
  have hns : ns S = ns S := rfl
  have hn : n ≤ 6 := hn
  have htn : tn ≤ 60 := htn
  have ht : ∀ j, t j < 128 := ht
  have hse : se = true ∨ n = 0 := hse
  have hZ : pZ Z S := hZ
  have hW : b_WF S := hW
  have hbt : ∀ j, j < tn → bt j = nI (t j) := hbt
  refine lv_aload_n hx hb dX1_clearBuffer_0 rfl (lv_at hl 0 rfl) ?_
  refine gf_X1_37_0 CX hc_X.at rfl dX1_clearBuffer_1 ?_
  refine b_ci0 (cs_X1_203 (rest := []) CX hl.1 (m_J4_length l (a := (A 3)) (ta := 3) (va := (A 4)) (tv := 4) (f := bt) (ml := ml) (n := tn) hc_tx hc_tb) rfl rfl rfl hc_tx.at hS rfl ⟨rfl, rfl, Nat.le_of_ble_eq_true rfl, Nat.le_of_ble_eq_true rfl⟩ (Nat.le_of_ble_eq_true rfl) dX1_clearBuffer_4 ⟨Nat.le_of_ble_eq_true rfl, Nat.le_of_ble_eq_true rfl⟩) hS (fun locs hS => ?_)
  refine lv_istore_n (lv' := [(1, .int (nI tn)), (0, .ref ((A 0)))]) hx hb dX1_clearBuffer_7 rfl hl (Nat.le_of_ble_eq_true rfl) rfl (fun ls hl => ?_)
  refine lv_aload_n hx hb dX1_clearBuffer_8 rfl (lv_at hl 1 rfl) ?_
  refine gf_X1_37_0 CX hc_X.at rfl dX1_clearBuffer_9 ?_
  refine lv_iconst (v := nI 0) hx hb dX1_clearBuffer_12 rfl ?_
  refine b_cv (cs_X1_210 (rest := []) CX hl.1 (m_J4_setLength l (a := (A 3)) (ta := 3) (va := (A 4)) (tv := 4) (f := bt) (ml := ml) (n := tn) hc_tx hc_tb (by omega) (by omega)) rfl rfl rfl hc_tx.at hS rfl ⟨rfl, rfl, Nat.le_of_ble_eq_true rfl, Nat.le_of_ble_eq_true rfl⟩ (Nat.le_of_ble_eq_true rfl) dX1_clearBuffer_13 ⟨Nat.le_of_ble_eq_true rfl, Nat.le_of_ble_eq_true rfl⟩) hS (fun H1 locs hp hS => ?_)
  obtain ⟨hF9, hx0⟩ := hp
  have hc_X := hc_X.fr hF9 (show ¬ (0 = 3) by omega)
  have hc_sv := hc_sv.fr hF9 (show ¬ (1 = 3) by omega)
  have hsa := fun h9 => (hsa h9).fr hF9 (show ¬ (2 = 3) by omega)
  have hc_tb := hc_tb.fr hF9 (show ¬ (4 = 3) by omega)
  have hc_tk := hc_tk.fr hF9 (show ¬ (5 = 3) by omega)
  have hL := hL.fr hF9 (fun i9 hi9 => show ¬ ((1000 * d0 + i9) = 3) by omega)
  have hV := hV.fr hF9 (fun k9 h1 h2 h3 i9 hi9 => show ¬ ((1000 * k9 + i9) = 3) by omega)
  have hz9 := hF.1
  have hF0 := hF.tr hA hF9 (fun q9 hq9 x9 => by have x8 : τ q9 = 3 := x9; show τ q9 < 200 ∨ 1000 ≤ τ q9; omega)
  have hF := hF0
  have hc_tx : b_tt G B0 τ H1 ((A 3)) 3 (.inr (3, [.ref (((A 4))), .int (nI 0), .int ((if tn = 0 then ml else nI 1)), .int (nI 0)])) := hx0
  refine lv_iload_n hx hb dX1_clearBuffer_16 rfl (lv_at hl 0 rfl) ?_
  have ho : o_clear (S, n, L, tn, t)  = (nI 0, nI tn, (S, n, L, 0, t)) := by
    unfold o_clear
    try dsimp only
    repeat (first | rw [if_pos (by first | assumption | exact ⟨by assumption, by assumption⟩ | (constructor <;> omega) | omega | exact fun q => absurd q (by assumption) | exact fun q => absurd q.1 (by assumption) | exact fun q => absurd q.2 (by assumption) | exact Int32.not_lt.mpr (by assumption) | exact Int32.not_le.mp (by assumption) | exact fun q => q.2 (by assumption) | exact fun q => absurd q.1 (by omega))] | rw [if_neg (by first | assumption | exact ⟨by assumption, by assumption⟩ | (constructor <;> omega) | omega | exact fun q => absurd q (by assumption) | exact fun q => absurd q.1 (by assumption) | exact fun q => absurd q.2 (by assumption) | exact Int32.not_lt.mpr (by assumption) | exact Int32.not_le.mp (by assumption) | exact fun q => q.2 (by assumption) | exact fun q => absurd q.1 (by omega))])
    first | rfl | (unfold f_ok f_no z_save;  rfl)
  rw [← hQ]
  exact b_iret CX hr hlk hS (Nat.le_of_ble_eq_true rfl) (Nat.le_of_ble_eq_true rfl) dX1_clearBuffer_17 ((by unfold o_ok1; rw [ho]; exact ⟨rfl, rfl, _, hA, hF, ⟨d0, c0, ids, P0, F, M, E, Z, sm, rs, se, (if tn = 0 then ml else nI 1), hs, bt, tk9, hc_X, hc_sv, hsa, hse, hc_tx, hc_tb, (fun j hj => absurd hj (Nat.not_lt_zero j)), hc_tk, hL, hZ, hW, hV, hd0, hdc, hn, (Nat.zero_le _), ht⟩⟩))
theorem cs_X1_260 {p : Program} {l : Launch} {e : Env} {R : Room} {s : State} {m : MethodId} {args : Array Value} {below : List Frame} {meth : Method} {c : Code} {H : Heap} {locs : List Loc} {cells slots : Nat} {cc : ByteArray} {pc nL a : Nat} {ls : Array Slot} {rest : List Value} {G : b_G} {B0 : Nat} (CX : b_Cx p s m args c cc nL RX1 G B0) (hls : ls.size = nL) {rm : Room} {mc ms : Nat} {As st0 : List Value} {Qc : Array Value → State → Outcome → State → Prop} (hM : Met l yJ2_isEmpty (ws_ yJ2_isEmpty cJ2_isEmpty 1 (Option.some Jvm.ClassFile.FieldType.boolean)) rm (b_Pc G B0 H (.ref a :: As)) Qc mc ms (b_A B0)) (hn : As.length = 0) {fs : List Value} {ci : Nat} {qc : vw_C} (hc : b_cl[ci]? = some qc) (hq : qc.1 = RJ2) (hP : b_at G a (.inr (ci, fs)) H) (hS : va_S (b_A B0) s.heap H locs) (hst : st0 = As.reverse ++ .ref a :: rest) (hr : rm.cells = mc ∧ rm.slots = ms ∧ rm.frames + 1 ≤ R.frames ∧ 8 + (1 + 11) + rm.locals ≤ R.locals) (hw : (rest.map fun v => v.category).sum ≤ 8) (hdg : decode cc pc = .ok (.invokevirtual 260, 3)) (hf : cells + mc ≤ R.cells ∧ slots + ms ≤ R.slots) : va_Run p l e R s m args below meth c H locs cells slots mc ms (F0 m pc ls st0) rest (Qc (Value.ref a :: As).toArray) (b_A B0) := va_runV CX.fix hM (cwV 0 CX.ts (lw_V q1765 q1766 q1767 q83 q1768) rfl hr.1 hr.2.1 (by decide +kernel) ⟨hr.2.2.1, hr.2.2.2⟩) ⟨b_blind G B0 H _, by have h9 := b_recv CX.K hc hP; rw [hq] at h9; exact h9, b_pre _ CX.K hS⟩ rfl hn hls hst (lv_room hw) hdg hf
theorem pf_X1_19_0 {p : Program} {l : Launch} {e : Env} {R : Room} {s : State} {m : MethodId} {args : Array Value} {below : List Frame} {meth : Method} {c : Code} {H : Heap} {locs : List Loc} {cells slots : Nat} {Q : State → Prop} {cc : ByteArray} {pc nL a : Nat} {ls : Array Slot} {rest : List Value} {G : b_G} {B0 : Nat} (CX : b_Cx p s m args c cc nL RX1 G B0) {fs : List Value} (hP : b_at G a (.inr (0, fs)) H) (hS : va_S (b_A B0) s.heap H locs) (ha : B0 ≤ a) {v : Value} (hn : narrow (tyX1 0) v = v) (hfit : fits (tyX1 0) v = true) (hl : 0 < fs.length) (hdg : decode cc pc = .ok (.putfield 19, 3)) (kk : ∀ (H1 : Heap) (locs1 : List Loc), b_at G a (.inr (0, fs.set 0 v)) H1 → b_Up a H H1 → va_S (b_A B0) s.heap H1 locs1 → W p l e R s m args below meth c H1 locs1 cells slots Q (F0 m (pc + 3) ls rest)) : W p l e R s m args below meth c H locs cells slots Q (F0 m pc ls (v :: .ref a :: rest)) := b_put CX in_X1 tyX1 tyX1_ok rfl 0 (by decide) (by decide +kernel) q257 (Or.inl rfl) rfl hP hS ha hn hfit hl hdg kk
set_option maxHeartbeats 2000000 in
set_option maxRecDepth 100000 in
theorem m_X1_undo (l : Launch) {G : b_G} {B0 : Nat} {H : Heap} {τ : b_T} {A : Nat → Nat} {S : b_St} {n : Nat} {L : Nat → b_St} {tn : Nat} {t : Nat → Nat} (hlt : l.stackTraces = false) (hXR : XR G B0 τ A H (S, n, L, tn, t)) : vx_Met l yX1_undo (ws_ yX1_undo cX1_undo 1 (Option.some Jvm.ClassFile.FieldType.int)) ({ frames := 7, cells := 1, slots := 6, locals := 109 } : Room) (b_Pc G B0 H [.ref ((A 0))]) (b_Qi B0 (fun r H1 => o_ok1 G B0 τ A H (o_undo (S, n, L, tn, t) ) r H1)) (b_X B0 (fun E9 q9 H9 => o_px H (S, n, L, tn, t) (o_undo (S, n, L, tn, t) ) cl_C E9 H9)) 1 6 (b_A B0) := by
  refine b_ofX (by decide) (Nat.le_of_ble_eq_true rfl) ?_
  intro p e s m below meth c CX hr hlk htb hS ls hl
  have CX : b_Cx p s m _ c cX1_undo 1 RX1 G B0 := CX
  have hx := CX.hx
  have hb := CX.hb
  have hl : lv_has ls 1 [(0, .ref ((A 0)))] := hl
  generalize hQ : vx_MQ below (b_Qi B0 (fun r H1 => o_ok1 G B0 τ A H (o_undo (S, n, L, tn, t) ) r H1)) (b_X B0 (fun E9 q9 H9 => o_px H (S, n, L, tn, t) (o_undo (S, n, L, tn, t) ) cl_C E9 H9)) ([.ref ((A 0))] : List Value).toArray s 1 6 (b_A B0) = Q
  have hF : b_Fr τ (fun t => t < 200 ∨ 1000 ≤ t) H H := b_Fr.rf
  have hA : b_Ag τ τ H := b_Ag.rf
  have hX : b_Ext H H := b_Ext.rf
  obtain ⟨d0, c0, ids, P0, F, M, E, Z, sm, rs, se, ml, hs, bt, tk9, hc_X, hc_sv, hsa, hse, hc_tx, hc_tb, hbt, hc_tk, hL, hZ, hW, hV, hd0, hdc, hn, htn, ht⟩ := hXR
  have hc_X : b_tt G B0 τ H ((A 0)) 0 (.inr (0, [.ref ((F 0)), .ref ((A 1)), .ref ((A 3)), .ref ((A 5)), .long hs])) := hc_X
  have hc_sv : b_tt G B0 τ H ((A 1)) 1 (.inr (2, [.int sm, .ref ((if se = true then rs else G.2.2 0)), .int (nI n)])) := hc_sv
  have hsa : (se = true → b_tt G B0 τ H rs 2 (.inl (G.2.1 2, q_refs 10 (fun j => if j < n then some (P0 j) else none)))) := hsa
  have hc_tx : b_tt G B0 τ H ((A 3)) 3 (.inr (3, [.ref ((A 4)), .int (nI 0), .int ml, .int (nI tn)])) := hc_tx
  have hc_tb : b_tt G B0 τ H ((A 4)) 4 (.inl (G.2.1 1, 60, .inl bt)) := hc_tb
  have hc_tk : b_tt G B0 τ H ((A 5)) 5 (.inl (G.2.1 0, 8, .inl tk9)) := hc_tk
  have hL : LR G B0 τ d0 F M E H S Z := hL
  have hV : SV G B0 τ d0 c0 n ids P0 H L := hV
  have hn8 := hL.2.2.2.1
  have hn6 := hL.2.2.2.2
  have hnb : nb S = nb S := rfl
  have hns : ns S = ns S := rfl
  have hn : n ≤ 6 := hn
  have htn : tn ≤ 60 := htn
  have ht : ∀ j, t j < 128 := ht
  have hse : se = true ∨ n = 0 := hse
  have hZ : pZ Z S := hZ
  have hW : b_WF S := hW
  have hbt : ∀ j, j < tn → bt j = nI (t j) := hbt
  refine lv_aload_n hx hb dX1_undo_0 rfl (lv_at hl 0 rfl) ?_
  refine gf_X1_28_0 CX hc_X.at rfl dX1_undo_1 ?_
  refine b_ci0 (cs_X1_260 (rest := []) CX hl.1 (m_J2_isEmpty l (a := (A 1)) (ta := 1) (mc := sm) (ra := (if se = true then rs else G.2.2 0)) (n := n) hc_sv (by omega)) rfl rfl rfl hc_sv.at hS rfl ⟨rfl, rfl, Nat.le_of_ble_eq_true rfl, Nat.le_of_ble_eq_true rfl⟩ (Nat.le_of_ble_eq_true rfl) dX1_undo_4 ⟨Nat.le_of_ble_eq_true rfl, Nat.le_of_ble_eq_true rfl⟩) hS (fun locs hS => ?_)
  refine b_ifne (tgt := 14) CX dX1_undo_7 (by decide) (fun c_7 => ?_) (fun c_7 => ?_)
  · refine lv_iconst (v := nI 0) hx hb dX1_undo_14 rfl ?_
    refine b_xv0 (cx_X1_88 (rest := []) CX hl.1 (m_X1_needState l (x := nI 0) hlt) rfl hS rfl ⟨rfl, rfl, Nat.le_of_ble_eq_true rfl, Nat.le_of_ble_eq_true rfl⟩ (Nat.le_of_ble_eq_true rfl) dX1_undo_15 ⟨Nat.le_of_ble_eq_true rfl, Nat.le_of_ble_eq_true rfl⟩) hS (fun E9 q9 Hx1 locs hx9 hS he9 => ?_) (fun hk_15 locs hS => ?_)
    · rw [← hQ]
      have ho : o_undo (S, n, L, tn, t)  = f_no 1 (S, n, L, tn, t) := by
        unfold o_undo
        try dsimp only
        repeat (first | rw [if_pos (by first | assumption | exact ⟨by assumption, by assumption⟩ | (constructor <;> omega) | omega | exact fun q => absurd q (by assumption) | exact fun q => absurd q.1 (by assumption) | exact fun q => absurd q.2 (by assumption) | exact Int32.not_lt.mpr (by assumption) | exact Int32.not_le.mp (by assumption) | exact fun q => q.2 (by assumption) | exact fun q => absurd q.1 (by omega))] | rw [if_neg (by first | assumption | exact ⟨by assumption, by assumption⟩ | (constructor <;> omega) | omega | exact fun q => absurd q (by assumption) | exact fun q => absurd q.1 (by assumption) | exact fun q => absurd q.2 (by assumption) | exact Int32.not_lt.mpr (by assumption) | exact Int32.not_le.mp (by assumption) | exact fun q => q.2 (by assumption) | exact fun q => absurd q.1 (by omega))])
      exact b_xout htb hlk he9 hS (Nat.le_of_ble_eq_true rfl) (Nat.le_of_ble_eq_true rfl) ⟨hX.tr hx9.2.2, 1, by omega, by rw [ho]; rfl, by rw [ho]; rfl, hx9.2.1⟩
    exact absurd (by decide) hk_15
  · refine lv_iconst (v := nI 1) hx hb dX1_undo_10 rfl ?_
    refine lv_goto (tgt := 15) hx hb dX1_undo_11 (by decide) ?_
    refine b_xv0 (cx_X1_88 (rest := []) CX hl.1 (m_X1_needState l (x := nI 1) hlt) rfl hS rfl ⟨rfl, rfl, Nat.le_of_ble_eq_true rfl, Nat.le_of_ble_eq_true rfl⟩ (Nat.le_of_ble_eq_true rfl) dX1_undo_15 ⟨Nat.le_of_ble_eq_true rfl, Nat.le_of_ble_eq_true rfl⟩) hS (fun E9 q9 Hx2 locs hx9 hS he9 => ?_) (fun hk_15 locs hS => ?_)
    · exact absurd hx9.1 (by decide)
    refine lv_aload_n hx hb dX1_undo_18 rfl (lv_at hl 0 rfl) ?_
    refine lv_aload_n hx hb dX1_undo_19 rfl (lv_at hl 0 rfl) ?_
    refine gf_X1_28_0 CX hc_X.at rfl dX1_undo_20 ?_
    refine lv_aload_n hx hb dX1_undo_23 rfl (lv_at hl 0 rfl) ?_
    refine gf_X1_28_0 CX hc_X.at rfl dX1_undo_24 ?_
    refine b_ci0 (cs_X1_45 (rest := [.ref ((A 1)), .ref ((A 0))]) CX hl.1 (m_J2_size l (a := (A 1)) (ta := 1) (mc := sm) (ra := (if se = true then rs else G.2.2 0)) (x := nI n) hc_sv) rfl rfl rfl hc_sv.at hS rfl ⟨rfl, rfl, Nat.le_of_ble_eq_true rfl, Nat.le_of_ble_eq_true rfl⟩ (Nat.le_of_ble_eq_true rfl) dX1_undo_27 ⟨Nat.le_of_ble_eq_true rfl, Nat.le_of_ble_eq_true rfl⟩) hS (fun locs hS => ?_)
    refine lv_iconst (v := nI 1) hx hb dX1_undo_30 rfl ?_
    refine b_isubN CX (by omega) dX1_undo_31 ?_
    have hn1 : 0 < n := by omega
    have hse1 : se = true := hse.resolve_right (by omega)
    have hc_sa := hsa hse1
    rw [hse1] at hc_sv
    have hc_sv : b_tt G B0 τ H ((A 1)) 1 (.inr (2, [.int sm, .ref rs, .int (nI n)])) := hc_sv
    have en1 : n - 1 + 1 = n := by omega
    have hV1 : SV G B0 τ d0 c0 ((n - 1 + 1)) ids P0 H L := by rw [en1]; exact hV
    obtain ⟨⟨F9, M9, E9, Z9, hP9, hL, hZ9⟩, hW9, hne9, hps9, hlt9⟩ := hV1.1 (n - 1) (by omega)
    have hV : SV G B0 τ ((ids (n - 1))) c0 ((n - 1)) ids P0 H L := hV1.pop
    have hL : LR G B0 τ ((ids (n - 1))) F9 M9 E9 H ((L (n - 1))) Z9 := hL
    refine b_cq (cs_X1_49 (rest := [.ref ((A 0))]) CX hl.1 (m_J2_remove_l l (a := (A 1)) (ta := 1) (mc := sm) (ra := rs) (tr := 2) (f := P0) (n := n) (i := n - 1) hc_sv hc_sa (by omega) (by omega) (by omega) (by omega)) rfl rfl rfl hc_sv.at hS rfl ⟨rfl, rfl, Nat.le_of_ble_eq_true rfl, Nat.le_of_ble_eq_true rfl⟩ (Nat.le_of_ble_eq_true rfl) dX1_undo_32 ⟨Nat.le_of_ble_eq_true rfl, Nat.le_of_ble_eq_true rfl⟩) hS (fun r H3 locs hp hS => ?_)
    obtain ⟨rfl, hF9, hx0, hx1⟩ := hp
    have hc_X := hc_X.fr hF9 (show ¬ (0 = 1 ∨ 0 = 2) by omega)
    have hc_tx := hc_tx.fr hF9 (show ¬ (3 = 1 ∨ 3 = 2) by omega)
    have hc_tb := hc_tb.fr hF9 (show ¬ (4 = 1 ∨ 4 = 2) by omega)
    have hc_tk := hc_tk.fr hF9 (show ¬ (5 = 1 ∨ 5 = 2) by omega)
    have hL := hL.fr hF9 (fun i9 hi9 => show ¬ ((1000 * (ids (n - 1)) + i9) = 1 ∨ (1000 * (ids (n - 1)) + i9) = 2) by omega)
    have hV := hV.fr hF9 (fun k9 h1 h2 h3 i9 hi9 => show ¬ ((1000 * k9 + i9) = 1 ∨ (1000 * k9 + i9) = 2) by omega)
    have hz9 := hF.1
    have hF0 := hF.tr hA hF9 (fun q9 hq9 x9 => by have x8 : τ q9 = 1 ∨ τ q9 = 2 := x9; show τ q9 < 200 ∨ 1000 ≤ τ q9; omega)
    have hF := hF0
    have hc_sv : b_tt G B0 τ H3 ((A 1)) 1 (.inr (2, [.int (sm + 1), .ref rs, .int (nI (n - 1))])) := hx0
    have hc_sa : b_tt G B0 τ H3 rs 2 (.inl (G.2.1 2, q_refs 10 ((fun j => if j < n - 1 then some (P0 j) else none)))) := hx1
    rw [← hP9]
    have hc_sv : b_tt G B0 τ H3 (A 1) 1 (.inr (2, [.int (sm + 1), .ref (if true = true then rs else G.2.2 0), .int (nI (n - 1))])) := hc_sv
    have hsa : (true = true → b_tt G B0 τ H3 rs 2 (.inl (G.2.1 2, q_refs 10 (fun j => if j < (n - 1) then some (P0 j) else none)))) := fun _ => hc_sa
    refine b_cast CX (ci := 1) rfl hL.loop.at q134 dX1_undo_35 ?_
    refine pf_X1_19_0 CX hc_X.at hS hc_X.B rfl rfl (Nat.le_of_ble_eq_true rfl) dX1_undo_38 (fun H4 locs hat hu hS => ?_)
    have hc_sv := hc_sv.up hu hc_X.tag (by decide)
    have hc_tx := hc_tx.up hu hc_X.tag (by decide)
    have hc_tb := hc_tb.up hu hc_X.tag (by decide)
    have hc_tk := hc_tk.up hu hc_X.tag (by decide)
    have hL := hL.up hu hc_X.tag (by omega)
    have hV := hV.up hu hc_X.tag (fun k9 h1 h2 h3 => by omega)
    have hsa := fun h9 => (hsa h9).up hu hc_X.tag (by omega)
    have hF := hF.up hA hu hc_X.tag (fun _ => show 0 < 200 ∨ 1000 ≤ 0 by omega)
    have hc_X : b_tt G B0 τ H4 ((A 0)) 0 (.inr (0, [.ref ((F9 0)), .ref ((A 1)), .ref ((A 3)), .ref ((A 5)), .long hs])) := hc_X.set hat
    refine lv_aload_n hx hb dX1_undo_41 rfl (lv_at hl 0 rfl) ?_
    refine gf_X1_28_0 CX hc_X.at rfl dX1_undo_42 ?_
    refine b_ci0 (cs_X1_45 (rest := []) CX hl.1 (m_J2_size l (a := (A 1)) (ta := 1) (mc := sm + 1) (ra := (if true = true then rs else G.2.2 0)) (x := nI (n - 1)) hc_sv) rfl rfl rfl hc_sv.at hS rfl ⟨rfl, rfl, Nat.le_of_ble_eq_true rfl, Nat.le_of_ble_eq_true rfl⟩ (Nat.le_of_ble_eq_true rfl) dX1_undo_45 ⟨Nat.le_of_ble_eq_true rfl, Nat.le_of_ble_eq_true rfl⟩) hS (fun locs hS => ?_)
    have ho : o_undo (S, n, L, tn, t)  = (nI 0, nI (n - 1), ((L (n - 1)), (n - 1), L, tn, t)) := by
      unfold o_undo
      try dsimp only
      repeat (first | rw [if_pos (by first | assumption | exact ⟨by assumption, by assumption⟩ | (constructor <;> omega) | omega | exact fun q => absurd q (by assumption) | exact fun q => absurd q.1 (by assumption) | exact fun q => absurd q.2 (by assumption) | exact Int32.not_lt.mpr (by assumption) | exact Int32.not_le.mp (by assumption) | exact fun q => q.2 (by assumption) | exact fun q => absurd q.1 (by omega))] | rw [if_neg (by first | assumption | exact ⟨by assumption, by assumption⟩ | (constructor <;> omega) | omega | exact fun q => absurd q (by assumption) | exact fun q => absurd q.1 (by assumption) | exact fun q => absurd q.2 (by assumption) | exact Int32.not_lt.mpr (by assumption) | exact Int32.not_le.mp (by assumption) | exact fun q => q.2 (by assumption) | exact fun q => absurd q.1 (by omega))])
      first | rfl | (unfold f_ok f_no z_save; unfold z_undo;  rfl)
    rw [← hQ]
    exact vx_ret (b_iret CX hr hlk hS (Nat.le_of_ble_eq_true rfl) (Nat.le_of_ble_eq_true rfl) dX1_undo_48 ((by unfold o_ok1; rw [ho]; exact ⟨rfl, rfl, _, hA, hF, ⟨(ids (n - 1)), c0, ids, P0, F9, M9, E9, Z9, sm + 1, rs, true, ml, hs, bt, tk9, hc_X, hc_sv, hsa, (Or.inl rfl), hc_tx, hc_tb, hbt, hc_tk, hL, hZ9, hW9, hV, hps9, hlt9, (show n - 1 ≤ 6 by omega), htn, ht⟩⟩)))
