/-! what the system tells -/
set_option maxRecDepth 100000
theorem gone_s (S : b_St) (i : Nat) : p_acc2 (f_gone S) 9 (i + 1) = p_acc2 (f_gone S) 9 i + (S 1 i 5 + S 1 i 6 + S 1 i 7) := by
  show p_acc (p_acc2 (f_gone S) 9 i) (f_gone S i) 9 = _
  generalize p_acc2 (f_gone S) 9 i = a
  have e : p_acc a (f_gone S i) 9 = a + nI 0 + nI 0 + nI 0 + nI 0 + nI 0 + nI 0 + S 1 i 5 + S 1 i 6 + S 1 i 7 := rfl
  have z : ∀ x : Int32, x + nI 0 = x := fun x => Int32.add_zero x
  rw [e, z, z, z, z, z, z, Int32.add_assoc, Int32.add_assoc, Int32.add_assoc]
def p_mostT (S : b_St) (b s : Nat) : Int32 := p_least (p_least (nI 50) (p_least (S 1 b 2 / nI 12) (S 0 0 2))) (S 2 s 0 / p_price S b (nI 1))
set_option maxHeartbeats 2000000 in
set_option maxRecDepth 100000 in
theorem m_X1_in (l : Launch) {G : b_G} {B0 : Nat} {H : Heap} {x : Int32} {lo : Int32} {hi : Int32} : Met l yX1_in (ws_ yX1_in cX1_in 3 (Option.some Jvm.ClassFile.FieldType.boolean)) ({ frames := 0, cells := 0, slots := 0, locals := 0 } : Room) (b_Pc G B0 H [.int x, .int lo, .int hi]) (b_Qi B0 (fun r H1 => r = bI (lo ≤ x ∧ x ≤ hi) ∧ H1 = H)) 0 0 (b_A B0) := by
  refine b_of (by decide) (Nat.le_of_ble_eq_true rfl) ?_
  intro p e s m below meth c CX hr hlk hnm hS ls hl
  have CX : b_Cx p s m _ c cX1_in 3 RX1 G B0 := CX
  have hx := CX.hx
  have hb := CX.hb
  have hl : lv_has ls 3 [(0, .int x), (1, .int lo), (2, .int hi)] := hl
  generalize hQ : MQ below (b_Qi B0 (fun r H1 => r = bI (lo ≤ x ∧ x ≤ hi) ∧ H1 = H)) ([.int x, .int lo, .int hi] : List Value).toArray s 0 0 (b_A B0) = Q
  obtain ⟨τ, -⟩ : ∃ τ : b_T, True := ⟨fun _ => 0, trivial⟩
  refine lv_iload_n hx hb dX1_in_0 rfl (lv_at hl 0 rfl) ?_
  refine lv_iload_n hx hb dX1_in_1 rfl (lv_at hl 1 rfl) ?_
  refine lv_icmp_lt (tgt := 14) hx hb dX1_in_2 (by decide) (fun c_2 => ?_) (fun c_2 => ?_)
  · refine lv_iconst (v := nI 0) hx hb dX1_in_14 rfl ?_
    rw [← hQ]
    exact b_zret CX hr hlk hS (Nat.le_of_ble_eq_true rfl) (Nat.le_of_ble_eq_true rfl) rfl dX1_in_15 (⟨(by first | exact (bI_f (fun q => absurd q.1 (Int32.not_le.mpr c_2))).symm | exact (bI_f (fun q => absurd q.2 (Int32.not_le.mpr c_7))).symm | exact (bI_t ⟨Int32.not_lt.mp c_2, Int32.not_lt.mp c_7⟩).symm), rfl⟩)
  · refine lv_iload_n hx hb dX1_in_5 rfl (lv_at hl 0 rfl) ?_
    refine lv_iload_n hx hb dX1_in_6 rfl (lv_at hl 2 rfl) ?_
    refine lv_icmp_gt (tgt := 14) hx hb dX1_in_7 (by decide) (fun c_7 => ?_) (fun c_7 => ?_)
    · refine lv_iconst (v := nI 0) hx hb dX1_in_14 rfl ?_
      rw [← hQ]
      exact b_zret CX hr hlk hS (Nat.le_of_ble_eq_true rfl) (Nat.le_of_ble_eq_true rfl) rfl dX1_in_15 (⟨(by first | exact (bI_f (fun q => absurd q.1 (Int32.not_le.mpr c_2))).symm | exact (bI_f (fun q => absurd q.2 (Int32.not_le.mpr c_7))).symm | exact (bI_t ⟨Int32.not_lt.mp c_2, Int32.not_lt.mp c_7⟩).symm), rfl⟩)
    · refine lv_iconst (v := nI 1) hx hb dX1_in_10 rfl ?_
      refine lv_goto (tgt := 15) hx hb dX1_in_11 (by decide) ?_
      rw [← hQ]
      exact b_zret CX hr hlk hS (Nat.le_of_ble_eq_true rfl) (Nat.le_of_ble_eq_true rfl) rfl dX1_in_15 (⟨(by first | exact (bI_f (fun q => absurd q.1 (Int32.not_le.mpr c_2))).symm | exact (bI_f (fun q => absurd q.2 (Int32.not_le.mpr c_7))).symm | exact (bI_t ⟨Int32.not_lt.mp c_2, Int32.not_lt.mp c_7⟩).symm), rfl⟩)
theorem cs_X1_73 {p : Program} {l : Launch} {e : Env} {R : Room} {s : State} {m : MethodId} {args : Array Value} {below : List Frame} {meth : Method} {c : Code} {H : Heap} {locs : List Loc} {cells slots : Nat} {cc : ByteArray} {pc nL : Nat} {ls : Array Slot} {rest : List Value} {G : b_G} {B0 : Nat} (CX : b_Cx p s m args c cc nL RX1 G B0) (hls : ls.size = nL) {rm : Room} {mc ms : Nat} {As st0 : List Value} {Qc : Array Value → State → Outcome → State → Prop} (hM : Met l yX1_in (ws_ yX1_in cX1_in 3 (Option.some Jvm.ClassFile.FieldType.boolean)) rm (b_Pc G B0 H As) Qc mc ms (b_A B0)) (hn : As.length = 3) (hS : va_S (b_A B0) s.heap H locs) (hst : st0 = As.reverse ++ rest) (hr : rm.cells = mc ∧ rm.slots = ms ∧ rm.frames + 1 ≤ R.frames ∧ 8 + (3 + 11) + rm.locals ≤ R.locals) (hw : (rest.map fun v => v.category).sum ≤ 8) (hdg : decode cc pc = .ok (.invokestatic 73, 3)) (hf : cells + mc ≤ R.cells ∧ slots + ms ≤ R.slots) : va_Run p l e R s m args below meth c H locs cells slots mc ms (F0 m pc ls st0) rest (Qc As.toArray) (b_A B0) := va_runS CX.fix hM (va_cwS 3 CX.ts (lw_S q875 q694 q79 q695) rfl hr.1 hr.2.1 (by decide +kernel) ⟨hr.2.2.1, hr.2.2.2⟩) ⟨b_blind G B0 H _, b_pre _ CX.K hS⟩ rfl hn hls hst (lv_room hw) hdg hf
set_option maxHeartbeats 2000000 in
set_option maxRecDepth 100000 in
theorem m_X1_isKind (l : Launch) {G : b_G} {B0 : Nat} {H : Heap} {x : Int32} : Met l yX1_isKind (ws_ yX1_isKind cX1_isKind 1 (Option.some Jvm.ClassFile.FieldType.boolean)) ({ frames := 1, cells := 0, slots := 0, locals := 22 } : Room) (b_Pc G B0 H [.int x]) (b_Qi B0 (fun r H1 => r = bI (nI 0 ≤ x ∧ x ≤ nI 2) ∧ H1 = H)) 0 0 (b_A B0) := by
  refine b_of (by decide) (Nat.le_of_ble_eq_true rfl) ?_
  intro p e s m below meth c CX hr hlk hnm hS ls hl
  have CX : b_Cx p s m _ c cX1_isKind 1 RX1 G B0 := CX
  have hx := CX.hx
  have hb := CX.hb
  have hl : lv_has ls 1 [(0, .int x)] := hl
  generalize hQ : MQ below (b_Qi B0 (fun r H1 => r = bI (nI 0 ≤ x ∧ x ≤ nI 2) ∧ H1 = H)) ([.int x] : List Value).toArray s 0 0 (b_A B0) = Q
  obtain ⟨τ, -⟩ : ∃ τ : b_T, True := ⟨fun _ => 0, trivial⟩
  refine lv_iload_n hx hb dX1_isKind_0 rfl (lv_at hl 0 rfl) ?_
  refine lv_iconst (v := nI 0) hx hb dX1_isKind_1 rfl ?_
  refine lv_iconst (v := nI 2) hx hb dX1_isKind_2 rfl ?_
  refine b_ci0 (cs_X1_73 (rest := []) CX hl.1 (m_X1_in l (x := x) (lo := nI 0) (hi := nI 2) ) rfl hS rfl ⟨rfl, rfl, Nat.le_of_ble_eq_true rfl, Nat.le_of_ble_eq_true rfl⟩ (Nat.le_of_ble_eq_true rfl) dX1_isKind_3 ⟨Nat.le_of_ble_eq_true rfl, Nat.le_of_ble_eq_true rfl⟩) hS (fun locs hS => ?_)
  rw [← hQ]
  exact b_zret CX hr hlk hS (Nat.le_of_ble_eq_true rfl) (Nat.le_of_ble_eq_true rfl) bI_nar dX1_isKind_6 (⟨rfl, rfl⟩)
set_option maxHeartbeats 2000000 in
set_option maxRecDepth 100000 in
theorem m_X1_isOfShop (l : Launch) {G : b_G} {B0 : Nat} {H : Heap} {x : Int32} : Met l yX1_isOfShop (ws_ yX1_isOfShop cX1_isOfShop 1 (Option.some Jvm.ClassFile.FieldType.boolean)) ({ frames := 1, cells := 0, slots := 0, locals := 22 } : Room) (b_Pc G B0 H [.int x]) (b_Qi B0 (fun r H1 => r = bI ((nI 0 ≤ x ∧ x ≤ nI 6) ∨ (nI 10 ≤ x ∧ x ≤ nI 17) ∨ (nI 20 ≤ x ∧ x ≤ nI 27)) ∧ H1 = H)) 0 0 (b_A B0) := by
  refine b_of (by decide) (Nat.le_of_ble_eq_true rfl) ?_
  intro p e s m below meth c CX hr hlk hnm hS ls hl
  have CX : b_Cx p s m _ c cX1_isOfShop 1 RX1 G B0 := CX
  have hx := CX.hx
  have hb := CX.hb
  have hl : lv_has ls 1 [(0, .int x)] := hl
  generalize hQ : MQ below (b_Qi B0 (fun r H1 => r = bI ((nI 0 ≤ x ∧ x ≤ nI 6) ∨ (nI 10 ≤ x ∧ x ≤ nI 17) ∨ (nI 20 ≤ x ∧ x ≤ nI 27)) ∧ H1 = H)) ([.int x] : List Value).toArray s 0 0 (b_A B0) = Q
  obtain ⟨τ, -⟩ : ∃ τ : b_T, True := ⟨fun _ => 0, trivial⟩
  refine lv_iload_n hx hb dX1_isOfShop_0 rfl (lv_at hl 0 rfl) ?_
  refine lv_iconst (v := nI 0) hx hb dX1_isOfShop_1 rfl ?_
  refine lv_bipush (v := nI 6) hx hb dX1_isOfShop_2 rfl ?_
  refine b_ci0 (cs_X1_73 (rest := []) CX hl.1 (m_X1_in l (x := x) (lo := nI 0) (hi := nI 6) ) rfl hS rfl ⟨rfl, rfl, Nat.le_of_ble_eq_true rfl, Nat.le_of_ble_eq_true rfl⟩ (Nat.le_of_ble_eq_true rfl) dX1_isOfShop_4 ⟨Nat.le_of_ble_eq_true rfl, Nat.le_of_ble_eq_true rfl⟩) hS (fun locs hS => ?_)
  refine b_ifne (tgt := 32) CX dX1_isOfShop_7 (by decide) (fun c_7 => ?_) (fun c_7 => ?_)
  · refine lv_iconst (v := nI 1) hx hb dX1_isOfShop_32 rfl ?_
    refine lv_goto (tgt := 37) hx hb dX1_isOfShop_33 (by decide) ?_
    rw [← hQ]
    exact b_zret CX hr hlk hS (Nat.le_of_ble_eq_true rfl) (Nat.le_of_ble_eq_true rfl) rfl dX1_isOfShop_37 (⟨(by first | exact (bI_t (Or.inl (by assumption))).symm | exact (bI_t (Or.inr (Or.inl (by assumption)))).symm | exact (bI_t (Or.inr (Or.inr (by assumption)))).symm | exact (bI_f (fun q => q.elim (by assumption) (fun q => q.elim (by assumption) (by assumption)))).symm), rfl⟩)
  · refine lv_iload_n hx hb dX1_isOfShop_10 rfl (lv_at hl 0 rfl) ?_
    refine lv_bipush (v := nI 10) hx hb dX1_isOfShop_11 rfl ?_
    refine lv_bipush (v := nI 17) hx hb dX1_isOfShop_13 rfl ?_
    refine b_ci0 (cs_X1_73 (rest := []) CX hl.1 (m_X1_in l (x := x) (lo := nI 10) (hi := nI 17) ) rfl hS rfl ⟨rfl, rfl, Nat.le_of_ble_eq_true rfl, Nat.le_of_ble_eq_true rfl⟩ (Nat.le_of_ble_eq_true rfl) dX1_isOfShop_15 ⟨Nat.le_of_ble_eq_true rfl, Nat.le_of_ble_eq_true rfl⟩) hS (fun locs hS => ?_)
    refine b_ifne (tgt := 32) CX dX1_isOfShop_18 (by decide) (fun c_18 => ?_) (fun c_18 => ?_)
    · refine lv_iconst (v := nI 1) hx hb dX1_isOfShop_32 rfl ?_
      refine lv_goto (tgt := 37) hx hb dX1_isOfShop_33 (by decide) ?_
      rw [← hQ]
      exact b_zret CX hr hlk hS (Nat.le_of_ble_eq_true rfl) (Nat.le_of_ble_eq_true rfl) rfl dX1_isOfShop_37 (⟨(by first | exact (bI_t (Or.inl (by assumption))).symm | exact (bI_t (Or.inr (Or.inl (by assumption)))).symm | exact (bI_t (Or.inr (Or.inr (by assumption)))).symm | exact (bI_f (fun q => q.elim (by assumption) (fun q => q.elim (by assumption) (by assumption)))).symm), rfl⟩)
    · refine lv_iload_n hx hb dX1_isOfShop_21 rfl (lv_at hl 0 rfl) ?_
      refine lv_bipush (v := nI 20) hx hb dX1_isOfShop_22 rfl ?_
      refine lv_bipush (v := nI 27) hx hb dX1_isOfShop_24 rfl ?_
      refine b_ci0 (cs_X1_73 (rest := []) CX hl.1 (m_X1_in l (x := x) (lo := nI 20) (hi := nI 27) ) rfl hS rfl ⟨rfl, rfl, Nat.le_of_ble_eq_true rfl, Nat.le_of_ble_eq_true rfl⟩ (Nat.le_of_ble_eq_true rfl) dX1_isOfShop_26 ⟨Nat.le_of_ble_eq_true rfl, Nat.le_of_ble_eq_true rfl⟩) hS (fun locs hS => ?_)
      refine b_ifeq (tgt := 36) CX dX1_isOfShop_29 (by decide) (fun c_29 => ?_) (fun c_29 => ?_)
      · refine lv_iconst (v := nI 0) hx hb dX1_isOfShop_36 rfl ?_
        rw [← hQ]
        exact b_zret CX hr hlk hS (Nat.le_of_ble_eq_true rfl) (Nat.le_of_ble_eq_true rfl) rfl dX1_isOfShop_37 (⟨(by first | exact (bI_t (Or.inl (by assumption))).symm | exact (bI_t (Or.inr (Or.inl (by assumption)))).symm | exact (bI_t (Or.inr (Or.inr (by assumption)))).symm | exact (bI_f (fun q => q.elim (by assumption) (fun q => q.elim (by assumption) (by assumption)))).symm), rfl⟩)
      · refine lv_iconst (v := nI 1) hx hb dX1_isOfShop_32 rfl ?_
        refine lv_goto (tgt := 37) hx hb dX1_isOfShop_33 (by decide) ?_
        rw [← hQ]
        exact b_zret CX hr hlk hS (Nat.le_of_ble_eq_true rfl) (Nat.le_of_ble_eq_true rfl) rfl dX1_isOfShop_37 (⟨(by first | exact (bI_t (Or.inl (by assumption))).symm | exact (bI_t (Or.inr (Or.inl (by assumption)))).symm | exact (bI_t (Or.inr (Or.inr (by assumption)))).symm | exact (bI_f (fun q => q.elim (by assumption) (fun q => q.elim (by assumption) (by assumption)))).symm), rfl⟩)
set_option maxHeartbeats 2000000 in
set_option maxRecDepth 100000 in
theorem m_X1_sum (l : Launch) {G : b_G} {B0 : Nat} {H : Heap} {τ : b_T} {ra : Nat} {tr : Nat} {f : Nat → Int32} (hc_ar : b_tt G B0 τ H ra (tr) (.inl (G.2.1 0, 8, .inl f))) : Met l yX1_sum (ws_ yX1_sum cX1_sum 6 (Option.some Jvm.ClassFile.FieldType.int)) ({ frames := 0, cells := 0, slots := 0, locals := 0 } : Room) (b_Pc G B0 H [.ref ra]) (b_Qi B0 (fun r H1 => r = p_sum f 8 ∧ H1 = H)) 0 0 (b_A B0) := by
  refine b_of (by decide) (Nat.le_of_ble_eq_true rfl) ?_
  intro p e s m below meth c CX hr hlk hnm hS ls hl
  have CX : b_Cx p s m _ c cX1_sum 6 RX1 G B0 := CX
  have hx := CX.hx
  have hb := CX.hb
  have hl : lv_has ls 6 [(0, .ref ra)] := hl
  generalize hQ : MQ below (b_Qi B0 (fun r H1 => r = p_sum f 8 ∧ H1 = H)) ([.ref ra] : List Value).toArray s 0 0 (b_A B0) = Q
  refine lv_iconst (v := nI 0) hx hb dX1_sum_0 rfl ?_
  refine lv_istore_n (lv' := [(1, .int (nI 0)), (0, .ref ra)]) hx hb dX1_sum_1 rfl hl (Nat.le_of_ble_eq_true rfl) rfl (fun ls hl => ?_)
  refine lv_aload_n hx hb dX1_sum_2 rfl (lv_at hl 1 rfl) ?_
  refine lv_astore_n (lv' := [(2, .ref ra), (1, .int (nI 0)), (0, .ref ra)]) hx hb dX1_sum_3 rfl hl (Nat.le_of_ble_eq_true rfl) rfl (fun ls hl => ?_)
  refine lv_aload_n hx hb dX1_sum_4 rfl (lv_at hl 0 rfl) ?_
  refine b_alen CX hc_ar.at (K := 0) rfl (v := nI 8) rfl dX1_sum_5 ?_
  refine lv_istore_n (lv' := [(3, .int (nI 8)), (2, .ref ra), (1, .int (nI 0)), (0, .ref ra)]) hx hb dX1_sum_6 rfl hl (Nat.le_of_ble_eq_true rfl) rfl (fun ls hl => ?_)
  refine lv_iconst (v := nI 0) hx hb dX1_sum_7 rfl ?_
  refine lv_istore (lv' := [(4, .int (nI 0)), (3, .int (nI 8)), (2, .ref ra), (1, .int (nI 0)), (0, .ref ra)]) hx hb dX1_sum_8 hl (Nat.le_of_ble_eq_true rfl) rfl (fun ls hl => ?_)
  have lp10_1 : ∀ (n_ : Nat) (i : Nat), i ≤ 8 → 8 - i < n_ → ∀ (locs : List Loc), va_S (b_A B0) s.heap H locs → ∀ ls : Array Slot, lv_has ls 6 [(1, .int (p_sum f i)), (4, .int (nI i)), (3, .int (nI 8)), (2, .ref ra), (0, .ref ra)] → W p l e ({ frames := 0, cells := 0, slots := 0, locals := 0 } : Room) s m ([.ref ra] : List Value).toArray below meth c H locs 0 0 Q (F0 m 10 ls []) := by
    intro n_
    induction n_ with
    | zero => intro i hi hlt locs hS ls hl; exact absurd hlt (Nat.not_lt_zero _)
    | succ n_ ih10 =>
      intro i hi hlt locs hS ls hl
      refine lv_iload hx hb dX1_sum_10 (lv_at hl 1 rfl) ?_
      refine lv_iload_n hx hb dX1_sum_12 rfl (lv_at hl 2 rfl) ?_
      refine b_icmp_geN (tgt := 33) CX (by omega) (by omega) dX1_sum_13 (by decide) (fun c_13 => ?_) (fun c_13 => ?_)
      · obtain rfl : i = 8 := by omega
        refine lv_iload_n hx hb dX1_sum_33 rfl (lv_at hl 0 rfl) ?_
        rw [← hQ]
        exact b_iret CX hr hlk hS (Nat.le_of_ble_eq_true rfl) (Nat.le_of_ble_eq_true rfl) dX1_sum_34 (⟨rfl, rfl⟩)
      · refine lv_aload_n hx hb dX1_sum_16 rfl (lv_at hl 3 rfl) ?_
        refine lv_iload hx hb dX1_sum_17 (lv_at hl 1 rfl) ?_
        refine b_ild CX hc_ar.at (x := f i) (vp_in_nI (by omega) (by omega)) (b_at_nI (f := f) (n := i) (by omega) rfl) dX1_sum_19 ?_
        refine lv_istore (lv' := [(5, .int (f i)), (1, .int (p_sum f i)), (4, .int (nI i)), (3, .int (nI 8)), (2, .ref ra), (0, .ref ra)]) hx hb dX1_sum_20 hl (Nat.le_of_ble_eq_true rfl) rfl (fun ls hl => ?_)
        refine lv_iload_n hx hb dX1_sum_22 rfl (lv_at hl 1 rfl) ?_
        refine lv_iload hx hb dX1_sum_23 (lv_at hl 0 rfl) ?_
        refine lv_iadd hx hb dX1_sum_25 ?_
        refine lv_istore_n (lv' := [(1, .int ((p_sum f i) + (f i))), (5, .int (f i)), (4, .int (nI i)), (3, .int (nI 8)), (2, .ref ra), (0, .ref ra)]) hx hb dX1_sum_26 rfl hl (Nat.le_of_ble_eq_true rfl) rfl (fun ls hl => ?_)
        refine lv_iinc (v := nI (i + 1)) (lv' := [(4, .int (nI (i + 1))), (1, .int ((p_sum f i) + (f i))), (5, .int (f i)), (3, .int (nI 8)), (2, .ref ra), (0, .ref ra)]) hx hb dX1_sum_27 hl (k := 2) rfl (nI_1 _) (Nat.le_of_ble_eq_true rfl) rfl (fun ls hl => ?_)
        refine lv_goto (tgt := 10) hx hb dX1_sum_30 (by decide) ?_
        exact ih10 (i + 1) (by omega) (by omega) _ hS ls (lv_sub hl [1, 0, 3, 4, 5] rfl)
  exact lp10_1 _ 0 (Nat.zero_le _) (Nat.lt_succ_self _) _ hS ls (lv_sub hl [3, 0, 1, 2, 4] rfl)
theorem gf_X1_19_0 {p : Program} {l : Launch} {e : Env} {R : Room} {s : State} {m : MethodId} {args : Array Value} {below : List Frame} {meth : Method} {c : Code} {H : Heap} {locs : List Loc} {cells slots : Nat} {Q : State → Prop} {cc : ByteArray} {pc nL a : Nat} {ls : Array Slot} {rest : List Value} {G : b_G} {B0 : Nat} (CX : b_Cx p s m args c cc nL RX1 G B0) {fs : List Value} (hP : b_at G a (.inr (0, fs)) H) {v : Value} (hv : fs[0]? = some v) (hdg : decode cc pc = .ok (.getfield 19, 3)) (kk : W p l e R s m args below meth c H locs cells slots Q (F0 m (pc + 3) ls (v :: rest))) : W p l e R s m args below meth c H locs cells slots Q (F0 m pc ls (.ref a :: rest)) := b_get CX in_X1 rfl 0 (by decide) q257 (Or.inl rfl) hP hv hdg kk
theorem gf_X1_70_1 {p : Program} {l : Launch} {e : Env} {R : Room} {s : State} {m : MethodId} {args : Array Value} {below : List Frame} {meth : Method} {c : Code} {H : Heap} {locs : List Loc} {cells slots : Nat} {Q : State → Prop} {cc : ByteArray} {pc nL a : Nat} {ls : Array Slot} {rest : List Value} {G : b_G} {B0 : Nat} (CX : b_Cx p s m args c cc nL RX1 G B0) {fs : List Value} (hP : b_at G a (.inr (1, fs)) H) {v : Value} (hv : fs[0]? = some v) (hdg : decode cc pc = .ok (.getfield 70, 3)) (kk : W p l e R s m args below meth c H locs cells slots Q (F0 m (pc + 3) ls (v :: rest))) : W p l e R s m args below meth c H locs cells slots Q (F0 m pc ls (.ref a :: rest)) := b_getN CX in_X2 rfl 0 (by decide) q172 (Or.inl rfl) hP hv hdg kk
theorem cs_X1_45 {p : Program} {l : Launch} {e : Env} {R : Room} {s : State} {m : MethodId} {args : Array Value} {below : List Frame} {meth : Method} {c : Code} {H : Heap} {locs : List Loc} {cells slots : Nat} {cc : ByteArray} {pc nL a : Nat} {ls : Array Slot} {rest : List Value} {G : b_G} {B0 : Nat} (CX : b_Cx p s m args c cc nL RX1 G B0) (hls : ls.size = nL) {rm : Room} {mc ms : Nat} {As st0 : List Value} {Qc : Array Value → State → Outcome → State → Prop} (hM : Met l yJ2_size (ws_ yJ2_size cJ2_size 1 (Option.some Jvm.ClassFile.FieldType.int)) rm (b_Pc G B0 H (.ref a :: As)) Qc mc ms (b_A B0)) (hn : As.length = 0) {fs : List Value} {ci : Nat} {qc : vw_C} (hc : b_cl[ci]? = some qc) (hq : qc.1 = RJ2) (hP : b_at G a (.inr (ci, fs)) H) (hS : va_S (b_A B0) s.heap H locs) (hst : st0 = As.reverse ++ .ref a :: rest) (hr : rm.cells = mc ∧ rm.slots = ms ∧ rm.frames + 1 ≤ R.frames ∧ 8 + (1 + 11) + rm.locals ≤ R.locals) (hw : (rest.map fun v => v.category).sum ≤ 8) (hdg : decode cc pc = .ok (.invokevirtual 45, 3)) (hf : cells + mc ≤ R.cells ∧ slots + ms ≤ R.slots) : va_Run p l e R s m args below meth c H locs cells slots mc ms (F0 m pc ls st0) rest (Qc (Value.ref a :: As).toArray) (b_A B0) := va_runV CX.fix hM (cwV 0 CX.ts (lw_V q791 q792 q793 q83 q794) rfl hr.1 hr.2.1 (by decide +kernel) ⟨hr.2.2.1, hr.2.2.2⟩) ⟨b_blind G B0 H _, by have h9 := b_recv CX.K hc hP; rw [hq] at h9; exact h9, b_pre _ CX.K hS⟩ rfl hn hls hst (lv_room hw) hdg hf
set_option maxHeartbeats 2000000 in
set_option maxRecDepth 100000 in
theorem m_X1_isBrand (l : Launch) {G : b_G} {B0 : Nat} {H : Heap} {τ : b_T} {id : Nat} {F : Nat → Nat} {M : Nat → Int32} {E : Nat → Bool} {S : b_St} {Z : Nat → Nat → Int32} {a : Nat} {asv : Nat} {atx : Nat} {atk : Nat} {hs : Int64} {x : Int32} (hc_X : b_tt G B0 τ H a 0 (.inr (0, [.ref ((F 0)), .ref asv, .ref atx, .ref atk, .long hs]))) (hL : LR G B0 τ id F M E H S Z) (hW : b_WF S) : Met l yX1_isBrand (ws_ yX1_isBrand cX1_isBrand 2 (Option.some Jvm.ClassFile.FieldType.boolean)) ({ frames := 1, cells := 0, slots := 0, locals := 22 } : Room) (b_Pc G B0 H [.ref a, .int x]) (b_Qi B0 (fun r H1 => r = bI (nI 0 ≤ x ∧ x ≤ nI (nb S) - nI 1) ∧ H1 = H)) 0 0 (b_A B0) := by
  refine b_of (by decide) (Nat.le_of_ble_eq_true rfl) ?_
  intro p e s m below meth c CX hr hlk hnm hS ls hl
  have CX : b_Cx p s m _ c cX1_isBrand 2 RX1 G B0 := CX
  have hx := CX.hx
  have hb := CX.hb
  have hl : lv_has ls 2 [(0, .ref a), (1, .int x)] := hl
  generalize hQ : MQ below (b_Qi B0 (fun r H1 => r = bI (nI 0 ≤ x ∧ x ≤ nI (nb S) - nI 1) ∧ H1 = H)) ([.ref a, .int x] : List Value).toArray s 0 0 (b_A B0) = Q
  have hnb : nb S = nb S := rfl
  have hns : ns S = ns S := rfl
  have hn8 := hL.2.2.2.1
  have hn6 := hL.2.2.2.2
  refine lv_iload_n hx hb dX1_isBrand_0 rfl (lv_at hl 1 rfl) ?_
  refine lv_iconst (v := nI 0) hx hb dX1_isBrand_1 rfl ?_
  refine lv_aload_n hx hb dX1_isBrand_2 rfl (lv_at hl 0 rfl) ?_
  refine gf_X1_19_0 CX hc_X.at rfl dX1_isBrand_3 ?_
  refine gf_X1_70_1 CX hL.loop.at rfl dX1_isBrand_6 ?_
  refine b_ci0 (cs_X1_45 (rest := [.int (nI 0), .int x]) CX hl.1 (m_J2_size l (a := (F 1)) (ta := 1000 * id + 1) (mc := M 1) (ra := (if E 1 = true then F 2 else G.2.2 0)) (x := S 0 0 0) hL.al1) rfl rfl rfl hL.al1.at hS rfl ⟨rfl, rfl, Nat.le_of_ble_eq_true rfl, Nat.le_of_ble_eq_true rfl⟩ (Nat.le_of_ble_eq_true rfl) dX1_isBrand_9 ⟨Nat.le_of_ble_eq_true rfl, Nat.le_of_ble_eq_true rfl⟩) hS (fun locs hS => ?_)
  refine b_top (x := (S 0 0 0)) (y := nI (nb S)) (hW.nbE) ?_
  refine lv_iconst (v := nI 1) hx hb dX1_isBrand_12 rfl ?_
  refine lv_isub hx hb dX1_isBrand_13 ?_
  refine b_ci0 (cs_X1_73 (rest := []) CX hl.1 (m_X1_in l (x := x) (lo := nI 0) (hi := (nI (nb S)) - (nI 1)) ) rfl hS rfl ⟨rfl, rfl, Nat.le_of_ble_eq_true rfl, Nat.le_of_ble_eq_true rfl⟩ (Nat.le_of_ble_eq_true rfl) dX1_isBrand_14 ⟨Nat.le_of_ble_eq_true rfl, Nat.le_of_ble_eq_true rfl⟩) hS (fun locs hS => ?_)
  rw [← hQ]
  exact b_zret CX hr hlk hS (Nat.le_of_ble_eq_true rfl) (Nat.le_of_ble_eq_true rfl) bI_nar dX1_isBrand_17 (⟨rfl, rfl⟩)
theorem gf_X1_77_1 {p : Program} {l : Launch} {e : Env} {R : Room} {s : State} {m : MethodId} {args : Array Value} {below : List Frame} {meth : Method} {c : Code} {H : Heap} {locs : List Loc} {cells slots : Nat} {Q : State → Prop} {cc : ByteArray} {pc nL a : Nat} {ls : Array Slot} {rest : List Value} {G : b_G} {B0 : Nat} (CX : b_Cx p s m args c cc nL RX1 G B0) {fs : List Value} (hP : b_at G a (.inr (1, fs)) H) {v : Value} (hv : fs[1]? = some v) (hdg : decode cc pc = .ok (.getfield 77, 3)) (kk : W p l e R s m args below meth c H locs cells slots Q (F0 m (pc + 3) ls (v :: rest))) : W p l e R s m args below meth c H locs cells slots Q (F0 m pc ls (.ref a :: rest)) := b_getN CX in_X2 rfl 1 (by decide) q179 (Or.inl rfl) hP hv hdg kk
set_option maxHeartbeats 2000000 in
set_option maxRecDepth 100000 in
theorem m_X1_isShop (l : Launch) {G : b_G} {B0 : Nat} {H : Heap} {τ : b_T} {id : Nat} {F : Nat → Nat} {M : Nat → Int32} {E : Nat → Bool} {S : b_St} {Z : Nat → Nat → Int32} {a : Nat} {asv : Nat} {atx : Nat} {atk : Nat} {hs : Int64} {x : Int32} (hc_X : b_tt G B0 τ H a 0 (.inr (0, [.ref ((F 0)), .ref asv, .ref atx, .ref atk, .long hs]))) (hL : LR G B0 τ id F M E H S Z) (hW : b_WF S) : Met l yX1_isShop (ws_ yX1_isShop cX1_isShop 2 (Option.some Jvm.ClassFile.FieldType.boolean)) ({ frames := 1, cells := 0, slots := 0, locals := 22 } : Room) (b_Pc G B0 H [.ref a, .int x]) (b_Qi B0 (fun r H1 => r = bI (nI 0 ≤ x ∧ x ≤ nI (ns S) - nI 1) ∧ H1 = H)) 0 0 (b_A B0) := by
  refine b_of (by decide) (Nat.le_of_ble_eq_true rfl) ?_
  intro p e s m below meth c CX hr hlk hnm hS ls hl
  have CX : b_Cx p s m _ c cX1_isShop 2 RX1 G B0 := CX
  have hx := CX.hx
  have hb := CX.hb
  have hl : lv_has ls 2 [(0, .ref a), (1, .int x)] := hl
  generalize hQ : MQ below (b_Qi B0 (fun r H1 => r = bI (nI 0 ≤ x ∧ x ≤ nI (ns S) - nI 1) ∧ H1 = H)) ([.ref a, .int x] : List Value).toArray s 0 0 (b_A B0) = Q
  have hnb : nb S = nb S := rfl
  have hns : ns S = ns S := rfl
  have hn8 := hL.2.2.2.1
  have hn6 := hL.2.2.2.2
  refine lv_iload_n hx hb dX1_isShop_0 rfl (lv_at hl 1 rfl) ?_
  refine lv_iconst (v := nI 0) hx hb dX1_isShop_1 rfl ?_
  refine lv_aload_n hx hb dX1_isShop_2 rfl (lv_at hl 0 rfl) ?_
  refine gf_X1_19_0 CX hc_X.at rfl dX1_isShop_3 ?_
  refine gf_X1_77_1 CX hL.loop.at rfl dX1_isShop_6 ?_
  refine b_ci0 (cs_X1_45 (rest := [.int (nI 0), .int x]) CX hl.1 (m_J2_size l (a := (F 3)) (ta := 1000 * id + 3) (mc := M 3) (ra := (if E 3 = true then F 4 else G.2.2 0)) (x := S 0 0 1) hL.al3) rfl rfl rfl hL.al3.at hS rfl ⟨rfl, rfl, Nat.le_of_ble_eq_true rfl, Nat.le_of_ble_eq_true rfl⟩ (Nat.le_of_ble_eq_true rfl) dX1_isShop_9 ⟨Nat.le_of_ble_eq_true rfl, Nat.le_of_ble_eq_true rfl⟩) hS (fun locs hS => ?_)
  refine b_top (x := (S 0 0 1)) (y := nI (ns S)) (hW.nsE) ?_
  refine lv_iconst (v := nI 1) hx hb dX1_isShop_12 rfl ?_
  refine lv_isub hx hb dX1_isShop_13 ?_
  refine b_ci0 (cs_X1_73 (rest := []) CX hl.1 (m_X1_in l (x := x) (lo := nI 0) (hi := (nI (ns S)) - (nI 1)) ) rfl hS rfl ⟨rfl, rfl, Nat.le_of_ble_eq_true rfl, Nat.le_of_ble_eq_true rfl⟩ (Nat.le_of_ble_eq_true rfl) dX1_isShop_14 ⟨Nat.le_of_ble_eq_true rfl, Nat.le_of_ble_eq_true rfl⟩) hS (fun locs hS => ?_)
  rw [← hQ]
  exact b_zret CX hr hlk hS (Nat.le_of_ble_eq_true rfl) (Nat.le_of_ble_eq_true rfl) bI_nar dX1_isShop_17 (⟨rfl, rfl⟩)
theorem cs_X1_103 {p : Program} {l : Launch} {e : Env} {R : Room} {s : State} {m : MethodId} {args : Array Value} {below : List Frame} {meth : Method} {c : Code} {H : Heap} {locs : List Loc} {cells slots : Nat} {cc : ByteArray} {pc nL a : Nat} {ls : Array Slot} {rest : List Value} {G : b_G} {B0 : Nat} (CX : b_Cx p s m args c cc nL RX1 G B0) (hls : ls.size = nL) {rm : Room} {mc ms : Nat} {As st0 : List Value} {Qc : Array Value → State → Outcome → State → Prop} (hM : Met l yJ2_get (ws_ yJ2_get cJ2_get 2 (Option.some (Jvm.ClassFile.FieldType.object "java/lang/Object"))) rm (b_Pc G B0 H (.ref a :: As)) Qc mc ms (b_A B0)) (hn : As.length = 1) {fs : List Value} {ci : Nat} {qc : vw_C} (hc : b_cl[ci]? = some qc) (hq : qc.1 = RJ2) (hP : b_at G a (.inr (ci, fs)) H) (hS : va_S (b_A B0) s.heap H locs) (hst : st0 = As.reverse ++ .ref a :: rest) (hr : rm.cells = mc ∧ rm.slots = ms ∧ rm.frames + 1 ≤ R.frames ∧ 8 + (2 + 11) + rm.locals ≤ R.locals) (hw : (rest.map fun v => v.category).sum ≤ 8) (hdg : decode cc pc = .ok (.invokevirtual 103, 3)) (hf : cells + mc ≤ R.cells ∧ slots + ms ≤ R.slots) : va_Run p l e R s m args below meth c H locs cells slots mc ms (F0 m pc ls st0) rest (Qc (Value.ref a :: As).toArray) (b_A B0) := va_runV CX.fix hM (cwV 1 CX.ts (lw_V q795 q796 q797 q83 q798) rfl hr.1 hr.2.1 (by decide +kernel) ⟨hr.2.2.1, hr.2.2.2⟩) ⟨b_blind G B0 H _, by have h9 := b_recv CX.K hc hP; rw [hq] at h9; exact h9, b_pre _ CX.K hS⟩ rfl hn hls hst (lv_room hw) hdg hf
theorem gf_X1_110_5 {p : Program} {l : Launch} {e : Env} {R : Room} {s : State} {m : MethodId} {args : Array Value} {below : List Frame} {meth : Method} {c : Code} {H : Heap} {locs : List Loc} {cells slots : Nat} {Q : State → Prop} {cc : ByteArray} {pc nL a : Nat} {ls : Array Slot} {rest : List Value} {G : b_G} {B0 : Nat} (CX : b_Cx p s m args c cc nL RX1 G B0) {fs : List Value} (hP : b_at G a (.inr (5, fs)) H) {v : Value} (hv : fs[3]? = some v) (hdg : decode cc pc = .ok (.getfield 110, 3)) (kk : W p l e R s m args below meth c H locs cells slots Q (F0 m (pc + 3) ls (v :: rest))) : W p l e R s m args below meth c H locs cells slots Q (F0 m pc ls (.ref a :: rest)) := b_getN CX in_X5 rfl 3 (by decide) q1065 (Or.inl rfl) hP hv hdg kk
set_option maxHeartbeats 2000000 in
set_option maxRecDepth 100000 in
theorem m_X1_cratesInShops (l : Launch) {G : b_G} {B0 : Nat} {H : Heap} {τ : b_T} {id : Nat} {F : Nat → Nat} {M : Nat → Int32} {E : Nat → Bool} {S : b_St} {Z : Nat → Nat → Int32} {a : Nat} {asv : Nat} {atx : Nat} {atk : Nat} {hs : Int64} (hc_X : b_tt G B0 τ H a 0 (.inr (0, [.ref ((F 0)), .ref asv, .ref atx, .ref atk, .long hs]))) (hL : LR G B0 τ id F M E H S Z) (hW : b_WF S) : Met l yX1_cratesInShops (ws_ yX1_cratesInShops cX1_cratesInShops 3 (Option.some Jvm.ClassFile.FieldType.int)) ({ frames := 3, cells := 0, slots := 0, locals := 64 } : Room) (b_Pc G B0 H [.ref a]) (b_Qi B0 (fun r H1 => r = p_crates S ∧ H1 = H)) 0 0 (b_A B0) := by
  refine b_of (by decide) (Nat.le_of_ble_eq_true rfl) ?_
  intro p e s m below meth c CX hr hlk hnm hS ls hl
  have CX : b_Cx p s m _ c cX1_cratesInShops 3 RX1 G B0 := CX
  have hx := CX.hx
  have hb := CX.hb
  have hl : lv_has ls 3 [(0, .ref a)] := hl
  generalize hQ : MQ below (b_Qi B0 (fun r H1 => r = p_crates S ∧ H1 = H)) ([.ref a] : List Value).toArray s 0 0 (b_A B0) = Q
  have hnb : nb S = nb S := rfl
  have hns : ns S = ns S := rfl
  have hn8 := hL.2.2.2.1
  have hn6 := hL.2.2.2.2
  refine lv_iconst (v := nI 0) hx hb dX1_cratesInShops_0 rfl ?_
  refine lv_istore_n (lv' := [(1, .int (nI 0)), (0, .ref a)]) hx hb dX1_cratesInShops_1 rfl hl (Nat.le_of_ble_eq_true rfl) rfl (fun ls hl => ?_)
  refine lv_iconst (v := nI 0) hx hb dX1_cratesInShops_2 rfl ?_
  refine lv_istore_n (lv' := [(2, .int (nI 0)), (1, .int (nI 0)), (0, .ref a)]) hx hb dX1_cratesInShops_3 rfl hl (Nat.le_of_ble_eq_true rfl) rfl (fun ls hl => ?_)
  have lp4_1 : ∀ (n_ : Nat) (i : Nat), i ≤ ns S → ns S - i < n_ → ∀ (locs : List Loc), va_S (b_A B0) s.heap H locs → ∀ ls : Array Slot, lv_has ls 3 [(1, .int (p_sum (f_crates S) i)), (2, .int (nI i)), (0, .ref a)] → W p l e ({ frames := 3, cells := 0, slots := 0, locals := 64 } : Room) s m ([.ref a] : List Value).toArray below meth c H locs 0 0 Q (F0 m 4 ls []) := by
    intro n_
    induction n_ with
    | zero => intro i hi hlt locs hS ls hl; exact absurd hlt (Nat.not_lt_zero _)
    | succ n_ ih4 =>
      intro i hi hlt locs hS ls hl
      refine lv_iload_n hx hb dX1_cratesInShops_4 rfl (lv_at hl 1 rfl) ?_
      refine lv_aload_n hx hb dX1_cratesInShops_5 rfl (lv_at hl 2 rfl) ?_
      refine gf_X1_19_0 CX hc_X.at rfl dX1_cratesInShops_6 ?_
      refine gf_X1_77_1 CX hL.loop.at rfl dX1_cratesInShops_9 ?_
      refine b_ci0 (cs_X1_45 (rest := [.int (nI i)]) CX hl.1 (m_J2_size l (a := (F 3)) (ta := 1000 * id + 3) (mc := M 3) (ra := (if E 3 = true then F 4 else G.2.2 0)) (x := S 0 0 1) hL.al3) rfl rfl rfl hL.al3.at hS rfl ⟨rfl, rfl, Nat.le_of_ble_eq_true rfl, Nat.le_of_ble_eq_true rfl⟩ (Nat.le_of_ble_eq_true rfl) dX1_cratesInShops_12 ⟨Nat.le_of_ble_eq_true rfl, Nat.le_of_ble_eq_true rfl⟩) hS (fun locs hS => ?_)
      refine b_top (x := (S 0 0 1)) (y := nI (ns S)) (hW.nsE) ?_
      refine b_icmp_geN (tgt := 44) CX (by omega) (by omega) dX1_cratesInShops_15 (by decide) (fun c_15 => ?_) (fun c_15 => ?_)
      · obtain rfl : i = ns S := by omega
        refine lv_iload_n hx hb dX1_cratesInShops_44 rfl (lv_at hl 0 rfl) ?_
        rw [← hQ]
        exact b_iret CX hr hlk hS (Nat.le_of_ble_eq_true rfl) (Nat.le_of_ble_eq_true rfl) dX1_cratesInShops_45 (⟨rfl, rfl⟩)
      · refine lv_iload_n hx hb dX1_cratesInShops_18 rfl (lv_at hl 0 rfl) ?_
        refine lv_aload_n hx hb dX1_cratesInShops_19 rfl (lv_at hl 2 rfl) ?_
        refine gf_X1_19_0 CX hc_X.at rfl dX1_cratesInShops_20 ?_
        refine gf_X1_77_1 CX hL.loop.at rfl dX1_cratesInShops_23 ?_
        refine lv_iload_n hx hb dX1_cratesInShops_26 rfl (lv_at hl 1 rfl) ?_
        refine b_cq0 (cs_X1_103 (rest := [.int (p_sum (f_crates S) i)]) CX hl.1 (m_J2_get l (a := (F 3)) (ta := 1000 * id + 3) (mc := M 3) (ra := (F 4)) (tr := 1000 * id + 4) (f := (fun j => F (30 + j))) (n := ns S) (i := i) (hL.alg3 hW (by omega)) (hL.arg4 (by omega)) (by omega) (by omega)) rfl rfl rfl (hL.alg3 hW (by omega)).at hS rfl ⟨rfl, rfl, Nat.le_of_ble_eq_true rfl, Nat.le_of_ble_eq_true rfl⟩ (Nat.le_of_ble_eq_true rfl) dX1_cratesInShops_27 ⟨Nat.le_of_ble_eq_true rfl, Nat.le_of_ble_eq_true rfl⟩) hS (fun locs hS => ?_)
        refine b_cast CX (ci := 5) rfl (hL.shop (k := i) (by omega)).at q820 dX1_cratesInShops_30 ?_
        refine gf_X1_110_5 CX (hL.shop (k := i) (by omega)).at rfl dX1_cratesInShops_33 ?_
        refine lv_iadd hx hb dX1_cratesInShops_36 ?_
        refine lv_istore_n (lv' := [(1, .int ((p_sum (f_crates S) i) + (S 2 i 1))), (2, .int (nI i)), (0, .ref a)]) hx hb dX1_cratesInShops_37 rfl hl (Nat.le_of_ble_eq_true rfl) rfl (fun ls hl => ?_)
        refine lv_iinc (v := nI (i + 1)) (lv' := [(2, .int (nI (i + 1))), (1, .int ((p_sum (f_crates S) i) + (S 2 i 1))), (0, .ref a)]) hx hb dX1_cratesInShops_38 hl (k := 1) rfl (nI_1 _) (Nat.le_of_ble_eq_true rfl) rfl (fun ls hl => ?_)
        refine lv_goto (tgt := 4) hx hb dX1_cratesInShops_41 (by decide) ?_
        exact ih4 (i + 1) (by omega) (by omega) _ hS ls (lv_sub hl [1, 0, 2] rfl)
  exact lp4_1 _ 0 (Nat.zero_le _) (Nat.lt_succ_self _) _ hS ls (lv_sub hl [1, 0, 2] rfl)
theorem gf_X1_263_5 {p : Program} {l : Launch} {e : Env} {R : Room} {s : State} {m : MethodId} {args : Array Value} {below : List Frame} {meth : Method} {c : Code} {H : Heap} {locs : List Loc} {cells slots : Nat} {Q : State → Prop} {cc : ByteArray} {pc nL a : Nat} {ls : Array Slot} {rest : List Value} {G : b_G} {B0 : Nat} (CX : b_Cx p s m args c cc nL RX1 G B0) {fs : List Value} (hP : b_at G a (.inr (5, fs)) H) {v : Value} (hv : fs[0]? = some v) (hdg : decode cc pc = .ok (.getfield 263, 3)) (kk : W p l e R s m args below meth c H locs cells slots Q (F0 m (pc + 3) ls (v :: rest))) : W p l e R s m args below meth c H locs cells slots Q (F0 m pc ls (.ref a :: rest)) := b_getN CX in_X5 rfl 0 (by decide) q1056 (Or.inl rfl) hP hv hdg kk
set_option maxHeartbeats 2000000 in
set_option maxRecDepth 100000 in
theorem m_X1_inShops_a (l : Launch) {G : b_G} {B0 : Nat} {H : Heap} {τ : b_T} {id : Nat} {F : Nat → Nat} {M : Nat → Int32} {E : Nat → Bool} {S : b_St} {Z : Nat → Nat → Int32} {a : Nat} {asv : Nat} {atx : Nat} {atk : Nat} {hs : Int64} {b : Nat} (hc_X : b_tt G B0 τ H a 0 (.inr (0, [.ref ((F 0)), .ref asv, .ref atx, .ref atk, .long hs]))) (hL : LR G B0 τ id F M E H S Z) (hW : b_WF S) (hBb : b < nb S) : Met l yX1_inShops (ws_ yX1_inShops cX1_inShops 5 (Option.some Jvm.ClassFile.FieldType.int)) ({ frames := 3, cells := 0, slots := 0, locals := 64 } : Room) (b_Pc G B0 H [.ref a, .int (nI b), .int (nI 1)]) (b_Qi B0 (fun r H1 => r = p_inF S b ∧ H1 = H)) 0 0 (b_A B0) := by
  refine b_of (by decide) (Nat.le_of_ble_eq_true rfl) ?_
  intro p e s m below meth c CX hr hlk hnm hS ls hl
  have CX : b_Cx p s m _ c cX1_inShops 5 RX1 G B0 := CX
  have hx := CX.hx
  have hb := CX.hb
  have hl : lv_has ls 5 [(0, .ref a), (1, .int (nI b)), (2, .int (nI 1))] := hl
  generalize hQ : MQ below (b_Qi B0 (fun r H1 => r = p_inF S b ∧ H1 = H)) ([.ref a, .int (nI b), .int (nI 1)] : List Value).toArray s 0 0 (b_A B0) = Q
  have hnb : nb S = nb S := rfl
  have hns : ns S = ns S := rfl
  have hn8 := hL.2.2.2.1
  have hn6 := hL.2.2.2.2
  refine lv_iconst (v := nI 0) hx hb dX1_inShops_0 rfl ?_
  refine lv_istore_n (lv' := [(3, .int (nI 0)), (0, .ref a), (1, .int (nI b)), (2, .int (nI 1))]) hx hb dX1_inShops_1 rfl hl (Nat.le_of_ble_eq_true rfl) rfl (fun ls hl => ?_)
  refine lv_iconst (v := nI 0) hx hb dX1_inShops_2 rfl ?_
  refine lv_istore (lv' := [(4, .int (nI 0)), (3, .int (nI 0)), (0, .ref a), (1, .int (nI b)), (2, .int (nI 1))]) hx hb dX1_inShops_3 hl (Nat.le_of_ble_eq_true rfl) rfl (fun ls hl => ?_)
  have lp5_1 : ∀ (n_ : Nat) (i : Nat), i ≤ ns S → ns S - i < n_ → ∀ (locs : List Loc), va_S (b_A B0) s.heap H locs → ∀ ls : Array Slot, lv_has ls 5 [(3, .int (p_sum (fun s => S 4 s b) i)), (4, .int (nI i)), (0, .ref a), (1, .int (nI b)), (2, .int (nI 1))] → W p l e ({ frames := 3, cells := 0, slots := 0, locals := 64 } : Room) s m ([.ref a, .int (nI b), .int (nI 1)] : List Value).toArray below meth c H locs 0 0 Q (F0 m 5 ls []) := by
    intro n_
    induction n_ with
    | zero => intro i hi hlt locs hS ls hl; exact absurd hlt (Nat.not_lt_zero _)
    | succ n_ ih5 =>
      intro i hi hlt locs hS ls hl
      refine lv_iload hx hb dX1_inShops_5 (lv_at hl 1 rfl) ?_
      refine lv_aload_n hx hb dX1_inShops_7 rfl (lv_at hl 2 rfl) ?_
      refine gf_X1_19_0 CX hc_X.at rfl dX1_inShops_8 ?_
      refine gf_X1_77_1 CX hL.loop.at rfl dX1_inShops_11 ?_
      refine b_ci0 (cs_X1_45 (rest := [.int (nI i)]) CX hl.1 (m_J2_size l (a := (F 3)) (ta := 1000 * id + 3) (mc := M 3) (ra := (if E 3 = true then F 4 else G.2.2 0)) (x := S 0 0 1) hL.al3) rfl rfl rfl hL.al3.at hS rfl ⟨rfl, rfl, Nat.le_of_ble_eq_true rfl, Nat.le_of_ble_eq_true rfl⟩ (Nat.le_of_ble_eq_true rfl) dX1_inShops_14 ⟨Nat.le_of_ble_eq_true rfl, Nat.le_of_ble_eq_true rfl⟩) hS (fun locs hS => ?_)
      refine b_top (x := (S 0 0 1)) (y := nI (ns S)) (hW.nsE) ?_
      refine b_icmp_geN (tgt := 76) CX (by omega) (by omega) dX1_inShops_17 (by decide) (fun c_17 => ?_) (fun c_17 => ?_)
      · obtain rfl : i = ns S := by omega
        refine lv_iload_n hx hb dX1_inShops_76 rfl (lv_at hl 0 rfl) ?_
        rw [← hQ]
        exact b_iret CX hr hlk hS (Nat.le_of_ble_eq_true rfl) (Nat.le_of_ble_eq_true rfl) dX1_inShops_77 (⟨rfl, rfl⟩)
      · refine lv_iload_n hx hb dX1_inShops_20 rfl (lv_at hl 0 rfl) ?_
        refine lv_iload_n hx hb dX1_inShops_21 rfl (lv_at hl 4 rfl) ?_
        refine lv_if_eq (tgt := 48) hx hb dX1_inShops_22 (by decide) (fun c_22 => ?_) (fun c_22 => ?_)
        · exact absurd c_22 (by decide)
        · refine lv_aload_n hx hb dX1_inShops_25 rfl (lv_at hl 2 rfl) ?_
          refine gf_X1_19_0 CX hc_X.at rfl dX1_inShops_26 ?_
          refine gf_X1_77_1 CX hL.loop.at rfl dX1_inShops_29 ?_
          refine lv_iload hx hb dX1_inShops_32 (lv_at hl 1 rfl) ?_
          refine b_cq0 (cs_X1_103 (rest := [.int (p_sum (fun s => S 4 s b) i)]) CX hl.1 (m_J2_get l (a := (F 3)) (ta := 1000 * id + 3) (mc := M 3) (ra := (F 4)) (tr := 1000 * id + 4) (f := (fun j => F (30 + j))) (n := ns S) (i := i) (hL.alg3 hW (by omega)) (hL.arg4 (by omega)) (by omega) (by omega)) rfl rfl rfl (hL.alg3 hW (by omega)).at hS rfl ⟨rfl, rfl, Nat.le_of_ble_eq_true rfl, Nat.le_of_ble_eq_true rfl⟩ (Nat.le_of_ble_eq_true rfl) dX1_inShops_34 ⟨Nat.le_of_ble_eq_true rfl, Nat.le_of_ble_eq_true rfl⟩) hS (fun locs hS => ?_)
          refine b_cast CX (ci := 5) rfl (hL.shop (k := i) (by omega)).at q820 dX1_inShops_37 ?_
          refine gf_X1_263_5 CX (hL.shop (k := i) (by omega)).at rfl dX1_inShops_40 ?_
          refine lv_iload_n hx hb dX1_inShops_43 rfl (lv_at hl 3 rfl) ?_
          refine b_ild CX (hL.full (k := i) (by omega)).at (x := S 4 i b) (vp_in_nI (by omega) (by omega)) (b_at_nI (f := (fun j => S 4 i j)) (n := b) (by omega) rfl) dX1_inShops_44 ?_
          refine lv_goto (tgt := 68) hx hb dX1_inShops_45 (by decide) ?_
          refine lv_iadd hx hb dX1_inShops_68 ?_
          refine lv_istore_n (lv' := [(3, .int ((p_sum (fun s => S 4 s b) i) + (S 4 i b))), (4, .int (nI i)), (0, .ref a), (1, .int (nI b)), (2, .int (nI 1))]) hx hb dX1_inShops_69 rfl hl (Nat.le_of_ble_eq_true rfl) rfl (fun ls hl => ?_)
          refine lv_iinc (v := nI (i + 1)) (lv' := [(4, .int (nI (i + 1))), (3, .int ((p_sum (fun s => S 4 s b) i) + (S 4 i b))), (0, .ref a), (1, .int (nI b)), (2, .int (nI 1))]) hx hb dX1_inShops_70 hl (k := 1) rfl (nI_1 _) (Nat.le_of_ble_eq_true rfl) rfl (fun ls hl => ?_)
          refine lv_goto (tgt := 5) hx hb dX1_inShops_73 (by decide) ?_
          exact ih5 (i + 1) (by omega) (by omega) _ hS ls (lv_sub hl [1, 0, 2, 3, 4] rfl)
  exact lp5_1 _ 0 (Nat.zero_le _) (Nat.lt_succ_self _) _ hS ls (lv_sub hl [1, 0, 2, 3, 4] rfl)
theorem gf_X1_266_5 {p : Program} {l : Launch} {e : Env} {R : Room} {s : State} {m : MethodId} {args : Array Value} {below : List Frame} {meth : Method} {c : Code} {H : Heap} {locs : List Loc} {cells slots : Nat} {Q : State → Prop} {cc : ByteArray} {pc nL a : Nat} {ls : Array Slot} {rest : List Value} {G : b_G} {B0 : Nat} (CX : b_Cx p s m args c cc nL RX1 G B0) {fs : List Value} (hP : b_at G a (.inr (5, fs)) H) {v : Value} (hv : fs[1]? = some v) (hdg : decode cc pc = .ok (.getfield 266, 3)) (kk : W p l e R s m args below meth c H locs cells slots Q (F0 m (pc + 3) ls (v :: rest))) : W p l e R s m args below meth c H locs cells slots Q (F0 m pc ls (.ref a :: rest)) := b_getN CX in_X5 rfl 1 (by decide) q1059 (Or.inl rfl) hP hv hdg kk
set_option maxHeartbeats 2000000 in
set_option maxRecDepth 100000 in
theorem m_X1_inShops_b (l : Launch) {G : b_G} {B0 : Nat} {H : Heap} {τ : b_T} {id : Nat} {F : Nat → Nat} {M : Nat → Int32} {E : Nat → Bool} {S : b_St} {Z : Nat → Nat → Int32} {a : Nat} {asv : Nat} {atx : Nat} {atk : Nat} {hs : Int64} {b : Nat} (hc_X : b_tt G B0 τ H a 0 (.inr (0, [.ref ((F 0)), .ref asv, .ref atx, .ref atk, .long hs]))) (hL : LR G B0 τ id F M E H S Z) (hW : b_WF S) (hBb : b < nb S) : Met l yX1_inShops (ws_ yX1_inShops cX1_inShops 5 (Option.some Jvm.ClassFile.FieldType.int)) ({ frames := 3, cells := 0, slots := 0, locals := 64 } : Room) (b_Pc G B0 H [.ref a, .int (nI b), .int (nI 0)]) (b_Qi B0 (fun r H1 => r = p_inE S b ∧ H1 = H)) 0 0 (b_A B0) := by
  refine b_of (by decide) (Nat.le_of_ble_eq_true rfl) ?_
  intro p e s m below meth c CX hr hlk hnm hS ls hl
  have CX : b_Cx p s m _ c cX1_inShops 5 RX1 G B0 := CX
  have hx := CX.hx
  have hb := CX.hb
  have hl : lv_has ls 5 [(0, .ref a), (1, .int (nI b)), (2, .int (nI 0))] := hl
  generalize hQ : MQ below (b_Qi B0 (fun r H1 => r = p_inE S b ∧ H1 = H)) ([.ref a, .int (nI b), .int (nI 0)] : List Value).toArray s 0 0 (b_A B0) = Q
  have hnb : nb S = nb S := rfl
  have hns : ns S = ns S := rfl
  have hn8 := hL.2.2.2.1
  have hn6 := hL.2.2.2.2
  refine lv_iconst (v := nI 0) hx hb dX1_inShops_0 rfl ?_
  refine lv_istore_n (lv' := [(3, .int (nI 0)), (0, .ref a), (1, .int (nI b)), (2, .int (nI 0))]) hx hb dX1_inShops_1 rfl hl (Nat.le_of_ble_eq_true rfl) rfl (fun ls hl => ?_)
  refine lv_iconst (v := nI 0) hx hb dX1_inShops_2 rfl ?_
  refine lv_istore (lv' := [(4, .int (nI 0)), (3, .int (nI 0)), (0, .ref a), (1, .int (nI b)), (2, .int (nI 0))]) hx hb dX1_inShops_3 hl (Nat.le_of_ble_eq_true rfl) rfl (fun ls hl => ?_)
  have lp5_1 : ∀ (n_ : Nat) (i : Nat), i ≤ ns S → ns S - i < n_ → ∀ (locs : List Loc), va_S (b_A B0) s.heap H locs → ∀ ls : Array Slot, lv_has ls 5 [(3, .int (p_sum (fun s => S 5 s b) i)), (4, .int (nI i)), (0, .ref a), (1, .int (nI b)), (2, .int (nI 0))] → W p l e ({ frames := 3, cells := 0, slots := 0, locals := 64 } : Room) s m ([.ref a, .int (nI b), .int (nI 0)] : List Value).toArray below meth c H locs 0 0 Q (F0 m 5 ls []) := by
    intro n_
    induction n_ with
    | zero => intro i hi hlt locs hS ls hl; exact absurd hlt (Nat.not_lt_zero _)
    | succ n_ ih5 =>
      intro i hi hlt locs hS ls hl
      refine lv_iload hx hb dX1_inShops_5 (lv_at hl 1 rfl) ?_
      refine lv_aload_n hx hb dX1_inShops_7 rfl (lv_at hl 2 rfl) ?_
      refine gf_X1_19_0 CX hc_X.at rfl dX1_inShops_8 ?_
      refine gf_X1_77_1 CX hL.loop.at rfl dX1_inShops_11 ?_
      refine b_ci0 (cs_X1_45 (rest := [.int (nI i)]) CX hl.1 (m_J2_size l (a := (F 3)) (ta := 1000 * id + 3) (mc := M 3) (ra := (if E 3 = true then F 4 else G.2.2 0)) (x := S 0 0 1) hL.al3) rfl rfl rfl hL.al3.at hS rfl ⟨rfl, rfl, Nat.le_of_ble_eq_true rfl, Nat.le_of_ble_eq_true rfl⟩ (Nat.le_of_ble_eq_true rfl) dX1_inShops_14 ⟨Nat.le_of_ble_eq_true rfl, Nat.le_of_ble_eq_true rfl⟩) hS (fun locs hS => ?_)
      refine b_top (x := (S 0 0 1)) (y := nI (ns S)) (hW.nsE) ?_
      refine b_icmp_geN (tgt := 76) CX (by omega) (by omega) dX1_inShops_17 (by decide) (fun c_17 => ?_) (fun c_17 => ?_)
      · obtain rfl : i = ns S := by omega
        refine lv_iload_n hx hb dX1_inShops_76 rfl (lv_at hl 0 rfl) ?_
        rw [← hQ]
        exact b_iret CX hr hlk hS (Nat.le_of_ble_eq_true rfl) (Nat.le_of_ble_eq_true rfl) dX1_inShops_77 (⟨rfl, rfl⟩)
      · refine lv_iload_n hx hb dX1_inShops_20 rfl (lv_at hl 0 rfl) ?_
        refine lv_iload_n hx hb dX1_inShops_21 rfl (lv_at hl 4 rfl) ?_
        refine lv_if_eq (tgt := 48) hx hb dX1_inShops_22 (by decide) (fun c_22 => ?_) (fun c_22 => ?_)
        · refine lv_aload_n hx hb dX1_inShops_48 rfl (lv_at hl 2 rfl) ?_
          refine gf_X1_19_0 CX hc_X.at rfl dX1_inShops_49 ?_
          refine gf_X1_77_1 CX hL.loop.at rfl dX1_inShops_52 ?_
          refine lv_iload hx hb dX1_inShops_55 (lv_at hl 1 rfl) ?_
          refine b_cq0 (cs_X1_103 (rest := [.int (p_sum (fun s => S 5 s b) i)]) CX hl.1 (m_J2_get l (a := (F 3)) (ta := 1000 * id + 3) (mc := M 3) (ra := (F 4)) (tr := 1000 * id + 4) (f := (fun j => F (30 + j))) (n := ns S) (i := i) (hL.alg3 hW (by omega)) (hL.arg4 (by omega)) (by omega) (by omega)) rfl rfl rfl (hL.alg3 hW (by omega)).at hS rfl ⟨rfl, rfl, Nat.le_of_ble_eq_true rfl, Nat.le_of_ble_eq_true rfl⟩ (Nat.le_of_ble_eq_true rfl) dX1_inShops_57 ⟨Nat.le_of_ble_eq_true rfl, Nat.le_of_ble_eq_true rfl⟩) hS (fun locs hS => ?_)
          refine b_cast CX (ci := 5) rfl (hL.shop (k := i) (by omega)).at q820 dX1_inShops_60 ?_
          refine gf_X1_266_5 CX (hL.shop (k := i) (by omega)).at rfl dX1_inShops_63 ?_
          refine lv_iload_n hx hb dX1_inShops_66 rfl (lv_at hl 3 rfl) ?_
          refine b_ild CX (hL.empt (k := i) (by omega)).at (x := S 5 i b) (vp_in_nI (by omega) (by omega)) (b_at_nI (f := (fun j => S 5 i j)) (n := b) (by omega) rfl) dX1_inShops_67 ?_
          refine lv_iadd hx hb dX1_inShops_68 ?_
          refine lv_istore_n (lv' := [(3, .int ((p_sum (fun s => S 5 s b) i) + (S 5 i b))), (4, .int (nI i)), (0, .ref a), (1, .int (nI b)), (2, .int (nI 0))]) hx hb dX1_inShops_69 rfl hl (Nat.le_of_ble_eq_true rfl) rfl (fun ls hl => ?_)
          refine lv_iinc (v := nI (i + 1)) (lv' := [(4, .int (nI (i + 1))), (3, .int ((p_sum (fun s => S 5 s b) i) + (S 5 i b))), (0, .ref a), (1, .int (nI b)), (2, .int (nI 0))]) hx hb dX1_inShops_70 hl (k := 1) rfl (nI_1 _) (Nat.le_of_ble_eq_true rfl) rfl (fun ls hl => ?_)
          refine lv_goto (tgt := 5) hx hb dX1_inShops_73 (by decide) ?_
          exact ih5 (i + 1) (by omega) (by omega) _ hS ls (lv_sub hl [1, 0, 2, 3, 4] rfl)
        · exact absurd c_22 (by decide)
  exact lp5_1 _ 0 (Nat.zero_le _) (Nat.lt_succ_self _) _ hS ls (lv_sub hl [1, 0, 2, 3, 4] rfl)
theorem gf_X1_196_4 {p : Program} {l : Launch} {e : Env} {R : Room} {s : State} {m : MethodId} {args : Array Value} {below : List Frame} {meth : Method} {c : Code} {H : Heap} {locs : List Loc} {cells slots : Nat} {Q : State → Prop} {cc : ByteArray} {pc nL a : Nat} {ls : Array Slot} {rest : List Value} {G : b_G} {B0 : Nat} (CX : b_Cx p s m args c cc nL RX1 G B0) {fs : List Value} (hP : b_at G a (.inr (4, fs)) H) {v : Value} (hv : fs[0]? = some v) (hdg : decode cc pc = .ok (.getfield 196, 3)) (kk : W p l e R s m args below meth c H locs cells slots Q (F0 m (pc + 3) ls (v :: rest))) : W p l e R s m args below meth c H locs cells slots Q (F0 m pc ls (.ref a :: rest)) := b_getN CX in_X4 rfl 0 (by decide) q993 (Or.inl rfl) hP hv hdg kk
theorem gf_X1_269_4 {p : Program} {l : Launch} {e : Env} {R : Room} {s : State} {m : MethodId} {args : Array Value} {below : List Frame} {meth : Method} {c : Code} {H : Heap} {locs : List Loc} {cells slots : Nat} {Q : State → Prop} {cc : ByteArray} {pc nL a : Nat} {ls : Array Slot} {rest : List Value} {G : b_G} {B0 : Nat} (CX : b_Cx p s m args c cc nL RX1 G B0) {fs : List Value} (hP : b_at G a (.inr (4, fs)) H) {v : Value} (hv : fs[1]? = some v) (hdg : decode cc pc = .ok (.getfield 269, 3)) (kk : W p l e R s m args below meth c H locs cells slots Q (F0 m (pc + 3) ls (v :: rest))) : W p l e R s m args below meth c H locs cells slots Q (F0 m pc ls (.ref a :: rest)) := b_getN CX in_X4 rfl 1 (by decide) q996 (Or.inl rfl) hP hv hdg kk
theorem gf_X1_271_4 {p : Program} {l : Launch} {e : Env} {R : Room} {s : State} {m : MethodId} {args : Array Value} {below : List Frame} {meth : Method} {c : Code} {H : Heap} {locs : List Loc} {cells slots : Nat} {Q : State → Prop} {cc : ByteArray} {pc nL a : Nat} {ls : Array Slot} {rest : List Value} {G : b_G} {B0 : Nat} (CX : b_Cx p s m args c cc nL RX1 G B0) {fs : List Value} (hP : b_at G a (.inr (4, fs)) H) {v : Value} (hv : fs[2]? = some v) (hdg : decode cc pc = .ok (.getfield 271, 3)) (kk : W p l e R s m args below meth c H locs cells slots Q (F0 m (pc + 3) ls (v :: rest))) : W p l e R s m args below meth c H locs cells slots Q (F0 m pc ls (.ref a :: rest)) := b_getN CX in_X4 rfl 2 (by decide) q999 (Or.inl rfl) hP hv hdg kk
theorem cs_X1_273 {p : Program} {l : Launch} {e : Env} {R : Room} {s : State} {m : MethodId} {args : Array Value} {below : List Frame} {meth : Method} {c : Code} {H : Heap} {locs : List Loc} {cells slots : Nat} {cc : ByteArray} {pc nL a : Nat} {ls : Array Slot} {rest : List Value} {G : b_G} {B0 : Nat} (CX : b_Cx p s m args c cc nL RX1 G B0) (hls : ls.size = nL) {rm : Room} {mc ms : Nat} {As st0 : List Value} {Qc : Array Value → State → Outcome → State → Prop} (hM : Met l yX1_inShops (ws_ yX1_inShops cX1_inShops 5 (Option.some Jvm.ClassFile.FieldType.int)) rm (b_Pc G B0 H (.ref a :: As)) Qc mc ms (b_A B0)) (hn : As.length = 2) {fs : List Value} {ci : Nat} {qc : vw_C} (hc : b_cl[ci]? = some qc) (hq : qc.1 = RX1) (hP : b_at G a (.inr (ci, fs)) H) (hS : va_S (b_A B0) s.heap H locs) (hst : st0 = As.reverse ++ .ref a :: rest) (hr : rm.cells = mc ∧ rm.slots = ms ∧ rm.frames + 1 ≤ R.frames ∧ 8 + (5 + 11) + rm.locals ≤ R.locals) (hw : (rest.map fun v => v.category).sum ≤ 8) (hdg : decode cc pc = .ok (.invokevirtual 273, 3)) (hf : cells + mc ≤ R.cells ∧ slots + ms ≤ R.slots) : va_Run p l e R s m args below meth c H locs cells slots mc ms (F0 m pc ls st0) rest (Qc (Value.ref a :: As).toArray) (b_A B0) := va_runV CX.fix hM (cwV 2 CX.ts (lw_V q816 q818 qs12 q79 q819) rfl hr.1 hr.2.1 (by decide +kernel) ⟨hr.2.2.1, hr.2.2.2⟩) ⟨b_blind G B0 H _, by have h9 := b_recv CX.K hc hP; rw [hq] at h9; exact h9, b_pre _ CX.K hS⟩ rfl hn hls hst (lv_room hw) hdg hf
theorem gf_X1_277_4 {p : Program} {l : Launch} {e : Env} {R : Room} {s : State} {m : MethodId} {args : Array Value} {below : List Frame} {meth : Method} {c : Code} {H : Heap} {locs : List Loc} {cells slots : Nat} {Q : State → Prop} {cc : ByteArray} {pc nL a : Nat} {ls : Array Slot} {rest : List Value} {G : b_G} {B0 : Nat} (CX : b_Cx p s m args c cc nL RX1 G B0) {fs : List Value} (hP : b_at G a (.inr (4, fs)) H) {v : Value} (hv : fs[3]? = some v) (hdg : decode cc pc = .ok (.getfield 277, 3)) (kk : W p l e R s m args below meth c H locs cells slots Q (F0 m (pc + 3) ls (v :: rest))) : W p l e R s m args below meth c H locs cells slots Q (F0 m pc ls (.ref a :: rest)) := b_getN CX in_X4 rfl 3 (by decide) q1002 (Or.inl rfl) hP hv hdg kk
theorem gf_X1_280_4 {p : Program} {l : Launch} {e : Env} {R : Room} {s : State} {m : MethodId} {args : Array Value} {below : List Frame} {meth : Method} {c : Code} {H : Heap} {locs : List Loc} {cells slots : Nat} {Q : State → Prop} {cc : ByteArray} {pc nL a : Nat} {ls : Array Slot} {rest : List Value} {G : b_G} {B0 : Nat} (CX : b_Cx p s m args c cc nL RX1 G B0) {fs : List Value} (hP : b_at G a (.inr (4, fs)) H) {v : Value} (hv : fs[4]? = some v) (hdg : decode cc pc = .ok (.getfield 280, 3)) (kk : W p l e R s m args below meth c H locs cells slots Q (F0 m (pc + 3) ls (v :: rest))) : W p l e R s m args below meth c H locs cells slots Q (F0 m pc ls (.ref a :: rest)) := b_getN CX in_X4 rfl 4 (by decide) q1005 (Or.inl rfl) hP hv hdg kk
theorem gf_X1_283_4 {p : Program} {l : Launch} {e : Env} {R : Room} {s : State} {m : MethodId} {args : Array Value} {below : List Frame} {meth : Method} {c : Code} {H : Heap} {locs : List Loc} {cells slots : Nat} {Q : State → Prop} {cc : ByteArray} {pc nL a : Nat} {ls : Array Slot} {rest : List Value} {G : b_G} {B0 : Nat} (CX : b_Cx p s m args c cc nL RX1 G B0) {fs : List Value} (hP : b_at G a (.inr (4, fs)) H) {v : Value} (hv : fs[5]? = some v) (hdg : decode cc pc = .ok (.getfield 283, 3)) (kk : W p l e R s m args below meth c H locs cells slots Q (F0 m (pc + 3) ls (v :: rest))) : W p l e R s m args below meth c H locs cells slots Q (F0 m pc ls (.ref a :: rest)) := b_getN CX in_X4 rfl 5 (by decide) q1008 (Or.inl rfl) hP hv hdg kk
theorem gf_X1_286_4 {p : Program} {l : Launch} {e : Env} {R : Room} {s : State} {m : MethodId} {args : Array Value} {below : List Frame} {meth : Method} {c : Code} {H : Heap} {locs : List Loc} {cells slots : Nat} {Q : State → Prop} {cc : ByteArray} {pc nL a : Nat} {ls : Array Slot} {rest : List Value} {G : b_G} {B0 : Nat} (CX : b_Cx p s m args c cc nL RX1 G B0) {fs : List Value} (hP : b_at G a (.inr (4, fs)) H) {v : Value} (hv : fs[6]? = some v) (hdg : decode cc pc = .ok (.getfield 286, 3)) (kk : W p l e R s m args below meth c H locs cells slots Q (F0 m (pc + 3) ls (v :: rest))) : W p l e R s m args below meth c H locs cells slots Q (F0 m pc ls (.ref a :: rest)) := b_getN CX in_X4 rfl 6 (by decide) q1011 (Or.inl rfl) hP hv hdg kk
theorem gf_X1_289_4 {p : Program} {l : Launch} {e : Env} {R : Room} {s : State} {m : MethodId} {args : Array Value} {below : List Frame} {meth : Method} {c : Code} {H : Heap} {locs : List Loc} {cells slots : Nat} {Q : State → Prop} {cc : ByteArray} {pc nL a : Nat} {ls : Array Slot} {rest : List Value} {G : b_G} {B0 : Nat} (CX : b_Cx p s m args c cc nL RX1 G B0) {fs : List Value} (hP : b_at G a (.inr (4, fs)) H) {v : Value} (hv : fs[7]? = some v) (hdg : decode cc pc = .ok (.getfield 289, 3)) (kk : W p l e R s m args below meth c H locs cells slots Q (F0 m (pc + 3) ls (v :: rest))) : W p l e R s m args below meth c H locs cells slots Q (F0 m pc ls (.ref a :: rest)) := b_getN CX in_X4 rfl 7 (by decide) q1014 (Or.inl rfl) hP hv hdg kk
theorem gf_X1_292_4 {p : Program} {l : Launch} {e : Env} {R : Room} {s : State} {m : MethodId} {args : Array Value} {below : List Frame} {meth : Method} {c : Code} {H : Heap} {locs : List Loc} {cells slots : Nat} {Q : State → Prop} {cc : ByteArray} {pc nL a : Nat} {ls : Array Slot} {rest : List Value} {G : b_G} {B0 : Nat} (CX : b_Cx p s m args c cc nL RX1 G B0) {fs : List Value} (hP : b_at G a (.inr (4, fs)) H) {v : Value} (hv : fs[8]? = some v) (hdg : decode cc pc = .ok (.getfield 292, 3)) (kk : W p l e R s m args below meth c H locs cells slots Q (F0 m (pc + 3) ls (v :: rest))) : W p l e R s m args below meth c H locs cells slots Q (F0 m pc ls (.ref a :: rest)) := b_getN CX in_X4 rfl 8 (by decide) q1017 (Or.inl rfl) hP hv hdg kk
theorem gf_X1_295_4 {p : Program} {l : Launch} {e : Env} {R : Room} {s : State} {m : MethodId} {args : Array Value} {below : List Frame} {meth : Method} {c : Code} {H : Heap} {locs : List Loc} {cells slots : Nat} {Q : State → Prop} {cc : ByteArray} {pc nL a : Nat} {ls : Array Slot} {rest : List Value} {G : b_G} {B0 : Nat} (CX : b_Cx p s m args c cc nL RX1 G B0) {fs : List Value} (hP : b_at G a (.inr (4, fs)) H) {v : Value} (hv : fs[9]? = some v) (hdg : decode cc pc = .ok (.getfield 295, 3)) (kk : W p l e R s m args below meth c H locs cells slots Q (F0 m (pc + 3) ls (v :: rest))) : W p l e R s m args below meth c H locs cells slots Q (F0 m pc ls (.ref a :: rest)) := b_getN CX in_X4 rfl 9 (by decide) q1020 (Or.inl rfl) hP hv hdg kk
set_option maxHeartbeats 2000000 in
set_option maxRecDepth 100000 in
theorem m_X1_brandTold (l : Launch) {G : b_G} {B0 : Nat} {H : Heap} {τ : b_T} {id : Nat} {F : Nat → Nat} {M : Nat → Int32} {E : Nat → Bool} {S : b_St} {Z : Nat → Nat → Int32} {a : Nat} {asv : Nat} {atx : Nat} {atk : Nat} {hs : Int64} {b : Nat} {k : Nat} (hc_X : b_tt G B0 τ H a 0 (.inr (0, [.ref ((F 0)), .ref asv, .ref atx, .ref atk, .long hs]))) (hL : LR G B0 τ id F M E H S Z) (hW : b_WF S) (hBb : b < nb S) (hk : k < 12) : Met l yX1_brandTold (ws_ yX1_brandTold cX1_brandTold 4 (Option.some Jvm.ClassFile.FieldType.int)) ({ frames := 4, cells := 0, slots := 0, locals := 88 } : Room) (b_Pc G B0 H [.ref a, .int (nI b), .int (nI k)]) (b_Qi B0 (fun r H1 => r = p_about S b k ∧ H1 = H)) 0 0 (b_A B0) := by
  refine b_of (by decide) (Nat.le_of_ble_eq_true rfl) ?_
  intro p e s m below meth c CX hr hlk hnm hS ls hl
  have CX : b_Cx p s m _ c cX1_brandTold 4 RX1 G B0 := CX
  have hx := CX.hx
  have hb := CX.hb
  have hl : lv_has ls 4 [(0, .ref a), (1, .int (nI b)), (2, .int (nI k))] := hl
  generalize hQ : MQ below (b_Qi B0 (fun r H1 => r = p_about S b k ∧ H1 = H)) ([.ref a, .int (nI b), .int (nI k)] : List Value).toArray s 0 0 (b_A B0) = Q
  have hnb : nb S = nb S := rfl
  have hns : ns S = ns S := rfl
  have hn8 := hL.2.2.2.1
  have hn6 := hL.2.2.2.2
  have hkd := hW.kd3 (b := b) (by omega)
  refine lv_aload_n hx hb dX1_brandTold_0 rfl (lv_at hl 0 rfl) ?_
  refine gf_X1_19_0 CX hc_X.at rfl dX1_brandTold_1 ?_
  refine gf_X1_70_1 CX hL.loop.at rfl dX1_brandTold_4 ?_
  refine lv_iload_n hx hb dX1_brandTold_7 rfl (lv_at hl 1 rfl) ?_
  refine b_cq0 (cs_X1_103 (rest := []) CX hl.1 (m_J2_get l (a := (F 1)) (ta := 1000 * id + 1) (mc := M 1) (ra := (F 2)) (tr := 1000 * id + 2) (f := (fun j => F (20 + j))) (n := nb S) (i := b) (hL.alg1 hW (by omega)) (hL.arg2 (by omega)) (by omega) (by omega)) rfl rfl rfl (hL.alg1 hW (by omega)).at hS rfl ⟨rfl, rfl, Nat.le_of_ble_eq_true rfl, Nat.le_of_ble_eq_true rfl⟩ (Nat.le_of_ble_eq_true rfl) dX1_brandTold_8 ⟨Nat.le_of_ble_eq_true rfl, Nat.le_of_ble_eq_true rfl⟩) hS (fun locs hS => ?_)
  refine b_cast CX (ci := 4) rfl (hL.brand (k := b) (by omega)).at q807 dX1_brandTold_11 ?_
  refine lv_astore_n (lv' := [(3, .ref ((F (20 + b)))), (0, .ref a), (1, .int (nI b)), (2, .int (nI k))]) hx hb dX1_brandTold_14 rfl hl (Nat.le_of_ble_eq_true rfl) rfl (fun ls hl => ?_)
  refine lv_iload_n hx hb dX1_brandTold_15 rfl (lv_at hl 3 rfl) ?_
  by_cases cs_16_0 : k = 0
  · refine lv_tableIn (off := 60) (tgt := 76) hx hb dX1_brandTold_16 (by rcases (by omega : k = 0) with h9 <;> (rw [h9]; decide)) (by rcases (by omega : k = 0) with h9 <;> (rw [h9]; decide)) (by rcases (by omega : k = 0) with h9 <;> (rw [h9]; rfl)) (by decide) ?_
    refine lv_aload_n hx hb dX1_brandTold_76 rfl (lv_at hl 0 rfl) ?_
    refine gf_X1_196_4 CX (hL.brand (k := b) (by omega)).at (v := .int (nI (kd S b))) (congrArg (fun q => some (Value.int q)) (hW.kdE (by omega))) dX1_brandTold_77 ?_
    rw [← hQ]
    exact b_iret CX hr hlk hS (Nat.le_of_ble_eq_true rfl) (Nat.le_of_ble_eq_true rfl) dX1_brandTold_80 (⟨(by have h9 : k = 0 ∨ k = 1 ∨ k = 2 ∨ k = 3 ∨ k = 4 ∨ k = 5 ∨ k = 6 ∨ k = 7 ∨ k = 8 ∨ k = 9 ∨ k = 10 ∨ k = 11 := (by omega); rcases h9 with rfl | rfl | rfl | rfl | rfl | rfl | rfl | rfl | rfl | rfl | rfl | rfl <;> first | (exfalso; omega) | rfl | exact (hW.kdE (by omega)).symm), rfl⟩)
  by_cases cs_16_1 : k = 1
  · refine lv_tableIn (off := 65) (tgt := 81) hx hb dX1_brandTold_16 (by rcases (by omega : k = 1) with h9 <;> (rw [h9]; decide)) (by rcases (by omega : k = 1) with h9 <;> (rw [h9]; decide)) (by rcases (by omega : k = 1) with h9 <;> (rw [h9]; rfl)) (by decide) ?_
    refine lv_aload_n hx hb dX1_brandTold_81 rfl (lv_at hl 0 rfl) ?_
    refine gf_X1_269_4 CX (hL.brand (k := b) (by omega)).at rfl dX1_brandTold_82 ?_
    rw [← hQ]
    exact b_iret CX hr hlk hS (Nat.le_of_ble_eq_true rfl) (Nat.le_of_ble_eq_true rfl) dX1_brandTold_85 (⟨(by have h9 : k = 0 ∨ k = 1 ∨ k = 2 ∨ k = 3 ∨ k = 4 ∨ k = 5 ∨ k = 6 ∨ k = 7 ∨ k = 8 ∨ k = 9 ∨ k = 10 ∨ k = 11 := (by omega); rcases h9 with rfl | rfl | rfl | rfl | rfl | rfl | rfl | rfl | rfl | rfl | rfl | rfl <;> first | (exfalso; omega) | rfl | exact (hW.kdE (by omega)).symm), rfl⟩)
  by_cases cs_16_2 : k = 2
  · refine lv_tableIn (off := 70) (tgt := 86) hx hb dX1_brandTold_16 (by rcases (by omega : k = 2) with h9 <;> (rw [h9]; decide)) (by rcases (by omega : k = 2) with h9 <;> (rw [h9]; decide)) (by rcases (by omega : k = 2) with h9 <;> (rw [h9]; rfl)) (by decide) ?_
    refine lv_aload_n hx hb dX1_brandTold_86 rfl (lv_at hl 0 rfl) ?_
    refine gf_X1_271_4 CX (hL.brand (k := b) (by omega)).at rfl dX1_brandTold_87 ?_
    rw [← hQ]
    exact b_iret CX hr hlk hS (Nat.le_of_ble_eq_true rfl) (Nat.le_of_ble_eq_true rfl) dX1_brandTold_90 (⟨(by have h9 : k = 0 ∨ k = 1 ∨ k = 2 ∨ k = 3 ∨ k = 4 ∨ k = 5 ∨ k = 6 ∨ k = 7 ∨ k = 8 ∨ k = 9 ∨ k = 10 ∨ k = 11 := (by omega); rcases h9 with rfl | rfl | rfl | rfl | rfl | rfl | rfl | rfl | rfl | rfl | rfl | rfl <;> first | (exfalso; omega) | rfl | exact (hW.kdE (by omega)).symm), rfl⟩)
  by_cases cs_16_3 : k ≤ 4
  · refine lv_tableIn (off := 75) (tgt := 91) hx hb dX1_brandTold_16 (by rcases (by omega : k = 3 ∨ k = 4) with h9 | h9 <;> (rw [h9]; decide)) (by rcases (by omega : k = 3 ∨ k = 4) with h9 | h9 <;> (rw [h9]; decide)) (by rcases (by omega : k = 3 ∨ k = 4) with h9 | h9 <;> (rw [h9]; rfl)) (by decide) ?_
    refine lv_aload_n hx hb dX1_brandTold_91 rfl (lv_at hl 1 rfl) ?_
    refine lv_iload_n hx hb dX1_brandTold_92 rfl (lv_at hl 2 rfl) ?_
    refine lv_iload_n hx hb dX1_brandTold_93 rfl (lv_at hl 3 rfl) ?_
    refine lv_iconst (v := nI 3) hx hb dX1_brandTold_94 rfl ?_
    refine b_icmp_neN (tgt := 102) CX (by omega) (by omega) dX1_brandTold_95 (by decide) (fun c_95 => ?_) (fun c_95 => ?_)
    · refine lv_iconst (v := nI 0) hx hb dX1_brandTold_102 rfl ?_
      refine b_ci0 (cs_X1_273 (rest := []) CX hl.1 (m_X1_inShops_b l (a := a) (asv := asv) (atx := atx) (atk := atk) (hs := hs) (b := b) hc_X hL hW (by omega)) rfl rfl rfl hc_X.at hS rfl ⟨rfl, rfl, Nat.le_of_ble_eq_true rfl, Nat.le_of_ble_eq_true rfl⟩ (Nat.le_of_ble_eq_true rfl) dX1_brandTold_103 ⟨Nat.le_of_ble_eq_true rfl, Nat.le_of_ble_eq_true rfl⟩) hS (fun locs hS => ?_)
      rw [← hQ]
      exact b_iret CX hr hlk hS (Nat.le_of_ble_eq_true rfl) (Nat.le_of_ble_eq_true rfl) dX1_brandTold_106 (⟨(by have h9 : k = 0 ∨ k = 1 ∨ k = 2 ∨ k = 3 ∨ k = 4 ∨ k = 5 ∨ k = 6 ∨ k = 7 ∨ k = 8 ∨ k = 9 ∨ k = 10 ∨ k = 11 := (by omega); rcases h9 with rfl | rfl | rfl | rfl | rfl | rfl | rfl | rfl | rfl | rfl | rfl | rfl <;> first | (exfalso; omega) | rfl | exact (hW.kdE (by omega)).symm), rfl⟩)
    · refine lv_iconst (v := nI 1) hx hb dX1_brandTold_98 rfl ?_
      refine lv_goto (tgt := 103) hx hb dX1_brandTold_99 (by decide) ?_
      refine b_ci0 (cs_X1_273 (rest := []) CX hl.1 (m_X1_inShops_a l (a := a) (asv := asv) (atx := atx) (atk := atk) (hs := hs) (b := b) hc_X hL hW (by omega)) rfl rfl rfl hc_X.at hS rfl ⟨rfl, rfl, Nat.le_of_ble_eq_true rfl, Nat.le_of_ble_eq_true rfl⟩ (Nat.le_of_ble_eq_true rfl) dX1_brandTold_103 ⟨Nat.le_of_ble_eq_true rfl, Nat.le_of_ble_eq_true rfl⟩) hS (fun locs hS => ?_)
      rw [← hQ]
      exact b_iret CX hr hlk hS (Nat.le_of_ble_eq_true rfl) (Nat.le_of_ble_eq_true rfl) dX1_brandTold_106 (⟨(by have h9 : k = 0 ∨ k = 1 ∨ k = 2 ∨ k = 3 ∨ k = 4 ∨ k = 5 ∨ k = 6 ∨ k = 7 ∨ k = 8 ∨ k = 9 ∨ k = 10 ∨ k = 11 := (by omega); rcases h9 with rfl | rfl | rfl | rfl | rfl | rfl | rfl | rfl | rfl | rfl | rfl | rfl <;> first | (exfalso; omega) | rfl | exact (hW.kdE (by omega)).symm), rfl⟩)
  by_cases cs_16_5 : k = 5
  · refine lv_tableIn (off := 91) (tgt := 107) hx hb dX1_brandTold_16 (by rcases (by omega : k = 5) with h9 <;> (rw [h9]; decide)) (by rcases (by omega : k = 5) with h9 <;> (rw [h9]; decide)) (by rcases (by omega : k = 5) with h9 <;> (rw [h9]; rfl)) (by decide) ?_
    refine lv_aload_n hx hb dX1_brandTold_107 rfl (lv_at hl 0 rfl) ?_
    refine gf_X1_277_4 CX (hL.brand (k := b) (by omega)).at rfl dX1_brandTold_108 ?_
    rw [← hQ]
    exact b_iret CX hr hlk hS (Nat.le_of_ble_eq_true rfl) (Nat.le_of_ble_eq_true rfl) dX1_brandTold_111 (⟨(by have h9 : k = 0 ∨ k = 1 ∨ k = 2 ∨ k = 3 ∨ k = 4 ∨ k = 5 ∨ k = 6 ∨ k = 7 ∨ k = 8 ∨ k = 9 ∨ k = 10 ∨ k = 11 := (by omega); rcases h9 with rfl | rfl | rfl | rfl | rfl | rfl | rfl | rfl | rfl | rfl | rfl | rfl <;> first | (exfalso; omega) | rfl | exact (hW.kdE (by omega)).symm), rfl⟩)
  by_cases cs_16_6 : k = 6
  · refine lv_tableIn (off := 96) (tgt := 112) hx hb dX1_brandTold_16 (by rcases (by omega : k = 6) with h9 <;> (rw [h9]; decide)) (by rcases (by omega : k = 6) with h9 <;> (rw [h9]; decide)) (by rcases (by omega : k = 6) with h9 <;> (rw [h9]; rfl)) (by decide) ?_
    refine lv_aload_n hx hb dX1_brandTold_112 rfl (lv_at hl 0 rfl) ?_
    refine gf_X1_280_4 CX (hL.brand (k := b) (by omega)).at rfl dX1_brandTold_113 ?_
    rw [← hQ]
    exact b_iret CX hr hlk hS (Nat.le_of_ble_eq_true rfl) (Nat.le_of_ble_eq_true rfl) dX1_brandTold_116 (⟨(by have h9 : k = 0 ∨ k = 1 ∨ k = 2 ∨ k = 3 ∨ k = 4 ∨ k = 5 ∨ k = 6 ∨ k = 7 ∨ k = 8 ∨ k = 9 ∨ k = 10 ∨ k = 11 := (by omega); rcases h9 with rfl | rfl | rfl | rfl | rfl | rfl | rfl | rfl | rfl | rfl | rfl | rfl <;> first | (exfalso; omega) | rfl | exact (hW.kdE (by omega)).symm), rfl⟩)
  by_cases cs_16_7 : k = 7
  · refine lv_tableIn (off := 101) (tgt := 117) hx hb dX1_brandTold_16 (by rcases (by omega : k = 7) with h9 <;> (rw [h9]; decide)) (by rcases (by omega : k = 7) with h9 <;> (rw [h9]; decide)) (by rcases (by omega : k = 7) with h9 <;> (rw [h9]; rfl)) (by decide) ?_
    refine lv_aload_n hx hb dX1_brandTold_117 rfl (lv_at hl 0 rfl) ?_
    refine gf_X1_283_4 CX (hL.brand (k := b) (by omega)).at rfl dX1_brandTold_118 ?_
    rw [← hQ]
    exact b_iret CX hr hlk hS (Nat.le_of_ble_eq_true rfl) (Nat.le_of_ble_eq_true rfl) dX1_brandTold_121 (⟨(by have h9 : k = 0 ∨ k = 1 ∨ k = 2 ∨ k = 3 ∨ k = 4 ∨ k = 5 ∨ k = 6 ∨ k = 7 ∨ k = 8 ∨ k = 9 ∨ k = 10 ∨ k = 11 := (by omega); rcases h9 with rfl | rfl | rfl | rfl | rfl | rfl | rfl | rfl | rfl | rfl | rfl | rfl <;> first | (exfalso; omega) | rfl | exact (hW.kdE (by omega)).symm), rfl⟩)
  by_cases cs_16_8 : k = 8
  · refine lv_tableIn (off := 106) (tgt := 122) hx hb dX1_brandTold_16 (by rcases (by omega : k = 8) with h9 <;> (rw [h9]; decide)) (by rcases (by omega : k = 8) with h9 <;> (rw [h9]; decide)) (by rcases (by omega : k = 8) with h9 <;> (rw [h9]; rfl)) (by decide) ?_
    refine lv_aload_n hx hb dX1_brandTold_122 rfl (lv_at hl 0 rfl) ?_
    refine gf_X1_286_4 CX (hL.brand (k := b) (by omega)).at rfl dX1_brandTold_123 ?_
    rw [← hQ]
    exact b_iret CX hr hlk hS (Nat.le_of_ble_eq_true rfl) (Nat.le_of_ble_eq_true rfl) dX1_brandTold_126 (⟨(by have h9 : k = 0 ∨ k = 1 ∨ k = 2 ∨ k = 3 ∨ k = 4 ∨ k = 5 ∨ k = 6 ∨ k = 7 ∨ k = 8 ∨ k = 9 ∨ k = 10 ∨ k = 11 := (by omega); rcases h9 with rfl | rfl | rfl | rfl | rfl | rfl | rfl | rfl | rfl | rfl | rfl | rfl <;> first | (exfalso; omega) | rfl | exact (hW.kdE (by omega)).symm), rfl⟩)
  by_cases cs_16_9 : k = 9
  · refine lv_tableIn (off := 111) (tgt := 127) hx hb dX1_brandTold_16 (by rcases (by omega : k = 9) with h9 <;> (rw [h9]; decide)) (by rcases (by omega : k = 9) with h9 <;> (rw [h9]; decide)) (by rcases (by omega : k = 9) with h9 <;> (rw [h9]; rfl)) (by decide) ?_
    refine lv_aload_n hx hb dX1_brandTold_127 rfl (lv_at hl 0 rfl) ?_
    refine gf_X1_289_4 CX (hL.brand (k := b) (by omega)).at rfl dX1_brandTold_128 ?_
    rw [← hQ]
    exact b_iret CX hr hlk hS (Nat.le_of_ble_eq_true rfl) (Nat.le_of_ble_eq_true rfl) dX1_brandTold_131 (⟨(by have h9 : k = 0 ∨ k = 1 ∨ k = 2 ∨ k = 3 ∨ k = 4 ∨ k = 5 ∨ k = 6 ∨ k = 7 ∨ k = 8 ∨ k = 9 ∨ k = 10 ∨ k = 11 := (by omega); rcases h9 with rfl | rfl | rfl | rfl | rfl | rfl | rfl | rfl | rfl | rfl | rfl | rfl <;> first | (exfalso; omega) | rfl | exact (hW.kdE (by omega)).symm), rfl⟩)
  by_cases cs_16_10 : k = 10
  · refine lv_tableIn (off := 116) (tgt := 132) hx hb dX1_brandTold_16 (by rcases (by omega : k = 10) with h9 <;> (rw [h9]; decide)) (by rcases (by omega : k = 10) with h9 <;> (rw [h9]; decide)) (by rcases (by omega : k = 10) with h9 <;> (rw [h9]; rfl)) (by decide) ?_
    refine lv_aload_n hx hb dX1_brandTold_132 rfl (lv_at hl 0 rfl) ?_
    refine gf_X1_292_4 CX (hL.brand (k := b) (by omega)).at rfl dX1_brandTold_133 ?_
    rw [← hQ]
    exact b_iret CX hr hlk hS (Nat.le_of_ble_eq_true rfl) (Nat.le_of_ble_eq_true rfl) dX1_brandTold_136 (⟨(by have h9 : k = 0 ∨ k = 1 ∨ k = 2 ∨ k = 3 ∨ k = 4 ∨ k = 5 ∨ k = 6 ∨ k = 7 ∨ k = 8 ∨ k = 9 ∨ k = 10 ∨ k = 11 := (by omega); rcases h9 with rfl | rfl | rfl | rfl | rfl | rfl | rfl | rfl | rfl | rfl | rfl | rfl <;> first | (exfalso; omega) | rfl | exact (hW.kdE (by omega)).symm), rfl⟩)
  refine lv_tableOut (tgt := 137) hx hb dX1_brandTold_16 (by first | decide | (rw [nI_toInt (by omega)]; omega)) (by decide) ?_
  refine lv_aload_n hx hb dX1_brandTold_137 rfl (lv_at hl 0 rfl) ?_
  refine gf_X1_295_4 CX (hL.brand (k := b) (by omega)).at rfl dX1_brandTold_138 ?_
  rw [← hQ]
  exact b_iret CX hr hlk hS (Nat.le_of_ble_eq_true rfl) (Nat.le_of_ble_eq_true rfl) dX1_brandTold_141 (⟨(by have h9 : k = 0 ∨ k = 1 ∨ k = 2 ∨ k = 3 ∨ k = 4 ∨ k = 5 ∨ k = 6 ∨ k = 7 ∨ k = 8 ∨ k = 9 ∨ k = 10 ∨ k = 11 := (by omega); rcases h9 with rfl | rfl | rfl | rfl | rfl | rfl | rfl | rfl | rfl | rfl | rfl | rfl <;> first | (exfalso; omega) | rfl | exact (hW.kdE (by omega)).symm), rfl⟩)
theorem gf_X1_106_5 {p : Program} {l : Launch} {e : Env} {R : Room} {s : State} {m : MethodId} {args : Array Value} {below : List Frame} {meth : Method} {c : Code} {H : Heap} {locs : List Loc} {cells slots : Nat} {Q : State → Prop} {cc : ByteArray} {pc nL a : Nat} {ls : Array Slot} {rest : List Value} {G : b_G} {B0 : Nat} (CX : b_Cx p s m args c cc nL RX1 G B0) {fs : List Value} (hP : b_at G a (.inr (5, fs)) H) {v : Value} (hv : fs[2]? = some v) (hdg : decode cc pc = .ok (.getfield 106, 3)) (kk : W p l e R s m args below meth c H locs cells slots Q (F0 m (pc + 3) ls (v :: rest))) : W p l e R s m args below meth c H locs cells slots Q (F0 m pc ls (.ref a :: rest)) := b_getN CX in_X5 rfl 2 (by decide) q1062 (Or.inl rfl) hP hv hdg kk
theorem cs_X1_302 {p : Program} {l : Launch} {e : Env} {R : Room} {s : State} {m : MethodId} {args : Array Value} {below : List Frame} {meth : Method} {c : Code} {H : Heap} {locs : List Loc} {cells slots : Nat} {cc : ByteArray} {pc nL : Nat} {ls : Array Slot} {rest : List Value} {G : b_G} {B0 : Nat} (CX : b_Cx p s m args c cc nL RX1 G B0) (hls : ls.size = nL) {rm : Room} {mc ms : Nat} {As st0 : List Value} {Qc : Array Value → State → Outcome → State → Prop} (hM : Met l yX1_sum (ws_ yX1_sum cX1_sum 6 (Option.some Jvm.ClassFile.FieldType.int)) rm (b_Pc G B0 H As) Qc mc ms (b_A B0)) (hn : As.length = 1) (hS : va_S (b_A B0) s.heap H locs) (hst : st0 = As.reverse ++ rest) (hr : rm.cells = mc ∧ rm.slots = ms ∧ rm.frames + 1 ≤ R.frames ∧ 8 + (6 + 11) + rm.locals ≤ R.locals) (hw : (rest.map fun v => v.category).sum ≤ 8) (hdg : decode cc pc = .ok (.invokestatic 302, 3)) (hf : cells + mc ≤ R.cells ∧ slots + ms ≤ R.slots) : va_Run p l e R s m args below meth c H locs cells slots mc ms (F0 m pc ls st0) rest (Qc As.toArray) (b_A B0) := va_runS CX.fix hM (va_cwS 1 CX.ts (lw_S q880 q881 q79 q882) rfl hr.1 hr.2.1 (by decide +kernel) ⟨hr.2.2.1, hr.2.2.2⟩) ⟨b_blind G B0 H _, b_pre _ CX.K hS⟩ rfl hn hls hst (lv_room hw) hdg hf
theorem gf_X1_306_5 {p : Program} {l : Launch} {e : Env} {R : Room} {s : State} {m : MethodId} {args : Array Value} {below : List Frame} {meth : Method} {c : Code} {H : Heap} {locs : List Loc} {cells slots : Nat} {Q : State → Prop} {cc : ByteArray} {pc nL a : Nat} {ls : Array Slot} {rest : List Value} {G : b_G} {B0 : Nat} (CX : b_Cx p s m args c cc nL RX1 G B0) {fs : List Value} (hP : b_at G a (.inr (5, fs)) H) {v : Value} (hv : fs[4]? = some v) (hdg : decode cc pc = .ok (.getfield 306, 3)) (kk : W p l e R s m args below meth c H locs cells slots Q (F0 m (pc + 3) ls (v :: rest))) : W p l e R s m args below meth c H locs cells slots Q (F0 m pc ls (.ref a :: rest)) := b_getN CX in_X5 rfl 4 (by decide) q1068 (Or.inl rfl) hP hv hdg kk
theorem gf_X1_309_5 {p : Program} {l : Launch} {e : Env} {R : Room} {s : State} {m : MethodId} {args : Array Value} {below : List Frame} {meth : Method} {c : Code} {H : Heap} {locs : List Loc} {cells slots : Nat} {Q : State → Prop} {cc : ByteArray} {pc nL a : Nat} {ls : Array Slot} {rest : List Value} {G : b_G} {B0 : Nat} (CX : b_Cx p s m args c cc nL RX1 G B0) {fs : List Value} (hP : b_at G a (.inr (5, fs)) H) {v : Value} (hv : fs[5]? = some v) (hdg : decode cc pc = .ok (.getfield 309, 3)) (kk : W p l e R s m args below meth c H locs cells slots Q (F0 m (pc + 3) ls (v :: rest))) : W p l e R s m args below meth c H locs cells slots Q (F0 m pc ls (.ref a :: rest)) := b_getN CX in_X5 rfl 5 (by decide) q1071 (Or.inl rfl) hP hv hdg kk
theorem gf_X1_312_5 {p : Program} {l : Launch} {e : Env} {R : Room} {s : State} {m : MethodId} {args : Array Value} {below : List Frame} {meth : Method} {c : Code} {H : Heap} {locs : List Loc} {cells slots : Nat} {Q : State → Prop} {cc : ByteArray} {pc nL a : Nat} {ls : Array Slot} {rest : List Value} {G : b_G} {B0 : Nat} (CX : b_Cx p s m args c cc nL RX1 G B0) {fs : List Value} (hP : b_at G a (.inr (5, fs)) H) {v : Value} (hv : fs[6]? = some v) (hdg : decode cc pc = .ok (.getfield 312, 3)) (kk : W p l e R s m args below meth c H locs cells slots Q (F0 m (pc + 3) ls (v :: rest))) : W p l e R s m args below meth c H locs cells slots Q (F0 m pc ls (.ref a :: rest)) := b_getN CX in_X5 rfl 6 (by decide) q1074 (Or.inl rfl) hP hv hdg kk
set_option maxHeartbeats 2000000 in
set_option maxRecDepth 100000 in
theorem m_X1_shopTold (l : Launch) {G : b_G} {B0 : Nat} {H : Heap} {τ : b_T} {id : Nat} {F : Nat → Nat} {M : Nat → Int32} {E : Nat → Bool} {S : b_St} {Z : Nat → Nat → Int32} {a : Nat} {asv : Nat} {atx : Nat} {atk : Nat} {hs : Int64} {s_ : Nat} {k : Nat} (hc_X : b_tt G B0 τ H a 0 (.inr (0, [.ref ((F 0)), .ref asv, .ref atx, .ref atk, .long hs]))) (hL : LR G B0 τ id F M E H S Z) (hW : b_WF S) (hSs_ : s_ < ns S) (hk : (k ≤ 6 ∨ (10 ≤ k ∧ k < 18) ∨ (20 ≤ k ∧ k < 28))) : Met l yX1_shopTold (ws_ yX1_shopTold cX1_shopTold 4 (Option.some Jvm.ClassFile.FieldType.int)) ({ frames := 3, cells := 0, slots := 0, locals := 64 } : Room) (b_Pc G B0 H [.ref a, .int (nI s_), .int (nI k)]) (b_Qi B0 (fun r H1 => r = p_shop S s_ k ∧ H1 = H)) 0 0 (b_A B0) := by
  refine b_of (by decide) (Nat.le_of_ble_eq_true rfl) ?_
  intro p e s m below meth c CX hr hlk hnm hS ls hl
  have CX : b_Cx p s m _ c cX1_shopTold 4 RX1 G B0 := CX
  have hx := CX.hx
  have hb := CX.hb
  have hl : lv_has ls 4 [(0, .ref a), (1, .int (nI s_)), (2, .int (nI k))] := hl
  generalize hQ : MQ below (b_Qi B0 (fun r H1 => r = p_shop S s_ k ∧ H1 = H)) ([.ref a, .int (nI s_), .int (nI k)] : List Value).toArray s 0 0 (b_A B0) = Q
  have hnb : nb S = nb S := rfl
  have hns : ns S = ns S := rfl
  have hn8 := hL.2.2.2.1
  have hn6 := hL.2.2.2.2
  refine lv_aload_n hx hb dX1_shopTold_0 rfl (lv_at hl 0 rfl) ?_
  refine gf_X1_19_0 CX hc_X.at rfl dX1_shopTold_1 ?_
  refine gf_X1_77_1 CX hL.loop.at rfl dX1_shopTold_4 ?_
  refine lv_iload_n hx hb dX1_shopTold_7 rfl (lv_at hl 1 rfl) ?_
  refine b_cq0 (cs_X1_103 (rest := []) CX hl.1 (m_J2_get l (a := (F 3)) (ta := 1000 * id + 3) (mc := M 3) (ra := (F 4)) (tr := 1000 * id + 4) (f := (fun j => F (30 + j))) (n := ns S) (i := s_) (hL.alg3 hW (by omega)) (hL.arg4 (by omega)) (by omega) (by omega)) rfl rfl rfl (hL.alg3 hW (by omega)).at hS rfl ⟨rfl, rfl, Nat.le_of_ble_eq_true rfl, Nat.le_of_ble_eq_true rfl⟩ (Nat.le_of_ble_eq_true rfl) dX1_shopTold_8 ⟨Nat.le_of_ble_eq_true rfl, Nat.le_of_ble_eq_true rfl⟩) hS (fun locs hS => ?_)
  refine b_cast CX (ci := 5) rfl (hL.shop (k := s_) (by omega)).at q820 dX1_shopTold_11 ?_
  refine lv_astore_n (lv' := [(3, .ref ((F (30 + s_)))), (0, .ref a), (1, .int (nI s_)), (2, .int (nI k))]) hx hb dX1_shopTold_14 rfl hl (Nat.le_of_ble_eq_true rfl) rfl (fun ls hl => ?_)
  refine lv_iload_n hx hb dX1_shopTold_15 rfl (lv_at hl 3 rfl) ?_
  by_cases cs_16_0 : k = 0
  · refine lv_tableIn (off := 44) (tgt := 60) hx hb dX1_shopTold_16 (by rcases (by omega : k = 0) with h9 <;> (rw [h9]; decide)) (by rcases (by omega : k = 0) with h9 <;> (rw [h9]; decide)) (by rcases (by omega : k = 0) with h9 <;> (rw [h9]; rfl)) (by decide) ?_
    refine lv_aload_n hx hb dX1_shopTold_60 rfl (lv_at hl 0 rfl) ?_
    refine gf_X1_106_5 CX (hL.shop (k := s_) (by omega)).at rfl dX1_shopTold_61 ?_
    rw [← hQ]
    exact b_iret CX hr hlk hS (Nat.le_of_ble_eq_true rfl) (Nat.le_of_ble_eq_true rfl) dX1_shopTold_64 (⟨(by first | (have h9 : k = 0 ∨ k = 1 ∨ k = 2 ∨ k = 3 ∨ k = 4 ∨ k = 5 ∨ k = 6 := (by omega); rcases h9 with rfl | rfl | rfl | rfl | rfl | rfl | rfl <;> first | (exfalso; omega) | rfl) | (unfold p_shop; rw [if_pos (show 9 < k by omega)]; first | (rw [if_pos (show k < 20 by omega), show k % 10 = k - 10 by omega]) | (rw [if_neg (show ¬ k < 20 by omega), show k % 10 = k - 20 by omega]))), rfl⟩)
  by_cases cs_16_1 : k = 1
  · refine lv_tableIn (off := 49) (tgt := 65) hx hb dX1_shopTold_16 (by rcases (by omega : k = 1) with h9 <;> (rw [h9]; decide)) (by rcases (by omega : k = 1) with h9 <;> (rw [h9]; decide)) (by rcases (by omega : k = 1) with h9 <;> (rw [h9]; rfl)) (by decide) ?_
    refine lv_aload_n hx hb dX1_shopTold_65 rfl (lv_at hl 0 rfl) ?_
    refine gf_X1_110_5 CX (hL.shop (k := s_) (by omega)).at rfl dX1_shopTold_66 ?_
    rw [← hQ]
    exact b_iret CX hr hlk hS (Nat.le_of_ble_eq_true rfl) (Nat.le_of_ble_eq_true rfl) dX1_shopTold_69 (⟨(by first | (have h9 : k = 0 ∨ k = 1 ∨ k = 2 ∨ k = 3 ∨ k = 4 ∨ k = 5 ∨ k = 6 := (by omega); rcases h9 with rfl | rfl | rfl | rfl | rfl | rfl | rfl <;> first | (exfalso; omega) | rfl) | (unfold p_shop; rw [if_pos (show 9 < k by omega)]; first | (rw [if_pos (show k < 20 by omega), show k % 10 = k - 10 by omega]) | (rw [if_neg (show ¬ k < 20 by omega), show k % 10 = k - 20 by omega]))), rfl⟩)
  by_cases cs_16_2 : k = 2
  · refine lv_tableIn (off := 54) (tgt := 70) hx hb dX1_shopTold_16 (by rcases (by omega : k = 2) with h9 <;> (rw [h9]; decide)) (by rcases (by omega : k = 2) with h9 <;> (rw [h9]; decide)) (by rcases (by omega : k = 2) with h9 <;> (rw [h9]; rfl)) (by decide) ?_
    refine lv_aload_n hx hb dX1_shopTold_70 rfl (lv_at hl 0 rfl) ?_
    refine gf_X1_263_5 CX (hL.shop (k := s_) (by omega)).at rfl dX1_shopTold_71 ?_
    refine b_ci0 (cs_X1_302 (rest := []) CX hl.1 (m_X1_sum l (ra := (F (40 + s_))) (tr := 1000 * id + (40 + s_)) (f := (fun j => S 4 s_ j)) (hL.full (k := s_) (by omega))) rfl hS rfl ⟨rfl, rfl, Nat.le_of_ble_eq_true rfl, Nat.le_of_ble_eq_true rfl⟩ (Nat.le_of_ble_eq_true rfl) dX1_shopTold_74 ⟨Nat.le_of_ble_eq_true rfl, Nat.le_of_ble_eq_true rfl⟩) hS (fun locs hS => ?_)
    rw [← hQ]
    exact b_iret CX hr hlk hS (Nat.le_of_ble_eq_true rfl) (Nat.le_of_ble_eq_true rfl) dX1_shopTold_77 (⟨(by first | (have h9 : k = 0 ∨ k = 1 ∨ k = 2 ∨ k = 3 ∨ k = 4 ∨ k = 5 ∨ k = 6 := (by omega); rcases h9 with rfl | rfl | rfl | rfl | rfl | rfl | rfl <;> first | (exfalso; omega) | rfl) | (unfold p_shop; rw [if_pos (show 9 < k by omega)]; first | (rw [if_pos (show k < 20 by omega), show k % 10 = k - 10 by omega]) | (rw [if_neg (show ¬ k < 20 by omega), show k % 10 = k - 20 by omega]))), rfl⟩)
  by_cases cs_16_3 : k = 3
  · refine lv_tableIn (off := 62) (tgt := 78) hx hb dX1_shopTold_16 (by rcases (by omega : k = 3) with h9 <;> (rw [h9]; decide)) (by rcases (by omega : k = 3) with h9 <;> (rw [h9]; decide)) (by rcases (by omega : k = 3) with h9 <;> (rw [h9]; rfl)) (by decide) ?_
    refine lv_aload_n hx hb dX1_shopTold_78 rfl (lv_at hl 0 rfl) ?_
    refine gf_X1_266_5 CX (hL.shop (k := s_) (by omega)).at rfl dX1_shopTold_79 ?_
    refine b_ci0 (cs_X1_302 (rest := []) CX hl.1 (m_X1_sum l (ra := (F (50 + s_))) (tr := 1000 * id + (50 + s_)) (f := (fun j => S 5 s_ j)) (hL.empt (k := s_) (by omega))) rfl hS rfl ⟨rfl, rfl, Nat.le_of_ble_eq_true rfl, Nat.le_of_ble_eq_true rfl⟩ (Nat.le_of_ble_eq_true rfl) dX1_shopTold_82 ⟨Nat.le_of_ble_eq_true rfl, Nat.le_of_ble_eq_true rfl⟩) hS (fun locs hS => ?_)
    rw [← hQ]
    exact b_iret CX hr hlk hS (Nat.le_of_ble_eq_true rfl) (Nat.le_of_ble_eq_true rfl) dX1_shopTold_85 (⟨(by first | (have h9 : k = 0 ∨ k = 1 ∨ k = 2 ∨ k = 3 ∨ k = 4 ∨ k = 5 ∨ k = 6 := (by omega); rcases h9 with rfl | rfl | rfl | rfl | rfl | rfl | rfl <;> first | (exfalso; omega) | rfl) | (unfold p_shop; rw [if_pos (show 9 < k by omega)]; first | (rw [if_pos (show k < 20 by omega), show k % 10 = k - 10 by omega]) | (rw [if_neg (show ¬ k < 20 by omega), show k % 10 = k - 20 by omega]))), rfl⟩)
  by_cases cs_16_4 : k = 4
  · refine lv_tableIn (off := 70) (tgt := 86) hx hb dX1_shopTold_16 (by rcases (by omega : k = 4) with h9 <;> (rw [h9]; decide)) (by rcases (by omega : k = 4) with h9 <;> (rw [h9]; decide)) (by rcases (by omega : k = 4) with h9 <;> (rw [h9]; rfl)) (by decide) ?_
    refine lv_aload_n hx hb dX1_shopTold_86 rfl (lv_at hl 0 rfl) ?_
    refine gf_X1_306_5 CX (hL.shop (k := s_) (by omega)).at rfl dX1_shopTold_87 ?_
    rw [← hQ]
    exact b_iret CX hr hlk hS (Nat.le_of_ble_eq_true rfl) (Nat.le_of_ble_eq_true rfl) dX1_shopTold_90 (⟨(by first | (have h9 : k = 0 ∨ k = 1 ∨ k = 2 ∨ k = 3 ∨ k = 4 ∨ k = 5 ∨ k = 6 := (by omega); rcases h9 with rfl | rfl | rfl | rfl | rfl | rfl | rfl <;> first | (exfalso; omega) | rfl) | (unfold p_shop; rw [if_pos (show 9 < k by omega)]; first | (rw [if_pos (show k < 20 by omega), show k % 10 = k - 10 by omega]) | (rw [if_neg (show ¬ k < 20 by omega), show k % 10 = k - 20 by omega]))), rfl⟩)
  by_cases cs_16_5 : k = 5
  · refine lv_tableIn (off := 75) (tgt := 91) hx hb dX1_shopTold_16 (by rcases (by omega : k = 5) with h9 <;> (rw [h9]; decide)) (by rcases (by omega : k = 5) with h9 <;> (rw [h9]; decide)) (by rcases (by omega : k = 5) with h9 <;> (rw [h9]; rfl)) (by decide) ?_
    refine lv_aload_n hx hb dX1_shopTold_91 rfl (lv_at hl 0 rfl) ?_
    refine gf_X1_309_5 CX (hL.shop (k := s_) (by omega)).at rfl dX1_shopTold_92 ?_
    rw [← hQ]
    exact b_iret CX hr hlk hS (Nat.le_of_ble_eq_true rfl) (Nat.le_of_ble_eq_true rfl) dX1_shopTold_95 (⟨(by first | (have h9 : k = 0 ∨ k = 1 ∨ k = 2 ∨ k = 3 ∨ k = 4 ∨ k = 5 ∨ k = 6 := (by omega); rcases h9 with rfl | rfl | rfl | rfl | rfl | rfl | rfl <;> first | (exfalso; omega) | rfl) | (unfold p_shop; rw [if_pos (show 9 < k by omega)]; first | (rw [if_pos (show k < 20 by omega), show k % 10 = k - 10 by omega]) | (rw [if_neg (show ¬ k < 20 by omega), show k % 10 = k - 20 by omega]))), rfl⟩)
  by_cases cs_16_6 : k = 6
  · refine lv_tableIn (off := 80) (tgt := 96) hx hb dX1_shopTold_16 (by rcases (by omega : k = 6) with h9 <;> (rw [h9]; decide)) (by rcases (by omega : k = 6) with h9 <;> (rw [h9]; decide)) (by rcases (by omega : k = 6) with h9 <;> (rw [h9]; rfl)) (by decide) ?_
    refine lv_aload_n hx hb dX1_shopTold_96 rfl (lv_at hl 0 rfl) ?_
    refine gf_X1_312_5 CX (hL.shop (k := s_) (by omega)).at rfl dX1_shopTold_97 ?_
    rw [← hQ]
    exact b_iret CX hr hlk hS (Nat.le_of_ble_eq_true rfl) (Nat.le_of_ble_eq_true rfl) dX1_shopTold_100 (⟨(by first | (have h9 : k = 0 ∨ k = 1 ∨ k = 2 ∨ k = 3 ∨ k = 4 ∨ k = 5 ∨ k = 6 := (by omega); rcases h9 with rfl | rfl | rfl | rfl | rfl | rfl | rfl <;> first | (exfalso; omega) | rfl) | (unfold p_shop; rw [if_pos (show 9 < k by omega)]; first | (rw [if_pos (show k < 20 by omega), show k % 10 = k - 10 by omega]) | (rw [if_neg (show ¬ k < 20 by omega), show k % 10 = k - 20 by omega]))), rfl⟩)
  refine lv_tableOut (tgt := 101) hx hb dX1_shopTold_16 (by first | decide | (rw [nI_toInt (by omega)]; omega)) (by decide) ?_
  refine lv_iload_n hx hb dX1_shopTold_101 rfl (lv_at hl 3 rfl) ?_
  refine lv_bipush (v := nI 20) hx hb dX1_shopTold_102 rfl ?_
  refine b_icmp_geN (tgt := 119) CX (by omega) (by omega) dX1_shopTold_104 (by decide) (fun c_104 => ?_) (fun c_104 => ?_)
  · refine lv_aload_n hx hb dX1_shopTold_119 rfl (lv_at hl 0 rfl) ?_
    refine gf_X1_266_5 CX (hL.shop (k := s_) (by omega)).at rfl dX1_shopTold_120 ?_
    refine lv_iload_n hx hb dX1_shopTold_123 rfl (lv_at hl 3 rfl) ?_
    refine lv_bipush (v := nI 20) hx hb dX1_shopTold_124 rfl ?_
    refine b_isubN CX (by omega) dX1_shopTold_126 ?_
    refine b_ild CX (hL.empt (k := s_) (by omega)).at (x := S 5 s_ (k - 20)) (vp_in_nI (by omega) (by omega)) (b_at_nI (f := (fun j => S 5 s_ j)) (n := k - 20) (by omega) rfl) dX1_shopTold_127 ?_
    rw [← hQ]
    exact b_iret CX hr hlk hS (Nat.le_of_ble_eq_true rfl) (Nat.le_of_ble_eq_true rfl) dX1_shopTold_128 (⟨(by first | (have h9 : k = 0 ∨ k = 1 ∨ k = 2 ∨ k = 3 ∨ k = 4 ∨ k = 5 ∨ k = 6 := (by omega); rcases h9 with rfl | rfl | rfl | rfl | rfl | rfl | rfl <;> first | (exfalso; omega) | rfl) | (unfold p_shop; rw [if_pos (show 9 < k by omega)]; first | (rw [if_pos (show k < 20 by omega), show k % 10 = k - 10 by omega]) | (rw [if_neg (show ¬ k < 20 by omega), show k % 10 = k - 20 by omega]))), rfl⟩)
  · refine lv_aload_n hx hb dX1_shopTold_107 rfl (lv_at hl 0 rfl) ?_
    refine gf_X1_263_5 CX (hL.shop (k := s_) (by omega)).at rfl dX1_shopTold_108 ?_
    refine lv_iload_n hx hb dX1_shopTold_111 rfl (lv_at hl 3 rfl) ?_
    refine lv_bipush (v := nI 10) hx hb dX1_shopTold_112 rfl ?_
    refine b_isubN CX (by omega) dX1_shopTold_114 ?_
    refine b_ild CX (hL.full (k := s_) (by omega)).at (x := S 4 s_ (k - 10)) (vp_in_nI (by omega) (by omega)) (b_at_nI (f := (fun j => S 4 s_ j)) (n := k - 10) (by omega) rfl) dX1_shopTold_115 ?_
    refine lv_goto (tgt := 128) hx hb dX1_shopTold_116 (by decide) ?_
    rw [← hQ]
    exact b_iret CX hr hlk hS (Nat.le_of_ble_eq_true rfl) (Nat.le_of_ble_eq_true rfl) dX1_shopTold_128 (⟨(by first | (have h9 : k = 0 ∨ k = 1 ∨ k = 2 ∨ k = 3 ∨ k = 4 ∨ k = 5 ∨ k = 6 := (by omega); rcases h9 with rfl | rfl | rfl | rfl | rfl | rfl | rfl <;> first | (exfalso; omega) | rfl) | (unfold p_shop; rw [if_pos (show 9 < k by omega)]; first | (rw [if_pos (show k < 20 by omega), show k % 10 = k - 10 by omega]) | (rw [if_neg (show ¬ k < 20 by omega), show k % 10 = k - 20 by omega]))), rfl⟩)
theorem cs_X1_298 {p : Program} {l : Launch} {e : Env} {R : Room} {s : State} {m : MethodId} {args : Array Value} {below : List Frame} {meth : Method} {c : Code} {H : Heap} {locs : List Loc} {cells slots : Nat} {cc : ByteArray} {pc nL a : Nat} {ls : Array Slot} {rest : List Value} {G : b_G} {B0 : Nat} (CX : b_Cx p s m args c cc nL RX1 G B0) (hls : ls.size = nL) {rm : Room} {mc ms : Nat} {As st0 : List Value} {Qc : Array Value → State → Outcome → State → Prop} (hM : Met l yX1_brandTold (ws_ yX1_brandTold cX1_brandTold 4 (Option.some Jvm.ClassFile.FieldType.int)) rm (b_Pc G B0 H (.ref a :: As)) Qc mc ms (b_A B0)) (hn : As.length = 2) {fs : List Value} {ci : Nat} {qc : vw_C} (hc : b_cl[ci]? = some qc) (hq : qc.1 = RX1) (hP : b_at G a (.inr (ci, fs)) H) (hS : va_S (b_A B0) s.heap H locs) (hst : st0 = As.reverse ++ .ref a :: rest) (hr : rm.cells = mc ∧ rm.slots = ms ∧ rm.frames + 1 ≤ R.frames ∧ 8 + (4 + 11) + rm.locals ≤ R.locals) (hw : (rest.map fun v => v.category).sum ≤ 8) (hdg : decode cc pc = .ok (.invokevirtual 298, 3)) (hf : cells + mc ≤ R.cells ∧ slots + ms ≤ R.slots) : va_Run p l e R s m args below meth c H locs cells slots mc ms (F0 m pc ls st0) rest (Qc (Value.ref a :: As).toArray) (b_A B0) := va_runV CX.fix hM (cwV 2 CX.ts (lw_V q812 q814 qs11 q79 q815) rfl hr.1 hr.2.1 (by decide +kernel) ⟨hr.2.2.1, hr.2.2.2⟩) ⟨b_blind G B0 H _, by have h9 := b_recv CX.K hc hP; rw [hq] at h9; exact h9, b_pre _ CX.K hS⟩ rfl hn hls hst (lv_room hw) hdg hf
set_option maxHeartbeats 2000000 in
set_option maxRecDepth 100000 in
theorem m_X1_ofBrands (l : Launch) {G : b_G} {B0 : Nat} {H : Heap} {τ : b_T} {id : Nat} {F : Nat → Nat} {M : Nat → Int32} {E : Nat → Bool} {S : b_St} {Z : Nat → Nat → Int32} {a : Nat} {asv : Nat} {atx : Nat} {atk : Nat} {hs : Int64} {k : Nat} (hc_X : b_tt G B0 τ H a 0 (.inr (0, [.ref ((F 0)), .ref asv, .ref atx, .ref atk, .long hs]))) (hL : LR G B0 τ id F M E H S Z) (hW : b_WF S) (hk : k < 12) : Met l yX1_ofBrands (ws_ yX1_ofBrands cX1_ofBrands 4 (Option.some Jvm.ClassFile.FieldType.int)) ({ frames := 5, cells := 0, slots := 0, locals := 111 } : Room) (b_Pc G B0 H [.ref a, .int (nI k)]) (b_Qi B0 (fun r H1 => r = p_sum (fun b => p_about S b k) (nb S) ∧ H1 = H)) 0 0 (b_A B0) := by
  refine b_of (by decide) (Nat.le_of_ble_eq_true rfl) ?_
  intro p e s m below meth c CX hr hlk hnm hS ls hl
  have CX : b_Cx p s m _ c cX1_ofBrands 4 RX1 G B0 := CX
  have hx := CX.hx
  have hb := CX.hb
  have hl : lv_has ls 4 [(0, .ref a), (1, .int (nI k))] := hl
  generalize hQ : MQ below (b_Qi B0 (fun r H1 => r = p_sum (fun b => p_about S b k) (nb S) ∧ H1 = H)) ([.ref a, .int (nI k)] : List Value).toArray s 0 0 (b_A B0) = Q
  have hnb : nb S = nb S := rfl
  have hns : ns S = ns S := rfl
  have hn8 := hL.2.2.2.1
  have hn6 := hL.2.2.2.2
  refine lv_iconst (v := nI 0) hx hb dX1_ofBrands_0 rfl ?_
  refine lv_istore_n (lv' := [(2, .int (nI 0)), (0, .ref a), (1, .int (nI k))]) hx hb dX1_ofBrands_1 rfl hl (Nat.le_of_ble_eq_true rfl) rfl (fun ls hl => ?_)
  refine lv_iconst (v := nI 0) hx hb dX1_ofBrands_2 rfl ?_
  refine lv_istore_n (lv' := [(3, .int (nI 0)), (2, .int (nI 0)), (0, .ref a), (1, .int (nI k))]) hx hb dX1_ofBrands_3 rfl hl (Nat.le_of_ble_eq_true rfl) rfl (fun ls hl => ?_)
  have lp4_1 : ∀ (n_ : Nat) (i : Nat), i ≤ nb S → nb S - i < n_ → ∀ (locs : List Loc), va_S (b_A B0) s.heap H locs → ∀ ls : Array Slot, lv_has ls 4 [(2, .int (p_sum (fun b => p_about S b k) i)), (3, .int (nI i)), (0, .ref a), (1, .int (nI k))] → W p l e ({ frames := 5, cells := 0, slots := 0, locals := 111 } : Room) s m ([.ref a, .int (nI k)] : List Value).toArray below meth c H locs 0 0 Q (F0 m 4 ls []) := by
    intro n_
    induction n_ with
    | zero => intro i hi hlt locs hS ls hl; exact absurd hlt (Nat.not_lt_zero _)
    | succ n_ ih4 =>
      intro i hi hlt locs hS ls hl
      refine lv_iload_n hx hb dX1_ofBrands_4 rfl (lv_at hl 1 rfl) ?_
      refine lv_aload_n hx hb dX1_ofBrands_5 rfl (lv_at hl 2 rfl) ?_
      refine gf_X1_19_0 CX hc_X.at rfl dX1_ofBrands_6 ?_
      refine gf_X1_70_1 CX hL.loop.at rfl dX1_ofBrands_9 ?_
      refine b_ci0 (cs_X1_45 (rest := [.int (nI i)]) CX hl.1 (m_J2_size l (a := (F 1)) (ta := 1000 * id + 1) (mc := M 1) (ra := (if E 1 = true then F 2 else G.2.2 0)) (x := S 0 0 0) hL.al1) rfl rfl rfl hL.al1.at hS rfl ⟨rfl, rfl, Nat.le_of_ble_eq_true rfl, Nat.le_of_ble_eq_true rfl⟩ (Nat.le_of_ble_eq_true rfl) dX1_ofBrands_12 ⟨Nat.le_of_ble_eq_true rfl, Nat.le_of_ble_eq_true rfl⟩) hS (fun locs hS => ?_)
      refine b_top (x := (S 0 0 0)) (y := nI (nb S)) (hW.nbE) ?_
      refine b_icmp_geN (tgt := 33) CX (by omega) (by omega) dX1_ofBrands_15 (by decide) (fun c_15 => ?_) (fun c_15 => ?_)
      · obtain rfl : i = nb S := by omega
        refine lv_iload_n hx hb dX1_ofBrands_33 rfl (lv_at hl 0 rfl) ?_
        rw [← hQ]
        exact b_iret CX hr hlk hS (Nat.le_of_ble_eq_true rfl) (Nat.le_of_ble_eq_true rfl) dX1_ofBrands_34 (⟨rfl, rfl⟩)
      · refine lv_iload_n hx hb dX1_ofBrands_18 rfl (lv_at hl 0 rfl) ?_
        refine lv_aload_n hx hb dX1_ofBrands_19 rfl (lv_at hl 2 rfl) ?_
        refine lv_iload_n hx hb dX1_ofBrands_20 rfl (lv_at hl 1 rfl) ?_
        refine lv_iload_n hx hb dX1_ofBrands_21 rfl (lv_at hl 3 rfl) ?_
        refine b_ci0 (cs_X1_298 (rest := [.int (p_sum (fun b => p_about S b k) i)]) CX hl.1 (m_X1_brandTold l (a := a) (asv := asv) (atx := atx) (atk := atk) (hs := hs) (b := i) (k := k) hc_X hL hW (by omega) (by omega)) rfl rfl rfl hc_X.at hS rfl ⟨rfl, rfl, Nat.le_of_ble_eq_true rfl, Nat.le_of_ble_eq_true rfl⟩ (Nat.le_of_ble_eq_true rfl) dX1_ofBrands_22 ⟨Nat.le_of_ble_eq_true rfl, Nat.le_of_ble_eq_true rfl⟩) hS (fun locs hS => ?_)
        refine lv_iadd hx hb dX1_ofBrands_25 ?_
        refine lv_istore_n (lv' := [(2, .int ((p_sum (fun b => p_about S b k) i) + (p_about S i k))), (3, .int (nI i)), (0, .ref a), (1, .int (nI k))]) hx hb dX1_ofBrands_26 rfl hl (Nat.le_of_ble_eq_true rfl) rfl (fun ls hl => ?_)
        refine lv_iinc (v := nI (i + 1)) (lv' := [(3, .int (nI (i + 1))), (2, .int ((p_sum (fun b => p_about S b k) i) + (p_about S i k))), (0, .ref a), (1, .int (nI k))]) hx hb dX1_ofBrands_27 hl (k := 1) rfl (nI_1 _) (Nat.le_of_ble_eq_true rfl) rfl (fun ls hl => ?_)
        refine lv_goto (tgt := 4) hx hb dX1_ofBrands_30 (by decide) ?_
        exact ih4 (i + 1) (by omega) (by omega) _ hS ls (lv_sub hl [1, 0, 2, 3] rfl)
  exact lp4_1 _ 0 (Nat.zero_le _) (Nat.lt_succ_self _) _ hS ls (lv_sub hl [1, 0, 2, 3] rfl)
theorem gf_X1_113_1 {p : Program} {l : Launch} {e : Env} {R : Room} {s : State} {m : MethodId} {args : Array Value} {below : List Frame} {meth : Method} {c : Code} {H : Heap} {locs : List Loc} {cells slots : Nat} {Q : State → Prop} {cc : ByteArray} {pc nL a : Nat} {ls : Array Slot} {rest : List Value} {G : b_G} {B0 : Nat} (CX : b_Cx p s m args c cc nL RX1 G B0) {fs : List Value} (hP : b_at G a (.inr (1, fs)) H) {v : Value} (hv : fs[4]? = some v) (hdg : decode cc pc = .ok (.getfield 113, 3)) (kk : W p l e R s m args below meth c H locs cells slots Q (F0 m (pc + 3) ls (v :: rest))) : W p l e R s m args below meth c H locs cells slots Q (F0 m pc ls (.ref a :: rest)) := b_getN CX in_X2 rfl 4 (by decide) q184 (Or.inl rfl) hP hv hdg kk
theorem cs_X1_116 {p : Program} {l : Launch} {e : Env} {R : Room} {s : State} {m : MethodId} {args : Array Value} {below : List Frame} {meth : Method} {c : Code} {H : Heap} {locs : List Loc} {cells slots : Nat} {cc : ByteArray} {pc nL a : Nat} {ls : Array Slot} {rest : List Value} {G : b_G} {B0 : Nat} (CX : b_Cx p s m args c cc nL RX1 G B0) (hls : ls.size = nL) {rm : Room} {mc ms : Nat} {As st0 : List Value} {Qc : Array Value → State → Outcome → State → Prop} (hM : Met l yX1_cratesInShops (ws_ yX1_cratesInShops cX1_cratesInShops 3 (Option.some Jvm.ClassFile.FieldType.int)) rm (b_Pc G B0 H (.ref a :: As)) Qc mc ms (b_A B0)) (hn : As.length = 0) {fs : List Value} {ci : Nat} {qc : vw_C} (hc : b_cl[ci]? = some qc) (hq : qc.1 = RX1) (hP : b_at G a (.inr (ci, fs)) H) (hS : va_S (b_A B0) s.heap H locs) (hst : st0 = As.reverse ++ .ref a :: rest) (hr : rm.cells = mc ∧ rm.slots = ms ∧ rm.frames + 1 ≤ R.frames ∧ 8 + (3 + 11) + rm.locals ≤ R.locals) (hw : (rest.map fun v => v.category).sum ≤ 8) (hdg : decode cc pc = .ok (.invokevirtual 116, 3)) (hf : cells + mc ≤ R.cells ∧ slots + ms ≤ R.slots) : va_Run p l e R s m args below meth c H locs cells slots mc ms (F0 m pc ls st0) rest (Qc (Value.ref a :: As).toArray) (b_A B0) := va_runV CX.fix hM (cwV 0 CX.ts (lw_V q830 q832 qs14 q79 q833) rfl hr.1 hr.2.1 (by decide +kernel) ⟨hr.2.2.1, hr.2.2.2⟩) ⟨b_blind G B0 H _, by have h9 := b_recv CX.K hc hP; rw [hq] at h9; exact h9, b_pre _ CX.K hS⟩ rfl hn hls hst (lv_room hw) hdg hf
theorem gf_X1_128_1 {p : Program} {l : Launch} {e : Env} {R : Room} {s : State} {m : MethodId} {args : Array Value} {below : List Frame} {meth : Method} {c : Code} {H : Heap} {locs : List Loc} {cells slots : Nat} {Q : State → Prop} {cc : ByteArray} {pc nL a : Nat} {ls : Array Slot} {rest : List Value} {G : b_G} {B0 : Nat} (CX : b_Cx p s m args c cc nL RX1 G B0) {fs : List Value} (hP : b_at G a (.inr (1, fs)) H) {v : Value} (hv : fs[5]? = some v) (hdg : decode cc pc = .ok (.getfield 128, 3)) (kk : W p l e R s m args below meth c H locs cells slots Q (F0 m (pc + 3) ls (v :: rest))) : W p l e R s m args below meth c H locs cells slots Q (F0 m pc ls (.ref a :: rest)) := b_getN CX in_X2 rfl 5 (by decide) q186 (Or.inl rfl) hP hv hdg kk
theorem gf_X1_321_1 {p : Program} {l : Launch} {e : Env} {R : Room} {s : State} {m : MethodId} {args : Array Value} {below : List Frame} {meth : Method} {c : Code} {H : Heap} {locs : List Loc} {cells slots : Nat} {Q : State → Prop} {cc : ByteArray} {pc nL a : Nat} {ls : Array Slot} {rest : List Value} {G : b_G} {B0 : Nat} (CX : b_Cx p s m args c cc nL RX1 G B0) {fs : List Value} (hP : b_at G a (.inr (1, fs)) H) {v : Value} (hv : fs[6]? = some v) (hdg : decode cc pc = .ok (.getfield 321, 3)) (kk : W p l e R s m args below meth c H locs cells slots Q (F0 m (pc + 3) ls (v :: rest))) : W p l e R s m args below meth c H locs cells slots Q (F0 m pc ls (.ref a :: rest)) := b_getN CX in_X2 rfl 6 (by decide) q188 (Or.inl rfl) hP hv hdg kk
theorem gf_X1_324_1 {p : Program} {l : Launch} {e : Env} {R : Room} {s : State} {m : MethodId} {args : Array Value} {below : List Frame} {meth : Method} {c : Code} {H : Heap} {locs : List Loc} {cells slots : Nat} {Q : State → Prop} {cc : ByteArray} {pc nL a : Nat} {ls : Array Slot} {rest : List Value} {G : b_G} {B0 : Nat} (CX : b_Cx p s m args c cc nL RX1 G B0) {fs : List Value} (hP : b_at G a (.inr (1, fs)) H) {v : Value} (hv : fs[7]? = some v) (hdg : decode cc pc = .ok (.getfield 324, 3)) (kk : W p l e R s m args below meth c H locs cells slots Q (F0 m (pc + 3) ls (v :: rest))) : W p l e R s m args below meth c H locs cells slots Q (F0 m pc ls (.ref a :: rest)) := b_getN CX in_X2 rfl 7 (by decide) q190 (Or.inl rfl) hP hv hdg kk
theorem cs_X1_327 {p : Program} {l : Launch} {e : Env} {R : Room} {s : State} {m : MethodId} {args : Array Value} {below : List Frame} {meth : Method} {c : Code} {H : Heap} {locs : List Loc} {cells slots : Nat} {cc : ByteArray} {pc nL a : Nat} {ls : Array Slot} {rest : List Value} {G : b_G} {B0 : Nat} (CX : b_Cx p s m args c cc nL RX1 G B0) (hls : ls.size = nL) {rm : Room} {mc ms : Nat} {As st0 : List Value} {Qc : Array Value → State → Outcome → State → Prop} (hM : Met l yX1_ofBrands (ws_ yX1_ofBrands cX1_ofBrands 4 (Option.some Jvm.ClassFile.FieldType.int)) rm (b_Pc G B0 H (.ref a :: As)) Qc mc ms (b_A B0)) (hn : As.length = 1) {fs : List Value} {ci : Nat} {qc : vw_C} (hc : b_cl[ci]? = some qc) (hq : qc.1 = RX1) (hP : b_at G a (.inr (ci, fs)) H) (hS : va_S (b_A B0) s.heap H locs) (hst : st0 = As.reverse ++ .ref a :: rest) (hr : rm.cells = mc ∧ rm.slots = ms ∧ rm.frames + 1 ≤ R.frames ∧ 8 + (4 + 11) + rm.locals ≤ R.locals) (hw : (rest.map fun v => v.category).sum ≤ 8) (hdg : decode cc pc = .ok (.invokevirtual 327, 3)) (hf : cells + mc ≤ R.cells ∧ slots + ms ≤ R.slots) : va_Run p l e R s m args below meth c H locs cells slots mc ms (F0 m pc ls st0) rest (Qc (Value.ref a :: As).toArray) (b_A B0) := va_runV CX.fix hM (cwV 1 CX.ts (lw_V q834 q836 qs15 q79 q837) rfl hr.1 hr.2.1 (by decide +kernel) ⟨hr.2.2.1, hr.2.2.2⟩) ⟨b_blind G B0 H _, by have h9 := b_recv CX.K hc hP; rw [hq] at h9; exact h9, b_pre _ CX.K hS⟩ rfl hn hls hst (lv_room hw) hdg hf
theorem gf_X1_247_1 {p : Program} {l : Launch} {e : Env} {R : Room} {s : State} {m : MethodId} {args : Array Value} {below : List Frame} {meth : Method} {c : Code} {H : Heap} {locs : List Loc} {cells slots : Nat} {Q : State → Prop} {cc : ByteArray} {pc nL a : Nat} {ls : Array Slot} {rest : List Value} {G : b_G} {B0 : Nat} (CX : b_Cx p s m args c cc nL RX1 G B0) {fs : List Value} (hP : b_at G a (.inr (1, fs)) H) {v : Value} (hv : fs[8]? = some v) (hdg : decode cc pc = .ok (.getfield 247, 3)) (kk : W p l e R s m args below meth c H locs cells slots Q (F0 m (pc + 3) ls (v :: rest))) : W p l e R s m args below meth c H locs cells slots Q (F0 m pc ls (.ref a :: rest)) := b_getN CX in_X2 rfl 8 (by decide) q192 (Or.inl rfl) hP hv hdg kk
theorem gf_X1_28_0 {p : Program} {l : Launch} {e : Env} {R : Room} {s : State} {m : MethodId} {args : Array Value} {below : List Frame} {meth : Method} {c : Code} {H : Heap} {locs : List Loc} {cells slots : Nat} {Q : State → Prop} {cc : ByteArray} {pc nL a : Nat} {ls : Array Slot} {rest : List Value} {G : b_G} {B0 : Nat} (CX : b_Cx p s m args c cc nL RX1 G B0) {fs : List Value} (hP : b_at G a (.inr (0, fs)) H) {v : Value} (hv : fs[1]? = some v) (hdg : decode cc pc = .ok (.getfield 28, 3)) (kk : W p l e R s m args below meth c H locs cells slots Q (F0 m (pc + 3) ls (v :: rest))) : W p l e R s m args below meth c H locs cells slots Q (F0 m pc ls (.ref a :: rest)) := b_get CX in_X1 rfl 1 (by decide) q258 (Or.inl rfl) hP hv hdg kk
set_option maxHeartbeats 2000000 in
set_option maxRecDepth 100000 in
theorem m_X1_countTold (l : Launch) {G : b_G} {B0 : Nat} {H : Heap} {τ : b_T} {id : Nat} {F : Nat → Nat} {M : Nat → Int32} {E : Nat → Bool} {S : b_St} {Z : Nat → Nat → Int32} {a : Nat} {asv : Nat} {atx : Nat} {atk : Nat} {hs : Int64} {sm : Int32} {rs : Nat} {n : Nat} {k : Nat} (hc_X : b_tt G B0 τ H a 0 (.inr (0, [.ref ((F 0)), .ref asv, .ref atx, .ref atk, .long hs]))) (hc_sv : b_tt G B0 τ H asv 1 (.inr (2, [.int sm, .ref rs, .int (nI n)]))) (hL : LR G B0 τ id F M E H S Z) (hW : b_WF S) (hk : k < 11) : Met l yX1_countTold (ws_ yX1_countTold cX1_countTold 2 (Option.some Jvm.ClassFile.FieldType.int)) ({ frames := 6, cells := 0, slots := 0, locals := 134 } : Room) (b_Pc G B0 H [.ref a, .int (nI k)]) (b_Qi B0 (fun r H1 => r = p_number S n k ∧ H1 = H)) 0 0 (b_A B0) := by
  refine b_of (by decide) (Nat.le_of_ble_eq_true rfl) ?_
  intro p e s m below meth c CX hr hlk hnm hS ls hl
  have CX : b_Cx p s m _ c cX1_countTold 2 RX1 G B0 := CX
  have hx := CX.hx
  have hb := CX.hb
  have hl : lv_has ls 2 [(0, .ref a), (1, .int (nI k))] := hl
  generalize hQ : MQ below (b_Qi B0 (fun r H1 => r = p_number S n k ∧ H1 = H)) ([.ref a, .int (nI k)] : List Value).toArray s 0 0 (b_A B0) = Q
  have hnb : nb S = nb S := rfl
  have hns : ns S = ns S := rfl
  have hn8 := hL.2.2.2.1
  have hn6 := hL.2.2.2.2
  refine lv_iload_n hx hb dX1_countTold_0 rfl (lv_at hl 1 rfl) ?_
  by_cases cs_1_0 : k = 0
  · refine lv_tableIn (off := 55) (tgt := 56) hx hb dX1_countTold_1 (by rcases (by omega : k = 0) with h9 <;> (rw [h9]; decide)) (by rcases (by omega : k = 0) with h9 <;> (rw [h9]; decide)) (by rcases (by omega : k = 0) with h9 <;> (rw [h9]; rfl)) (by decide) ?_
    refine lv_aload_n hx hb dX1_countTold_56 rfl (lv_at hl 0 rfl) ?_
    refine gf_X1_19_0 CX hc_X.at rfl dX1_countTold_57 ?_
    refine gf_X1_70_1 CX hL.loop.at rfl dX1_countTold_60 ?_
    refine b_ci0 (cs_X1_45 (rest := []) CX hl.1 (m_J2_size l (a := (F 1)) (ta := 1000 * id + 1) (mc := M 1) (ra := (if E 1 = true then F 2 else G.2.2 0)) (x := S 0 0 0) hL.al1) rfl rfl rfl hL.al1.at hS rfl ⟨rfl, rfl, Nat.le_of_ble_eq_true rfl, Nat.le_of_ble_eq_true rfl⟩ (Nat.le_of_ble_eq_true rfl) dX1_countTold_63 ⟨Nat.le_of_ble_eq_true rfl, Nat.le_of_ble_eq_true rfl⟩) hS (fun locs hS => ?_)
    refine b_top (x := (S 0 0 0)) (y := nI (nb S)) (hW.nbE) ?_
    rw [← hQ]
    exact b_iret CX hr hlk hS (Nat.le_of_ble_eq_true rfl) (Nat.le_of_ble_eq_true rfl) dX1_countTold_66 (⟨(by have h9 : k = 0 ∨ k = 1 ∨ k = 2 ∨ k = 3 ∨ k = 4 ∨ k = 5 ∨ k = 6 ∨ k = 7 ∨ k = 8 ∨ k = 9 ∨ k = 10 := (by omega); rcases h9 with rfl | rfl | rfl | rfl | rfl | rfl | rfl | rfl | rfl | rfl | rfl <;> first | (exfalso; omega) | rfl | exact hW.nbE.symm | exact hW.nsE.symm), rfl⟩)
  by_cases cs_1_1 : k = 1
  · refine lv_tableIn (off := 66) (tgt := 67) hx hb dX1_countTold_1 (by rcases (by omega : k = 1) with h9 <;> (rw [h9]; decide)) (by rcases (by omega : k = 1) with h9 <;> (rw [h9]; decide)) (by rcases (by omega : k = 1) with h9 <;> (rw [h9]; rfl)) (by decide) ?_
    refine lv_aload_n hx hb dX1_countTold_67 rfl (lv_at hl 0 rfl) ?_
    refine gf_X1_19_0 CX hc_X.at rfl dX1_countTold_68 ?_
    refine gf_X1_77_1 CX hL.loop.at rfl dX1_countTold_71 ?_
    refine b_ci0 (cs_X1_45 (rest := []) CX hl.1 (m_J2_size l (a := (F 3)) (ta := 1000 * id + 3) (mc := M 3) (ra := (if E 3 = true then F 4 else G.2.2 0)) (x := S 0 0 1) hL.al3) rfl rfl rfl hL.al3.at hS rfl ⟨rfl, rfl, Nat.le_of_ble_eq_true rfl, Nat.le_of_ble_eq_true rfl⟩ (Nat.le_of_ble_eq_true rfl) dX1_countTold_74 ⟨Nat.le_of_ble_eq_true rfl, Nat.le_of_ble_eq_true rfl⟩) hS (fun locs hS => ?_)
    refine b_top (x := (S 0 0 1)) (y := nI (ns S)) (hW.nsE) ?_
    rw [← hQ]
    exact b_iret CX hr hlk hS (Nat.le_of_ble_eq_true rfl) (Nat.le_of_ble_eq_true rfl) dX1_countTold_77 (⟨(by have h9 : k = 0 ∨ k = 1 ∨ k = 2 ∨ k = 3 ∨ k = 4 ∨ k = 5 ∨ k = 6 ∨ k = 7 ∨ k = 8 ∨ k = 9 ∨ k = 10 := (by omega); rcases h9 with rfl | rfl | rfl | rfl | rfl | rfl | rfl | rfl | rfl | rfl | rfl <;> first | (exfalso; omega) | rfl | exact hW.nbE.symm | exact hW.nsE.symm), rfl⟩)
  by_cases cs_1_2 : k = 2
  · refine lv_tableIn (off := 77) (tgt := 78) hx hb dX1_countTold_1 (by rcases (by omega : k = 2) with h9 <;> (rw [h9]; decide)) (by rcases (by omega : k = 2) with h9 <;> (rw [h9]; decide)) (by rcases (by omega : k = 2) with h9 <;> (rw [h9]; rfl)) (by decide) ?_
    refine lv_aload_n hx hb dX1_countTold_78 rfl (lv_at hl 0 rfl) ?_
    refine gf_X1_19_0 CX hc_X.at rfl dX1_countTold_79 ?_
    refine gf_X1_113_1 CX hL.loop.at rfl dX1_countTold_82 ?_
    rw [← hQ]
    exact b_iret CX hr hlk hS (Nat.le_of_ble_eq_true rfl) (Nat.le_of_ble_eq_true rfl) dX1_countTold_85 (⟨(by have h9 : k = 0 ∨ k = 1 ∨ k = 2 ∨ k = 3 ∨ k = 4 ∨ k = 5 ∨ k = 6 ∨ k = 7 ∨ k = 8 ∨ k = 9 ∨ k = 10 := (by omega); rcases h9 with rfl | rfl | rfl | rfl | rfl | rfl | rfl | rfl | rfl | rfl | rfl <;> first | (exfalso; omega) | rfl | exact hW.nbE.symm | exact hW.nsE.symm), rfl⟩)
  by_cases cs_1_3 : k = 3
  · refine lv_tableIn (off := 85) (tgt := 86) hx hb dX1_countTold_1 (by rcases (by omega : k = 3) with h9 <;> (rw [h9]; decide)) (by rcases (by omega : k = 3) with h9 <;> (rw [h9]; decide)) (by rcases (by omega : k = 3) with h9 <;> (rw [h9]; rfl)) (by decide) ?_
    refine lv_aload_n hx hb dX1_countTold_86 rfl (lv_at hl 0 rfl) ?_
    refine b_ci0 (cs_X1_116 (rest := []) CX hl.1 (m_X1_cratesInShops l (a := a) (asv := asv) (atx := atx) (atk := atk) (hs := hs) hc_X hL hW) rfl rfl rfl hc_X.at hS rfl ⟨rfl, rfl, Nat.le_of_ble_eq_true rfl, Nat.le_of_ble_eq_true rfl⟩ (Nat.le_of_ble_eq_true rfl) dX1_countTold_87 ⟨Nat.le_of_ble_eq_true rfl, Nat.le_of_ble_eq_true rfl⟩) hS (fun locs hS => ?_)
    rw [← hQ]
    exact b_iret CX hr hlk hS (Nat.le_of_ble_eq_true rfl) (Nat.le_of_ble_eq_true rfl) dX1_countTold_90 (⟨(by have h9 : k = 0 ∨ k = 1 ∨ k = 2 ∨ k = 3 ∨ k = 4 ∨ k = 5 ∨ k = 6 ∨ k = 7 ∨ k = 8 ∨ k = 9 ∨ k = 10 := (by omega); rcases h9 with rfl | rfl | rfl | rfl | rfl | rfl | rfl | rfl | rfl | rfl | rfl <;> first | (exfalso; omega) | rfl | exact hW.nbE.symm | exact hW.nsE.symm), rfl⟩)
  by_cases cs_1_4 : k = 4
  · refine lv_tableIn (off := 90) (tgt := 91) hx hb dX1_countTold_1 (by rcases (by omega : k = 4) with h9 <;> (rw [h9]; decide)) (by rcases (by omega : k = 4) with h9 <;> (rw [h9]; decide)) (by rcases (by omega : k = 4) with h9 <;> (rw [h9]; rfl)) (by decide) ?_
    refine lv_aload_n hx hb dX1_countTold_91 rfl (lv_at hl 0 rfl) ?_
    refine gf_X1_19_0 CX hc_X.at rfl dX1_countTold_92 ?_
    refine gf_X1_128_1 CX hL.loop.at rfl dX1_countTold_95 ?_
    rw [← hQ]
    exact b_iret CX hr hlk hS (Nat.le_of_ble_eq_true rfl) (Nat.le_of_ble_eq_true rfl) dX1_countTold_98 (⟨(by have h9 : k = 0 ∨ k = 1 ∨ k = 2 ∨ k = 3 ∨ k = 4 ∨ k = 5 ∨ k = 6 ∨ k = 7 ∨ k = 8 ∨ k = 9 ∨ k = 10 := (by omega); rcases h9 with rfl | rfl | rfl | rfl | rfl | rfl | rfl | rfl | rfl | rfl | rfl <;> first | (exfalso; omega) | rfl | exact hW.nbE.symm | exact hW.nsE.symm), rfl⟩)
  by_cases cs_1_5 : k = 5
  · refine lv_tableIn (off := 98) (tgt := 99) hx hb dX1_countTold_1 (by rcases (by omega : k = 5) with h9 <;> (rw [h9]; decide)) (by rcases (by omega : k = 5) with h9 <;> (rw [h9]; decide)) (by rcases (by omega : k = 5) with h9 <;> (rw [h9]; rfl)) (by decide) ?_
    refine lv_aload_n hx hb dX1_countTold_99 rfl (lv_at hl 0 rfl) ?_
    refine gf_X1_19_0 CX hc_X.at rfl dX1_countTold_100 ?_
    refine gf_X1_321_1 CX hL.loop.at rfl dX1_countTold_103 ?_
    rw [← hQ]
    exact b_iret CX hr hlk hS (Nat.le_of_ble_eq_true rfl) (Nat.le_of_ble_eq_true rfl) dX1_countTold_106 (⟨(by have h9 : k = 0 ∨ k = 1 ∨ k = 2 ∨ k = 3 ∨ k = 4 ∨ k = 5 ∨ k = 6 ∨ k = 7 ∨ k = 8 ∨ k = 9 ∨ k = 10 := (by omega); rcases h9 with rfl | rfl | rfl | rfl | rfl | rfl | rfl | rfl | rfl | rfl | rfl <;> first | (exfalso; omega) | rfl | exact hW.nbE.symm | exact hW.nsE.symm), rfl⟩)
  by_cases cs_1_6 : k = 6
  · refine lv_tableIn (off := 106) (tgt := 107) hx hb dX1_countTold_1 (by rcases (by omega : k = 6) with h9 <;> (rw [h9]; decide)) (by rcases (by omega : k = 6) with h9 <;> (rw [h9]; decide)) (by rcases (by omega : k = 6) with h9 <;> (rw [h9]; rfl)) (by decide) ?_
    refine lv_aload_n hx hb dX1_countTold_107 rfl (lv_at hl 0 rfl) ?_
    refine gf_X1_19_0 CX hc_X.at rfl dX1_countTold_108 ?_
    refine gf_X1_324_1 CX hL.loop.at rfl dX1_countTold_111 ?_
    rw [← hQ]
    exact b_iret CX hr hlk hS (Nat.le_of_ble_eq_true rfl) (Nat.le_of_ble_eq_true rfl) dX1_countTold_114 (⟨(by have h9 : k = 0 ∨ k = 1 ∨ k = 2 ∨ k = 3 ∨ k = 4 ∨ k = 5 ∨ k = 6 ∨ k = 7 ∨ k = 8 ∨ k = 9 ∨ k = 10 := (by omega); rcases h9 with rfl | rfl | rfl | rfl | rfl | rfl | rfl | rfl | rfl | rfl | rfl <;> first | (exfalso; omega) | rfl | exact hW.nbE.symm | exact hW.nsE.symm), rfl⟩)
  by_cases cs_1_7 : k = 7
  · refine lv_tableIn (off := 114) (tgt := 115) hx hb dX1_countTold_1 (by rcases (by omega : k = 7) with h9 <;> (rw [h9]; decide)) (by rcases (by omega : k = 7) with h9 <;> (rw [h9]; decide)) (by rcases (by omega : k = 7) with h9 <;> (rw [h9]; rfl)) (by decide) ?_
    refine lv_aload_n hx hb dX1_countTold_115 rfl (lv_at hl 0 rfl) ?_
    refine lv_iconst (v := nI 5) hx hb dX1_countTold_116 rfl ?_
    refine b_ci0 (cs_X1_327 (rest := []) CX hl.1 (m_X1_ofBrands l (a := a) (asv := asv) (atx := atx) (atk := atk) (hs := hs) (k := 5) hc_X hL hW (by omega)) rfl rfl rfl hc_X.at hS rfl ⟨rfl, rfl, Nat.le_of_ble_eq_true rfl, Nat.le_of_ble_eq_true rfl⟩ (Nat.le_of_ble_eq_true rfl) dX1_countTold_117 ⟨Nat.le_of_ble_eq_true rfl, Nat.le_of_ble_eq_true rfl⟩) hS (fun locs hS => ?_)
    rw [← hQ]
    exact b_iret CX hr hlk hS (Nat.le_of_ble_eq_true rfl) (Nat.le_of_ble_eq_true rfl) dX1_countTold_120 (⟨(by have h9 : k = 0 ∨ k = 1 ∨ k = 2 ∨ k = 3 ∨ k = 4 ∨ k = 5 ∨ k = 6 ∨ k = 7 ∨ k = 8 ∨ k = 9 ∨ k = 10 := (by omega); rcases h9 with rfl | rfl | rfl | rfl | rfl | rfl | rfl | rfl | rfl | rfl | rfl <;> first | (exfalso; omega) | rfl | exact hW.nbE.symm | exact hW.nsE.symm), rfl⟩)
  by_cases cs_1_8 : k = 8
  · refine lv_tableIn (off := 120) (tgt := 121) hx hb dX1_countTold_1 (by rcases (by omega : k = 8) with h9 <;> (rw [h9]; decide)) (by rcases (by omega : k = 8) with h9 <;> (rw [h9]; decide)) (by rcases (by omega : k = 8) with h9 <;> (rw [h9]; rfl)) (by decide) ?_
    refine lv_aload_n hx hb dX1_countTold_121 rfl (lv_at hl 0 rfl) ?_
    refine lv_bipush (v := nI 6) hx hb dX1_countTold_122 rfl ?_
    refine b_ci0 (cs_X1_327 (rest := []) CX hl.1 (m_X1_ofBrands l (a := a) (asv := asv) (atx := atx) (atk := atk) (hs := hs) (k := 6) hc_X hL hW (by omega)) rfl rfl rfl hc_X.at hS rfl ⟨rfl, rfl, Nat.le_of_ble_eq_true rfl, Nat.le_of_ble_eq_true rfl⟩ (Nat.le_of_ble_eq_true rfl) dX1_countTold_124 ⟨Nat.le_of_ble_eq_true rfl, Nat.le_of_ble_eq_true rfl⟩) hS (fun locs hS => ?_)
    rw [← hQ]
    exact b_iret CX hr hlk hS (Nat.le_of_ble_eq_true rfl) (Nat.le_of_ble_eq_true rfl) dX1_countTold_127 (⟨(by have h9 : k = 0 ∨ k = 1 ∨ k = 2 ∨ k = 3 ∨ k = 4 ∨ k = 5 ∨ k = 6 ∨ k = 7 ∨ k = 8 ∨ k = 9 ∨ k = 10 := (by omega); rcases h9 with rfl | rfl | rfl | rfl | rfl | rfl | rfl | rfl | rfl | rfl | rfl <;> first | (exfalso; omega) | rfl | exact hW.nbE.symm | exact hW.nsE.symm), rfl⟩)
  by_cases cs_1_9 : k = 9
  · refine lv_tableIn (off := 127) (tgt := 128) hx hb dX1_countTold_1 (by rcases (by omega : k = 9) with h9 <;> (rw [h9]; decide)) (by rcases (by omega : k = 9) with h9 <;> (rw [h9]; decide)) (by rcases (by omega : k = 9) with h9 <;> (rw [h9]; rfl)) (by decide) ?_
    refine lv_aload_n hx hb dX1_countTold_128 rfl (lv_at hl 0 rfl) ?_
    refine gf_X1_19_0 CX hc_X.at rfl dX1_countTold_129 ?_
    refine gf_X1_247_1 CX hL.loop.at rfl dX1_countTold_132 ?_
    rw [← hQ]
    exact b_iret CX hr hlk hS (Nat.le_of_ble_eq_true rfl) (Nat.le_of_ble_eq_true rfl) dX1_countTold_135 (⟨(by have h9 : k = 0 ∨ k = 1 ∨ k = 2 ∨ k = 3 ∨ k = 4 ∨ k = 5 ∨ k = 6 ∨ k = 7 ∨ k = 8 ∨ k = 9 ∨ k = 10 := (by omega); rcases h9 with rfl | rfl | rfl | rfl | rfl | rfl | rfl | rfl | rfl | rfl | rfl <;> first | (exfalso; omega) | rfl | exact hW.nbE.symm | exact hW.nsE.symm), rfl⟩)
  refine lv_tableOut (tgt := 136) hx hb dX1_countTold_1 (by first | decide | (rw [nI_toInt (by omega)]; omega)) (by decide) ?_
  refine lv_aload_n hx hb dX1_countTold_136 rfl (lv_at hl 0 rfl) ?_
  refine gf_X1_28_0 CX hc_X.at rfl dX1_countTold_137 ?_
  refine b_ci0 (cs_X1_45 (rest := []) CX hl.1 (m_J2_size l (a := asv) (ta := 1) (mc := sm) (ra := rs) (x := nI n) hc_sv) rfl rfl rfl hc_sv.at hS rfl ⟨rfl, rfl, Nat.le_of_ble_eq_true rfl, Nat.le_of_ble_eq_true rfl⟩ (Nat.le_of_ble_eq_true rfl) dX1_countTold_140 ⟨Nat.le_of_ble_eq_true rfl, Nat.le_of_ble_eq_true rfl⟩) hS (fun locs hS => ?_)
  rw [← hQ]
  exact b_iret CX hr hlk hS (Nat.le_of_ble_eq_true rfl) (Nat.le_of_ble_eq_true rfl) dX1_countTold_143 (⟨(by have h9 : k = 0 ∨ k = 1 ∨ k = 2 ∨ k = 3 ∨ k = 4 ∨ k = 5 ∨ k = 6 ∨ k = 7 ∨ k = 8 ∨ k = 9 ∨ k = 10 := (by omega); rcases h9 with rfl | rfl | rfl | rfl | rfl | rfl | rfl | rfl | rfl | rfl | rfl <;> first | (exfalso; omega) | rfl | exact hW.nbE.symm | exact hW.nsE.symm), rfl⟩)
theorem cs_X1_342 {p : Program} {l : Launch} {e : Env} {R : Room} {s : State} {m : MethodId} {args : Array Value} {below : List Frame} {meth : Method} {c : Code} {H : Heap} {locs : List Loc} {cells slots : Nat} {cc : ByteArray} {pc nL a : Nat} {ls : Array Slot} {rest : List Value} {G : b_G} {B0 : Nat} (CX : b_Cx p s m args c cc nL RX1 G B0) (hls : ls.size = nL) {rm : Room} {mc ms : Nat} {As st0 : List Value} {Qc : Array Value → State → Outcome → State → Prop} (hM : Met l yX2_priceOf (ws_ yX2_priceOf cX2_priceOf 3 (Option.some Jvm.ClassFile.FieldType.int)) rm (b_Pc G B0 H (.ref a :: As)) Qc mc ms (b_A B0)) (hn : As.length = 2) {fs : List Value} {ci : Nat} {qc : vw_C} (hc : b_cl[ci]? = some qc) (hq : qc.1 = RX2) (hP : b_at G a (.inr (ci, fs)) H) (hS : va_S (b_A B0) s.heap H locs) (hst : st0 = As.reverse ++ .ref a :: rest) (hr : rm.cells = mc ∧ rm.slots = ms ∧ rm.frames + 1 ≤ R.frames ∧ 8 + (3 + 11) + rm.locals ≤ R.locals) (hw : (rest.map fun v => v.category).sum ≤ 8) (hdg : decode cc pc = .ok (.invokevirtual 342, 3)) (hf : cells + mc ≤ R.cells ∧ slots + ms ≤ R.slots) : va_Run p l e R s m args below meth c H locs cells slots mc ms (F0 m pc ls st0) rest (Qc (Value.ref a :: As).toArray) (b_A B0) := va_runV CX.fix hM (cwV 2 CX.ts (lw_V q860 q861 q862 q80 q863) rfl hr.1 hr.2.1 (by decide +kernel) ⟨hr.2.2.1, hr.2.2.2⟩) ⟨b_blind G B0 H _, by have h9 := b_recv CX.K hc hP; rw [hq] at h9; exact h9, b_pre _ CX.K hS⟩ rfl hn hls hst (lv_room hw) hdg hf
set_option maxHeartbeats 2000000 in
set_option maxRecDepth 100000 in
theorem m_X1_mostTold (l : Launch) {G : b_G} {B0 : Nat} {H : Heap} {τ : b_T} {id : Nat} {F : Nat → Nat} {M : Nat → Int32} {E : Nat → Bool} {S : b_St} {Z : Nat → Nat → Int32} {a : Nat} {asv : Nat} {atx : Nat} {atk : Nat} {hs : Int64} {b : Nat} {s_ : Nat} (hc_X : b_tt G B0 τ H a 0 (.inr (0, [.ref ((F 0)), .ref asv, .ref atx, .ref atk, .long hs]))) (hL : LR G B0 τ id F M E H S Z) (hW : b_WF S) (hBb : b < nb S) (hSs_ : s_ < ns S) (hpr : ¬ p_price S b (nI 1) = 0) : Met l yX1_mostTold (ws_ yX1_mostTold cX1_mostTold 5 (Option.some Jvm.ClassFile.FieldType.int)) ({ frames := 3, cells := 0, slots := 0, locals := 65 } : Room) (b_Pc G B0 H [.ref a, .int (nI b), .int (nI s_)]) (b_Qi B0 (fun r H1 => r = p_mostT S b s_ ∧ H1 = H)) 0 0 (b_A B0) := by
  refine b_of (by decide) (Nat.le_of_ble_eq_true rfl) ?_
  intro p e s m below meth c CX hr hlk hnm hS ls hl
  have CX : b_Cx p s m _ c cX1_mostTold 5 RX1 G B0 := CX
  have hx := CX.hx
  have hb := CX.hb
  have hl : lv_has ls 5 [(0, .ref a), (1, .int (nI b)), (2, .int (nI s_))] := hl
  generalize hQ : MQ below (b_Qi B0 (fun r H1 => r = p_mostT S b s_ ∧ H1 = H)) ([.ref a, .int (nI b), .int (nI s_)] : List Value).toArray s 0 0 (b_A B0) = Q
  have hnb : nb S = nb S := rfl
  have hns : ns S = ns S := rfl
  have hn8 := hL.2.2.2.1
  have hn6 := hL.2.2.2.2
  have hkd := hW.kd3 (b := b) (by omega)
  refine lv_aload_n hx hb dX1_mostTold_0 rfl (lv_at hl 0 rfl) ?_
  refine gf_X1_19_0 CX hc_X.at rfl dX1_mostTold_1 ?_
  refine gf_X1_70_1 CX hL.loop.at rfl dX1_mostTold_4 ?_
  refine lv_iload_n hx hb dX1_mostTold_7 rfl (lv_at hl 1 rfl) ?_
  refine b_cq0 (cs_X1_103 (rest := []) CX hl.1 (m_J2_get l (a := (F 1)) (ta := 1000 * id + 1) (mc := M 1) (ra := (F 2)) (tr := 1000 * id + 2) (f := (fun j => F (20 + j))) (n := nb S) (i := b) (hL.alg1 hW (by omega)) (hL.arg2 (by omega)) (by omega) (by omega)) rfl rfl rfl (hL.alg1 hW (by omega)).at hS rfl ⟨rfl, rfl, Nat.le_of_ble_eq_true rfl, Nat.le_of_ble_eq_true rfl⟩ (Nat.le_of_ble_eq_true rfl) dX1_mostTold_8 ⟨Nat.le_of_ble_eq_true rfl, Nat.le_of_ble_eq_true rfl⟩) hS (fun locs hS => ?_)
  refine b_cast CX (ci := 4) rfl (hL.brand (k := b) (by omega)).at q807 dX1_mostTold_11 ?_
  refine lv_astore_n (lv' := [(3, .ref ((F (20 + b)))), (0, .ref a), (1, .int (nI b)), (2, .int (nI s_))]) hx hb dX1_mostTold_14 rfl hl (Nat.le_of_ble_eq_true rfl) rfl (fun ls hl => ?_)
  refine lv_bipush (v := nI 50) hx hb dX1_mostTold_15 rfl ?_
  refine lv_aload_n hx hb dX1_mostTold_17 rfl (lv_at hl 0 rfl) ?_
  refine gf_X1_271_4 CX (hL.brand (k := b) (by omega)).at rfl dX1_mostTold_18 ?_
  refine lv_bipush (v := nI 12) hx hb dX1_mostTold_21 rfl ?_
  refine lv_idiv hx hb dX1_mostTold_23 (by decide) ?_
  refine lv_aload_n hx hb dX1_mostTold_24 rfl (lv_at hl 1 rfl) ?_
  refine gf_X1_19_0 CX hc_X.at rfl dX1_mostTold_25 ?_
  refine gf_X1_113_1 CX hL.loop.at rfl dX1_mostTold_28 ?_
  refine va_mmin hx hb (by rw [CX.ml, hl.1]) CX.ow (CX.ts _ q859) (CX.ts _ q344) (CX.ts _ q99) (CX.ts _ q345) (Nat.le_of_ble_eq_true rfl) (Nat.le_of_ble_eq_true rfl) (Nat.le_of_ble_eq_true rfl) (Nat.le_of_ble_eq_true rfl) dX1_mostTold_31 ?_
  refine b_top (x := if (S 0 0 2) < ((S 1 b 2) / (nI 12)) then (S 0 0 2) else ((S 1 b 2) / (nI 12))) (y := p_least ((S 1 b 2) / (nI 12)) (S 0 0 2)) p_minE ?_
  refine va_mmin hx hb (by rw [CX.ml, hl.1]) CX.ow (CX.ts _ q859) (CX.ts _ q344) (CX.ts _ q99) (CX.ts _ q345) (Nat.le_of_ble_eq_true rfl) (Nat.le_of_ble_eq_true rfl) (Nat.le_of_ble_eq_true rfl) (Nat.le_of_ble_eq_true rfl) dX1_mostTold_34 ?_
  refine b_top (x := if (p_least ((S 1 b 2) / (nI 12)) (S 0 0 2)) < (nI 50) then (p_least ((S 1 b 2) / (nI 12)) (S 0 0 2)) else (nI 50)) (y := p_least (nI 50) (p_least ((S 1 b 2) / (nI 12)) (S 0 0 2))) p_minE ?_
  refine lv_istore (lv' := [(4, .int (p_least (nI 50) (p_least ((S 1 b 2) / (nI 12)) (S 0 0 2)))), (3, .ref ((F (20 + b)))), (0, .ref a), (1, .int (nI b)), (2, .int (nI s_))]) hx hb dX1_mostTold_37 hl (Nat.le_of_ble_eq_true rfl) rfl (fun ls hl => ?_)
  refine lv_iload hx hb dX1_mostTold_39 (lv_at hl 0 rfl) ?_
  refine lv_aload_n hx hb dX1_mostTold_41 rfl (lv_at hl 2 rfl) ?_
  refine gf_X1_19_0 CX hc_X.at rfl dX1_mostTold_42 ?_
  refine gf_X1_77_1 CX hL.loop.at rfl dX1_mostTold_45 ?_
  refine lv_iload_n hx hb dX1_mostTold_48 rfl (lv_at hl 4 rfl) ?_
  refine b_cq0 (cs_X1_103 (rest := [.int (p_least (nI 50) (p_least ((S 1 b 2) / (nI 12)) (S 0 0 2)))]) CX hl.1 (m_J2_get l (a := (F 3)) (ta := 1000 * id + 3) (mc := M 3) (ra := (F 4)) (tr := 1000 * id + 4) (f := (fun j => F (30 + j))) (n := ns S) (i := s_) (hL.alg3 hW (by omega)) (hL.arg4 (by omega)) (by omega) (by omega)) rfl rfl rfl (hL.alg3 hW (by omega)).at hS rfl ⟨rfl, rfl, Nat.le_of_ble_eq_true rfl, Nat.le_of_ble_eq_true rfl⟩ (Nat.le_of_ble_eq_true rfl) dX1_mostTold_49 ⟨Nat.le_of_ble_eq_true rfl, Nat.le_of_ble_eq_true rfl⟩) hS (fun locs hS => ?_)
  refine b_cast CX (ci := 5) rfl (hL.shop (k := s_) (by omega)).at q820 dX1_mostTold_52 ?_
  refine gf_X1_106_5 CX (hL.shop (k := s_) (by omega)).at rfl dX1_mostTold_55 ?_
  refine lv_aload_n hx hb dX1_mostTold_58 rfl (lv_at hl 2 rfl) ?_
  refine gf_X1_19_0 CX hc_X.at rfl dX1_mostTold_59 ?_
  refine lv_aload_n hx hb dX1_mostTold_62 rfl (lv_at hl 1 rfl) ?_
  refine lv_iconst (v := nI 1) hx hb dX1_mostTold_63 rfl ?_
  refine b_ci0 (cs_X1_342 (rest := [.int (S 2 s_ 0), .int (p_least (nI 50) (p_least ((S 1 b 2) / (nI 12)) (S 0 0 2)))]) CX hl.1 (m_X2_priceOf l (b := b) (c_ := nI 1) hL hW (by omega)) rfl rfl rfl hL.loop.at hS rfl ⟨rfl, rfl, Nat.le_of_ble_eq_true rfl, Nat.le_of_ble_eq_true rfl⟩ (Nat.le_of_ble_eq_true rfl) dX1_mostTold_64 ⟨Nat.le_of_ble_eq_true rfl, Nat.le_of_ble_eq_true rfl⟩) hS (fun locs hS => ?_)
  refine lv_idiv hx hb dX1_mostTold_67 (hpr) ?_
  refine va_mmin hx hb (by rw [CX.ml, hl.1]) CX.ow (CX.ts _ q859) (CX.ts _ q344) (CX.ts _ q99) (CX.ts _ q345) (Nat.le_of_ble_eq_true rfl) (Nat.le_of_ble_eq_true rfl) (Nat.le_of_ble_eq_true rfl) (Nat.le_of_ble_eq_true rfl) dX1_mostTold_68 ?_
  refine b_top (x := if ((S 2 s_ 0) / (p_price S b (nI 1))) < (p_least (nI 50) (p_least ((S 1 b 2) / (nI 12)) (S 0 0 2))) then ((S 2 s_ 0) / (p_price S b (nI 1))) else (p_least (nI 50) (p_least ((S 1 b 2) / (nI 12)) (S 0 0 2)))) (y := p_least (p_least (nI 50) (p_least ((S 1 b 2) / (nI 12)) (S 0 0 2))) ((S 2 s_ 0) / (p_price S b (nI 1)))) p_minE ?_
  rw [← hQ]
  exact b_iret CX hr hlk hS (Nat.le_of_ble_eq_true rfl) (Nat.le_of_ble_eq_true rfl) dX1_mostTold_71 (⟨rfl, rfl⟩)
theorem cs_X1_349 {p : Program} {l : Launch} {e : Env} {R : Room} {s : State} {m : MethodId} {args : Array Value} {below : List Frame} {meth : Method} {c : Code} {H : Heap} {locs : List Loc} {cells slots : Nat} {cc : ByteArray} {pc nL a : Nat} {ls : Array Slot} {rest : List Value} {G : b_G} {B0 : Nat} (CX : b_Cx p s m args c cc nL RX1 G B0) (hls : ls.size = nL) {rm : Room} {mc ms : Nat} {As st0 : List Value} {Qc : Array Value → State → Outcome → State → Prop} (hM : Met l yX2_emptyOf (ws_ yX2_emptyOf cX2_emptyOf 5 (Option.some Jvm.ClassFile.FieldType.int)) rm (b_Pc G B0 H (.ref a :: As)) Qc mc ms (b_A B0)) (hn : As.length = 2) {fs : List Value} {ci : Nat} {qc : vw_C} (hc : b_cl[ci]? = some qc) (hq : qc.1 = RX2) (hP : b_at G a (.inr (ci, fs)) H) (hS : va_S (b_A B0) s.heap H locs) (hst : st0 = As.reverse ++ .ref a :: rest) (hr : rm.cells = mc ∧ rm.slots = ms ∧ rm.frames + 1 ≤ R.frames ∧ 8 + (5 + 11) + rm.locals ≤ R.locals) (hw : (rest.map fun v => v.category).sum ≤ 8) (hdg : decode cc pc = .ok (.invokevirtual 349, 3)) (hf : cells + mc ≤ R.cells ∧ slots + ms ≤ R.slots) : va_Run p l e R s m args below meth c H locs cells slots mc ms (F0 m pc ls st0) rest (Qc (Value.ref a :: As).toArray) (b_A B0) := va_runV CX.fix hM (cwV 2 CX.ts (lw_V q891 q892 q893 q80 q894) rfl hr.1 hr.2.1 (by decide +kernel) ⟨hr.2.2.1, hr.2.2.2⟩) ⟨b_blind G B0 H _, by have h9 := b_recv CX.K hc hP; rw [hq] at h9; exact h9, b_pre _ CX.K hS⟩ rfl hn hls hst (lv_room hw) hdg hf
set_option maxHeartbeats 2000000 in
set_option maxRecDepth 100000 in
theorem m_X1_mostFrom (l : Launch) {G : b_G} {B0 : Nat} {H : Heap} {τ : b_T} {id : Nat} {F : Nat → Nat} {M : Nat → Int32} {E : Nat → Bool} {S : b_St} {Z : Nat → Nat → Int32} {a : Nat} {asv : Nat} {atx : Nat} {atk : Nat} {hs : Int64} {s_ : Nat} {k : Nat} (hc_X : b_tt G B0 τ H a 0 (.inr (0, [.ref ((F 0)), .ref asv, .ref atx, .ref atk, .long hs]))) (hL : LR G B0 τ id F M E H S Z) (hW : b_WF S) (hSs_ : s_ < ns S) (hk : k < 3) : Met l yX1_mostFrom (ws_ yX1_mostFrom cX1_mostFrom 4 (Option.some Jvm.ClassFile.FieldType.int)) ({ frames := 4, cells := 0, slots := 0, locals := 88 } : Room) (b_Pc G B0 H [.ref a, .int (nI s_), .int (nI k)]) (b_Qi B0 (fun r H1 => r = p_from S s_ k ∧ H1 = H)) 0 0 (b_A B0) := by
  refine b_of (by decide) (Nat.le_of_ble_eq_true rfl) ?_
  intro p e s m below meth c CX hr hlk hnm hS ls hl
  have CX : b_Cx p s m _ c cX1_mostFrom 4 RX1 G B0 := CX
  have hx := CX.hx
  have hb := CX.hb
  have hl : lv_has ls 4 [(0, .ref a), (1, .int (nI s_)), (2, .int (nI k))] := hl
  generalize hQ : MQ below (b_Qi B0 (fun r H1 => r = p_from S s_ k ∧ H1 = H)) ([.ref a, .int (nI s_), .int (nI k)] : List Value).toArray s 0 0 (b_A B0) = Q
  have hnb : nb S = nb S := rfl
  have hns : ns S = ns S := rfl
  have hn8 := hL.2.2.2.1
  have hn6 := hL.2.2.2.2
  refine lv_aload_n hx hb dX1_mostFrom_0 rfl (lv_at hl 0 rfl) ?_
  refine gf_X1_19_0 CX hc_X.at rfl dX1_mostFrom_1 ?_
  refine gf_X1_77_1 CX hL.loop.at rfl dX1_mostFrom_4 ?_
  refine lv_iload_n hx hb dX1_mostFrom_7 rfl (lv_at hl 1 rfl) ?_
  refine b_cq0 (cs_X1_103 (rest := []) CX hl.1 (m_J2_get l (a := (F 3)) (ta := 1000 * id + 3) (mc := M 3) (ra := (F 4)) (tr := 1000 * id + 4) (f := (fun j => F (30 + j))) (n := ns S) (i := s_) (hL.alg3 hW (by omega)) (hL.arg4 (by omega)) (by omega) (by omega)) rfl rfl rfl (hL.alg3 hW (by omega)).at hS rfl ⟨rfl, rfl, Nat.le_of_ble_eq_true rfl, Nat.le_of_ble_eq_true rfl⟩ (Nat.le_of_ble_eq_true rfl) dX1_mostFrom_8 ⟨Nat.le_of_ble_eq_true rfl, Nat.le_of_ble_eq_true rfl⟩) hS (fun locs hS => ?_)
  refine b_cast CX (ci := 5) rfl (hL.shop (k := s_) (by omega)).at q820 dX1_mostFrom_11 ?_
  refine lv_astore_n (lv' := [(3, .ref ((F (30 + s_)))), (0, .ref a), (1, .int (nI s_)), (2, .int (nI k))]) hx hb dX1_mostFrom_14 rfl hl (Nat.le_of_ble_eq_true rfl) rfl (fun ls hl => ?_)
  refine lv_bipush (v := nI 50) hx hb dX1_mostFrom_15 rfl ?_
  refine lv_aload_n hx hb dX1_mostFrom_17 rfl (lv_at hl 1 rfl) ?_
  refine gf_X1_19_0 CX hc_X.at rfl dX1_mostFrom_18 ?_
  refine lv_aload_n hx hb dX1_mostFrom_21 rfl (lv_at hl 0 rfl) ?_
  refine lv_iload_n hx hb dX1_mostFrom_22 rfl (lv_at hl 3 rfl) ?_
  refine b_ci0 (cs_X1_349 (rest := [.int (nI 50)]) CX hl.1 (m_X2_emptyOf l (s_ := s_) (k := k) hL hW (by omega) (by omega)) rfl rfl rfl hL.loop.at hS rfl ⟨rfl, rfl, Nat.le_of_ble_eq_true rfl, Nat.le_of_ble_eq_true rfl⟩ (Nat.le_of_ble_eq_true rfl) dX1_mostFrom_23 ⟨Nat.le_of_ble_eq_true rfl, Nat.le_of_ble_eq_true rfl⟩) hS (fun locs hS => ?_)
  refine lv_bipush (v := nI 12) hx hb dX1_mostFrom_26 rfl ?_
  refine lv_idiv hx hb dX1_mostFrom_28 (by decide) ?_
  refine lv_aload_n hx hb dX1_mostFrom_29 rfl (lv_at hl 0 rfl) ?_
  refine gf_X1_110_5 CX (hL.shop (k := s_) (by omega)).at rfl dX1_mostFrom_30 ?_
  refine va_mmin hx hb (by rw [CX.ml, hl.1]) CX.ow (CX.ts _ q859) (CX.ts _ q344) (CX.ts _ q99) (CX.ts _ q345) (Nat.le_of_ble_eq_true rfl) (Nat.le_of_ble_eq_true rfl) (Nat.le_of_ble_eq_true rfl) (Nat.le_of_ble_eq_true rfl) dX1_mostFrom_33 ?_
  refine b_top (x := if (S 2 s_ 1) < ((p_empt S s_ k) / (nI 12)) then (S 2 s_ 1) else ((p_empt S s_ k) / (nI 12))) (y := p_least ((p_empt S s_ k) / (nI 12)) (S 2 s_ 1)) p_minE ?_
  refine va_mmin hx hb (by rw [CX.ml, hl.1]) CX.ow (CX.ts _ q859) (CX.ts _ q344) (CX.ts _ q99) (CX.ts _ q345) (Nat.le_of_ble_eq_true rfl) (Nat.le_of_ble_eq_true rfl) (Nat.le_of_ble_eq_true rfl) (Nat.le_of_ble_eq_true rfl) dX1_mostFrom_36 ?_
  refine b_top (x := if (p_least ((p_empt S s_ k) / (nI 12)) (S 2 s_ 1)) < (nI 50) then (p_least ((p_empt S s_ k) / (nI 12)) (S 2 s_ 1)) else (nI 50)) (y := p_least (nI 50) (p_least ((p_empt S s_ k) / (nI 12)) (S 2 s_ 1))) p_minE ?_
  rw [← hQ]
  exact b_iret CX hr hlk hS (Nat.le_of_ble_eq_true rfl) (Nat.le_of_ble_eq_true rfl) dX1_mostFrom_39 (⟨rfl, rfl⟩)
theorem cs_X1_364 {p : Program} {l : Launch} {e : Env} {R : Room} {s : State} {m : MethodId} {args : Array Value} {below : List Frame} {meth : Method} {c : Code} {H : Heap} {locs : List Loc} {cells slots : Nat} {cc : ByteArray} {pc nL a : Nat} {ls : Array Slot} {rest : List Value} {G : b_G} {B0 : Nat} (CX : b_Cx p s m args c cc nL RX1 G B0) (hls : ls.size = nL) {rm : Room} {mc ms : Nat} {As st0 : List Value} {Qc : Array Value → State → Outcome → State → Prop} (hM : Met l yX2_wornBy (ws_ yX2_wornBy cX2_wornBy 3 (Option.some Jvm.ClassFile.FieldType.int)) rm (b_Pc G B0 H (.ref a :: As)) Qc mc ms (b_A B0)) (hn : As.length = 2) {fs : List Value} {ci : Nat} {qc : vw_C} (hc : b_cl[ci]? = some qc) (hq : qc.1 = RX2) (hP : b_at G a (.inr (ci, fs)) H) (hS : va_S (b_A B0) s.heap H locs) (hst : st0 = As.reverse ++ .ref a :: rest) (hr : rm.cells = mc ∧ rm.slots = ms ∧ rm.frames + 1 ≤ R.frames ∧ 8 + (3 + 11) + rm.locals ≤ R.locals) (hw : (rest.map fun v => v.category).sum ≤ 8) (hdg : decode cc pc = .ok (.invokevirtual 364, 3)) (hf : cells + mc ≤ R.cells ∧ slots + ms ≤ R.slots) : va_Run p l e R s m args below meth c H locs cells slots mc ms (F0 m pc ls st0) rest (Qc (Value.ref a :: As).toArray) (b_A B0) := va_runV CX.fix hM (cwV 2 CX.ts (lw_V q851 q852 q853 q80 q854) rfl hr.1 hr.2.1 (by decide +kernel) ⟨hr.2.2.1, hr.2.2.2⟩) ⟨b_blind G B0 H _, by have h9 := b_recv CX.K hc hP; rw [hq] at h9; exact h9, b_pre _ CX.K hS⟩ rfl hn hls hst (lv_room hw) hdg hf
set_option maxHeartbeats 2000000 in
set_option maxRecDepth 100000 in
theorem m_X1_filledTold (l : Launch) {G : b_G} {B0 : Nat} {H : Heap} {τ : b_T} {id : Nat} {F : Nat → Nat} {M : Nat → Int32} {E : Nat → Bool} {S : b_St} {Z : Nat → Nat → Int32} {a : Nat} {asv : Nat} {atx : Nat} {atk : Nat} {hs : Int64} {b : Nat} {w_ : Int32} (hc_X : b_tt G B0 τ H a 0 (.inr (0, [.ref ((F 0)), .ref asv, .ref atx, .ref atk, .long hs]))) (hL : LR G B0 τ id F M E H S Z) (hW : b_WF S) (hBb : b < nb S) : Met l yX1_filledTold (ws_ yX1_filledTold cX1_filledTold 3 (Option.some Jvm.ClassFile.FieldType.int)) ({ frames := 3, cells := 0, slots := 0, locals := 64 } : Room) (b_Pc G B0 H [.ref a, .int (nI b), .int w_]) (b_Qi B0 (fun r H1 => r = p_full S b w_ ∧ H1 = H)) 0 0 (b_A B0) := by
  refine b_of (by decide) (Nat.le_of_ble_eq_true rfl) ?_
  intro p e s m below meth c CX hr hlk hnm hS ls hl
  have CX : b_Cx p s m _ c cX1_filledTold 3 RX1 G B0 := CX
  have hx := CX.hx
  have hb := CX.hb
  have hl : lv_has ls 3 [(0, .ref a), (1, .int (nI b)), (2, .int w_)] := hl
  generalize hQ : MQ below (b_Qi B0 (fun r H1 => r = p_full S b w_ ∧ H1 = H)) ([.ref a, .int (nI b), .int w_] : List Value).toArray s 0 0 (b_A B0) = Q
  have hnb : nb S = nb S := rfl
  have hns : ns S = ns S := rfl
  have hn8 := hL.2.2.2.1
  have hn6 := hL.2.2.2.2
  refine lv_iload_n hx hb dX1_filledTold_0 rfl (lv_at hl 2 rfl) ?_
  refine lv_aload_n hx hb dX1_filledTold_1 rfl (lv_at hl 0 rfl) ?_
  refine gf_X1_19_0 CX hc_X.at rfl dX1_filledTold_2 ?_
  refine lv_aload_n hx hb dX1_filledTold_5 rfl (lv_at hl 0 rfl) ?_
  refine gf_X1_19_0 CX hc_X.at rfl dX1_filledTold_6 ?_
  refine gf_X1_70_1 CX hL.loop.at rfl dX1_filledTold_9 ?_
  refine lv_iload_n hx hb dX1_filledTold_12 rfl (lv_at hl 1 rfl) ?_
  refine b_cq0 (cs_X1_103 (rest := [.ref ((F 0)), .int w_]) CX hl.1 (m_J2_get l (a := (F 1)) (ta := 1000 * id + 1) (mc := M 1) (ra := (F 2)) (tr := 1000 * id + 2) (f := (fun j => F (20 + j))) (n := nb S) (i := b) (hL.alg1 hW (by omega)) (hL.arg2 (by omega)) (by omega) (by omega)) rfl rfl rfl (hL.alg1 hW (by omega)).at hS rfl ⟨rfl, rfl, Nat.le_of_ble_eq_true rfl, Nat.le_of_ble_eq_true rfl⟩ (Nat.le_of_ble_eq_true rfl) dX1_filledTold_13 ⟨Nat.le_of_ble_eq_true rfl, Nat.le_of_ble_eq_true rfl⟩) hS (fun locs hS => ?_)
  refine b_cast CX (ci := 4) rfl (hL.brand (k := b) (by omega)).at q807 dX1_filledTold_16 ?_
  refine lv_iload_n hx hb dX1_filledTold_19 rfl (lv_at hl 2 rfl) ?_
  refine b_ci0 (cs_X1_364 (rest := [.int w_]) CX hl.1 (m_X2_wornBy l (b := b) (n_ := w_) hL hW (by omega)) rfl rfl rfl hL.loop.at hS rfl ⟨rfl, rfl, Nat.le_of_ble_eq_true rfl, Nat.le_of_ble_eq_true rfl⟩ (Nat.le_of_ble_eq_true rfl) dX1_filledTold_20 ⟨Nat.le_of_ble_eq_true rfl, Nat.le_of_ble_eq_true rfl⟩) hS (fun locs hS => ?_)
  refine lv_isub hx hb dX1_filledTold_23 ?_
  rw [← hQ]
  exact b_iret CX hr hlk hS (Nat.le_of_ble_eq_true rfl) (Nat.le_of_ble_eq_true rfl) dX1_filledTold_24 (⟨rfl, rfl⟩)
theorem cs_X1_353 {p : Program} {l : Launch} {e : Env} {R : Room} {s : State} {m : MethodId} {args : Array Value} {below : List Frame} {meth : Method} {c : Code} {H : Heap} {locs : List Loc} {cells slots : Nat} {cc : ByteArray} {pc nL a : Nat} {ls : Array Slot} {rest : List Value} {G : b_G} {B0 : Nat} (CX : b_Cx p s m args c cc nL RX1 G B0) (hls : ls.size = nL) {rm : Room} {mc ms : Nat} {As st0 : List Value} {Qc : Array Value → State → Outcome → State → Prop} (hM : Met l yX1_mostFrom (ws_ yX1_mostFrom cX1_mostFrom 4 (Option.some Jvm.ClassFile.FieldType.int)) rm (b_Pc G B0 H (.ref a :: As)) Qc mc ms (b_A B0)) (hn : As.length = 2) {fs : List Value} {ci : Nat} {qc : vw_C} (hc : b_cl[ci]? = some qc) (hq : qc.1 = RX1) (hP : b_at G a (.inr (ci, fs)) H) (hS : va_S (b_A B0) s.heap H locs) (hst : st0 = As.reverse ++ .ref a :: rest) (hr : rm.cells = mc ∧ rm.slots = ms ∧ rm.frames + 1 ≤ R.frames ∧ 8 + (4 + 11) + rm.locals ≤ R.locals) (hw : (rest.map fun v => v.category).sum ≤ 8) (hdg : decode cc pc = .ok (.invokevirtual 353, 3)) (hf : cells + mc ≤ R.cells ∧ slots + ms ≤ R.slots) : va_Run p l e R s m args below meth c H locs cells slots mc ms (F0 m pc ls st0) rest (Qc (Value.ref a :: As).toArray) (b_A B0) := va_runV CX.fix hM (cwV 2 CX.ts (lw_V q887 q889 qs24 q79 q890) rfl hr.1 hr.2.1 (by decide +kernel) ⟨hr.2.2.1, hr.2.2.2⟩) ⟨b_blind G B0 H _, by have h9 := b_recv CX.K hc hP; rw [hq] at h9; exact h9, b_pre _ CX.K hS⟩ rfl hn hls hst (lv_room hw) hdg hf
set_option maxHeartbeats 2000000 in
set_option maxRecDepth 100000 in
theorem m_X1_bestTold (l : Launch) {G : b_G} {B0 : Nat} {H : Heap} {τ : b_T} {id : Nat} {F : Nat → Nat} {M : Nat → Int32} {E : Nat → Bool} {S : b_St} {Z : Nat → Nat → Int32} {a : Nat} {asv : Nat} {atx : Nat} {atk : Nat} {hs : Int64} {k : Nat} (hc_X : b_tt G B0 τ H a 0 (.inr (0, [.ref ((F 0)), .ref asv, .ref atx, .ref atk, .long hs]))) (hL : LR G B0 τ id F M E H S Z) (hW : b_WF S) (hk : k < 3) : Met l yX1_bestTold (ws_ yX1_bestTold cX1_bestTold 6 (Option.some Jvm.ClassFile.FieldType.int)) ({ frames := 5, cells := 0, slots := 0, locals := 111 } : Room) (b_Pc G B0 H [.ref a, .int (nI k)]) (b_Qi B0 (fun r H1 => r = p_shopFor S k ∧ H1 = H)) 0 0 (b_A B0) := by
  refine b_of (by decide) (Nat.le_of_ble_eq_true rfl) ?_
  intro p e s m below meth c CX hr hlk hnm hS ls hl
  have CX : b_Cx p s m _ c cX1_bestTold 6 RX1 G B0 := CX
  have hx := CX.hx
  have hb := CX.hb
  have hl : lv_has ls 6 [(0, .ref a), (1, .int (nI k))] := hl
  generalize hQ : MQ below (b_Qi B0 (fun r H1 => r = p_shopFor S k ∧ H1 = H)) ([.ref a, .int (nI k)] : List Value).toArray s 0 0 (b_A B0) = Q
  have hnb : nb S = nb S := rfl
  have hns : ns S = ns S := rfl
  have hn8 := hL.2.2.2.1
  have hn6 := hL.2.2.2.2
  refine lv_iconst (v := -1) hx hb dX1_bestTold_0 rfl ?_
  refine lv_istore_n (lv' := [(2, .int (-1)), (0, .ref a), (1, .int (nI k))]) hx hb dX1_bestTold_1 rfl hl (Nat.le_of_ble_eq_true rfl) rfl (fun ls hl => ?_)
  refine lv_iconst (v := nI 0) hx hb dX1_bestTold_2 rfl ?_
  refine lv_istore_n (lv' := [(3, .int (nI 0)), (2, .int (-1)), (0, .ref a), (1, .int (nI k))]) hx hb dX1_bestTold_3 rfl hl (Nat.le_of_ble_eq_true rfl) rfl (fun ls hl => ?_)
  refine lv_iconst (v := nI 0) hx hb dX1_bestTold_4 rfl ?_
  refine lv_istore (lv' := [(4, .int (nI 0)), (3, .int (nI 0)), (2, .int (-1)), (0, .ref a), (1, .int (nI k))]) hx hb dX1_bestTold_5 hl (Nat.le_of_ble_eq_true rfl) rfl (fun ls hl => ?_)
  have lp7_1 : ∀ (n_ : Nat) (i : Nat), i ≤ ns S → ns S - i < n_ → ∀ (locs : List Loc), va_S (b_A B0) s.heap H locs → ∀ ls : Array Slot, lv_has ls 6 [(2, .int ((p_bs (fun s => p_from S s k) i).1)), (3, .int ((p_bs (fun s => p_from S s k) i).2)), (4, .int (nI i)), (0, .ref a), (1, .int (nI k))] → W p l e ({ frames := 5, cells := 0, slots := 0, locals := 111 } : Room) s m ([.ref a, .int (nI k)] : List Value).toArray below meth c H locs 0 0 Q (F0 m 7 ls []) := by
    intro n_
    induction n_ with
    | zero => intro i hi hlt locs hS ls hl; exact absurd hlt (Nat.not_lt_zero _)
    | succ n_ ih7 =>
      intro i hi hlt locs hS ls hl
      refine lv_iload hx hb dX1_bestTold_7 (lv_at hl 2 rfl) ?_
      refine lv_aload_n hx hb dX1_bestTold_9 rfl (lv_at hl 3 rfl) ?_
      refine gf_X1_19_0 CX hc_X.at rfl dX1_bestTold_10 ?_
      refine gf_X1_77_1 CX hL.loop.at rfl dX1_bestTold_13 ?_
      refine b_ci0 (cs_X1_45 (rest := [.int (nI i)]) CX hl.1 (m_J2_size l (a := (F 3)) (ta := 1000 * id + 3) (mc := M 3) (ra := (if E 3 = true then F 4 else G.2.2 0)) (x := S 0 0 1) hL.al3) rfl rfl rfl hL.al3.at hS rfl ⟨rfl, rfl, Nat.le_of_ble_eq_true rfl, Nat.le_of_ble_eq_true rfl⟩ (Nat.le_of_ble_eq_true rfl) dX1_bestTold_16 ⟨Nat.le_of_ble_eq_true rfl, Nat.le_of_ble_eq_true rfl⟩) hS (fun locs hS => ?_)
      refine b_top (x := (S 0 0 1)) (y := nI (ns S)) (hW.nsE) ?_
      refine b_icmp_geN (tgt := 57) CX (by omega) (by omega) dX1_bestTold_19 (by decide) (fun c_19 => ?_) (fun c_19 => ?_)
      · obtain rfl : i = ns S := by omega
        refine lv_iload_n hx hb dX1_bestTold_57 rfl (lv_at hl 0 rfl) ?_
        rw [← hQ]
        exact b_iret CX hr hlk hS (Nat.le_of_ble_eq_true rfl) (Nat.le_of_ble_eq_true rfl) dX1_bestTold_58 (⟨rfl, rfl⟩)
      · refine lv_aload_n hx hb dX1_bestTold_22 rfl (lv_at hl 3 rfl) ?_
        refine lv_iload hx hb dX1_bestTold_23 (lv_at hl 2 rfl) ?_
        refine lv_iload_n hx hb dX1_bestTold_25 rfl (lv_at hl 4 rfl) ?_
        refine b_ci0 (cs_X1_353 (rest := []) CX hl.1 (m_X1_mostFrom l (a := a) (asv := asv) (atx := atx) (atk := atk) (hs := hs) (s_ := i) (k := k) hc_X hL hW (by omega) (by omega)) rfl rfl rfl hc_X.at hS rfl ⟨rfl, rfl, Nat.le_of_ble_eq_true rfl, Nat.le_of_ble_eq_true rfl⟩ (Nat.le_of_ble_eq_true rfl) dX1_bestTold_26 ⟨Nat.le_of_ble_eq_true rfl, Nat.le_of_ble_eq_true rfl⟩) hS (fun locs hS => ?_)
        refine lv_istore (lv' := [(5, .int (p_from S i k)), (2, .int ((p_bs (fun s => p_from S s k) i).1)), (3, .int ((p_bs (fun s => p_from S s k) i).2)), (4, .int (nI i)), (0, .ref a), (1, .int (nI k))]) hx hb dX1_bestTold_29 hl (Nat.le_of_ble_eq_true rfl) rfl (fun ls hl => ?_)
        refine lv_iload hx hb dX1_bestTold_31 (lv_at hl 0 rfl) ?_
        refine lv_iload_n hx hb dX1_bestTold_33 rfl (lv_at hl 2 rfl) ?_
        refine lv_icmp_le (tgt := 42) hx hb dX1_bestTold_34 (by decide) (fun c_34 => ?_) (fun c_34 => ?_)
        · refine lv_iload_n hx hb dX1_bestTold_42 rfl (lv_at hl 1 rfl) ?_
          refine b_top (x := (p_bs (fun s => p_from S s k) i).1) (y := (p_bs (fun s => p_from S s k) (i + 1)).1) (by rw [p_bs]; first | exact (if_neg (Int32.not_lt.mpr c_34)).symm | exact (if_pos (Int32.not_le.mp c_34)).symm) ?_
          refine lv_istore_n (lv' := [(2, .int ((p_bs (fun s => p_from S s k) (i + 1)).1)), (5, .int (p_from S i k)), (3, .int ((p_bs (fun s => p_from S s k) i).2)), (4, .int (nI i)), (0, .ref a), (1, .int (nI k))]) hx hb dX1_bestTold_43 rfl hl (Nat.le_of_ble_eq_true rfl) rfl (fun ls hl => ?_)
          refine lv_iload_n hx hb dX1_bestTold_44 rfl (lv_at hl 2 rfl) ?_
          refine lv_iload hx hb dX1_bestTold_45 (lv_at hl 1 rfl) ?_
          refine va_mmax hx hb (by rw [CX.ml, hl.1]) CX.ow (CX.ts _ q898) (CX.ts _ q326) (CX.ts _ q99) (CX.ts _ q327) (Nat.le_of_ble_eq_true rfl) (Nat.le_of_ble_eq_true rfl) (Nat.le_of_ble_eq_true rfl) (Nat.le_of_ble_eq_true rfl) dX1_bestTold_47 ?_
          refine b_top (x := if ((p_bs (fun s => p_from S s k) i).2) < (p_from S i k) then (p_from S i k) else ((p_bs (fun s => p_from S s k) i).2)) (y := p_max ((p_bs (fun s => p_from S s k) i).2) (p_from S i k)) rfl ?_
          refine b_top (x := p_max ((p_bs (fun s => p_from S s k) i).2) (p_from S i k)) (y := (p_bs (fun s => p_from S s k) (i + 1)).2) (rfl) ?_
          refine lv_istore_n (lv' := [(3, .int ((p_bs (fun s => p_from S s k) (i + 1)).2)), (2, .int ((p_bs (fun s => p_from S s k) (i + 1)).1)), (5, .int (p_from S i k)), (4, .int (nI i)), (0, .ref a), (1, .int (nI k))]) hx hb dX1_bestTold_50 rfl hl (Nat.le_of_ble_eq_true rfl) rfl (fun ls hl => ?_)
          refine lv_iinc (v := nI (i + 1)) (lv' := [(4, .int (nI (i + 1))), (3, .int ((p_bs (fun s => p_from S s k) (i + 1)).2)), (2, .int ((p_bs (fun s => p_from S s k) (i + 1)).1)), (5, .int (p_from S i k)), (0, .ref a), (1, .int (nI k))]) hx hb dX1_bestTold_51 hl (k := 3) rfl (nI_1 _) (Nat.le_of_ble_eq_true rfl) rfl (fun ls hl => ?_)
          refine lv_goto (tgt := 7) hx hb dX1_bestTold_54 (by decide) ?_
          exact ih7 (i + 1) (by omega) (by omega) _ hS ls (lv_sub hl [2, 1, 0, 4, 5] rfl)
        · refine lv_iload hx hb dX1_bestTold_37 (lv_at hl 3 rfl) ?_
          refine lv_goto (tgt := 43) hx hb dX1_bestTold_39 (by decide) ?_
          refine b_top (x := nI i) (y := (p_bs (fun s => p_from S s k) (i + 1)).1) (by rw [p_bs]; first | exact (if_neg (Int32.not_lt.mpr c_34)).symm | exact (if_pos (Int32.not_le.mp c_34)).symm) ?_
          refine lv_istore_n (lv' := [(2, .int ((p_bs (fun s => p_from S s k) (i + 1)).1)), (5, .int (p_from S i k)), (3, .int ((p_bs (fun s => p_from S s k) i).2)), (4, .int (nI i)), (0, .ref a), (1, .int (nI k))]) hx hb dX1_bestTold_43 rfl hl (Nat.le_of_ble_eq_true rfl) rfl (fun ls hl => ?_)
          refine lv_iload_n hx hb dX1_bestTold_44 rfl (lv_at hl 2 rfl) ?_
          refine lv_iload hx hb dX1_bestTold_45 (lv_at hl 1 rfl) ?_
          refine va_mmax hx hb (by rw [CX.ml, hl.1]) CX.ow (CX.ts _ q898) (CX.ts _ q326) (CX.ts _ q99) (CX.ts _ q327) (Nat.le_of_ble_eq_true rfl) (Nat.le_of_ble_eq_true rfl) (Nat.le_of_ble_eq_true rfl) (Nat.le_of_ble_eq_true rfl) dX1_bestTold_47 ?_
          refine b_top (x := if ((p_bs (fun s => p_from S s k) i).2) < (p_from S i k) then (p_from S i k) else ((p_bs (fun s => p_from S s k) i).2)) (y := p_max ((p_bs (fun s => p_from S s k) i).2) (p_from S i k)) rfl ?_
          refine b_top (x := p_max ((p_bs (fun s => p_from S s k) i).2) (p_from S i k)) (y := (p_bs (fun s => p_from S s k) (i + 1)).2) (rfl) ?_
          refine lv_istore_n (lv' := [(3, .int ((p_bs (fun s => p_from S s k) (i + 1)).2)), (2, .int ((p_bs (fun s => p_from S s k) (i + 1)).1)), (5, .int (p_from S i k)), (4, .int (nI i)), (0, .ref a), (1, .int (nI k))]) hx hb dX1_bestTold_50 rfl hl (Nat.le_of_ble_eq_true rfl) rfl (fun ls hl => ?_)
          refine lv_iinc (v := nI (i + 1)) (lv' := [(4, .int (nI (i + 1))), (3, .int ((p_bs (fun s => p_from S s k) (i + 1)).2)), (2, .int ((p_bs (fun s => p_from S s k) (i + 1)).1)), (5, .int (p_from S i k)), (0, .ref a), (1, .int (nI k))]) hx hb dX1_bestTold_51 hl (k := 3) rfl (nI_1 _) (Nat.le_of_ble_eq_true rfl) rfl (fun ls hl => ?_)
          refine lv_goto (tgt := 7) hx hb dX1_bestTold_54 (by decide) ?_
          exact ih7 (i + 1) (by omega) (by omega) _ hS ls (lv_sub hl [2, 1, 0, 4, 5] rfl)
  exact lp7_1 _ 0 (Nat.zero_le _) (Nat.lt_succ_self _) _ hS ls (lv_sub hl [2, 1, 0, 3, 4] rfl)
theorem cs_X1_376 {p : Program} {l : Launch} {e : Env} {R : Room} {s : State} {m : MethodId} {args : Array Value} {below : List Frame} {meth : Method} {c : Code} {H : Heap} {locs : List Loc} {cells slots : Nat} {cc : ByteArray} {pc nL a : Nat} {ls : Array Slot} {rest : List Value} {G : b_G} {B0 : Nat} (CX : b_Cx p s m args c cc nL RX1 G B0) (hls : ls.size = nL) {rm : Room} {mc ms : Nat} {As st0 : List Value} {Qc : Array Value → State → Outcome → State → Prop} (hM : Met l yX4_gone (ws_ yX4_gone cX4_gone 1 (Option.some Jvm.ClassFile.FieldType.int)) rm (b_Pc G B0 H (.ref a :: As)) Qc mc ms (b_A B0)) (hn : As.length = 0) {fs : List Value} {ci : Nat} {qc : vw_C} (hc : b_cl[ci]? = some qc) (hq : qc.1 = RX4) (hP : b_at G a (.inr (ci, fs)) H) (hS : va_S (b_A B0) s.heap H locs) (hst : st0 = As.reverse ++ .ref a :: rest) (hr : rm.cells = mc ∧ rm.slots = ms ∧ rm.frames + 1 ≤ R.frames ∧ 8 + (1 + 11) + rm.locals ≤ R.locals) (hw : (rest.map fun v => v.category).sum ≤ 8) (hdg : decode cc pc = .ok (.invokevirtual 376, 3)) (hf : cells + mc ≤ R.cells ∧ slots + ms ≤ R.slots) : va_Run p l e R s m args below meth c H locs cells slots mc ms (F0 m pc ls st0) rest (Qc (Value.ref a :: As).toArray) (b_A B0) := va_runV CX.fix hM (cwV 0 CX.ts (lw_V q808 q809 q810 q97 q811) rfl hr.1 hr.2.1 (by decide +kernel) ⟨hr.2.2.1, hr.2.2.2⟩) ⟨b_blind G B0 H _, by have h9 := b_recv CX.K hc hP; rw [hq] at h9; exact h9, b_pre _ CX.K hS⟩ rfl hn hls hst (lv_room hw) hdg hf
set_option maxHeartbeats 2000000 in
set_option maxRecDepth 100000 in
theorem m_X1_goneTold (l : Launch) {G : b_G} {B0 : Nat} {H : Heap} {τ : b_T} {id : Nat} {F : Nat → Nat} {M : Nat → Int32} {E : Nat → Bool} {S : b_St} {Z : Nat → Nat → Int32} {a : Nat} {asv : Nat} {atx : Nat} {atk : Nat} {hs : Int64} (hc_X : b_tt G B0 τ H a 0 (.inr (0, [.ref ((F 0)), .ref asv, .ref atx, .ref atk, .long hs]))) (hL : LR G B0 τ id F M E H S Z) (hW : b_WF S) (hnan : ¬ p_all S = 0 → vf_n64 (FP.ddiv (FP.i2d (p_gone S)) (FP.i2d (p_all S)))) : Met l yX1_goneTold (ws_ yX1_goneTold cX1_goneTold 5 (Option.some Jvm.ClassFile.FieldType.double)) ({ frames := 5, cells := 0, slots := 0, locals := 111 } : Room) (b_Pc G B0 H [.ref a]) (b_Qd B0 (fun r H1 => r = p_share S ∧ H1 = H)) 0 0 (b_A B0) := by
  refine b_of (by decide) (Nat.le_of_ble_eq_true rfl) ?_
  intro p e s m below meth c CX hr hlk hnm hS ls hl
  have CX : b_Cx p s m _ c cX1_goneTold 5 RX1 G B0 := CX
  have hx := CX.hx
  have hb := CX.hb
  have hl : lv_has ls 5 [(0, .ref a)] := hl
  generalize hQ : MQ below (b_Qd B0 (fun r H1 => r = p_share S ∧ H1 = H)) ([.ref a] : List Value).toArray s 0 0 (b_A B0) = Q
  have hnb : nb S = nb S := rfl
  have hns : ns S = ns S := rfl
  have hn8 := hL.2.2.2.1
  have hn6 := hL.2.2.2.2
  refine lv_iconst (v := nI 0) hx hb dX1_goneTold_0 rfl ?_
  refine lv_istore_n (lv' := [(1, .int (nI 0)), (0, .ref a)]) hx hb dX1_goneTold_1 rfl hl (Nat.le_of_ble_eq_true rfl) rfl (fun ls hl => ?_)
  refine lv_iconst (v := nI 0) hx hb dX1_goneTold_2 rfl ?_
  refine lv_istore_n (lv' := [(2, .int (nI 0)), (1, .int (nI 0)), (0, .ref a)]) hx hb dX1_goneTold_3 rfl hl (Nat.le_of_ble_eq_true rfl) rfl (fun ls hl => ?_)
  refine lv_iconst (v := nI 0) hx hb dX1_goneTold_4 rfl ?_
  refine lv_istore_n (lv' := [(3, .int (nI 0)), (2, .int (nI 0)), (1, .int (nI 0)), (0, .ref a)]) hx hb dX1_goneTold_5 rfl hl (Nat.le_of_ble_eq_true rfl) rfl (fun ls hl => ?_)
  have lp6_1 : ∀ (n_ : Nat) (i : Nat), i ≤ nb S → nb S - i < n_ → ∀ (locs : List Loc), va_S (b_A B0) s.heap H locs → ∀ ls : Array Slot, lv_has ls 5 [(1, .int (p_acc2 (f_gone S) 9 i)), (2, .int (p_acc2 (fun b k => p_about S b (k + 1)) 9 i)), (3, .int (nI i)), (0, .ref a)] → W p l e ({ frames := 5, cells := 0, slots := 0, locals := 111 } : Room) s m ([.ref a] : List Value).toArray below meth c H locs 0 0 Q (F0 m 6 ls []) := by
    intro n_
    induction n_ with
    | zero => intro i hi hlt locs hS ls hl; exact absurd hlt (Nat.not_lt_zero _)
    | succ n_ ih6 =>
      intro i hi hlt locs hS ls hl
      refine lv_iload_n hx hb dX1_goneTold_6 rfl (lv_at hl 2 rfl) ?_
      refine lv_aload_n hx hb dX1_goneTold_7 rfl (lv_at hl 3 rfl) ?_
      refine gf_X1_19_0 CX hc_X.at rfl dX1_goneTold_8 ?_
      refine gf_X1_70_1 CX hL.loop.at rfl dX1_goneTold_11 ?_
      refine b_ci0 (cs_X1_45 (rest := [.int (nI i)]) CX hl.1 (m_J2_size l (a := (F 1)) (ta := 1000 * id + 1) (mc := M 1) (ra := (if E 1 = true then F 2 else G.2.2 0)) (x := S 0 0 0) hL.al1) rfl rfl rfl hL.al1.at hS rfl ⟨rfl, rfl, Nat.le_of_ble_eq_true rfl, Nat.le_of_ble_eq_true rfl⟩ (Nat.le_of_ble_eq_true rfl) dX1_goneTold_14 ⟨Nat.le_of_ble_eq_true rfl, Nat.le_of_ble_eq_true rfl⟩) hS (fun locs hS => ?_)
      refine b_top (x := (S 0 0 0)) (y := nI (nb S)) (hW.nbE) ?_
      refine b_icmp_geN (tgt := 72) CX (by omega) (by omega) dX1_goneTold_17 (by decide) (fun c_17 => ?_) (fun c_17 => ?_)
      · obtain rfl : i = nb S := by omega
        refine lv_iload_n hx hb dX1_goneTold_72 rfl (lv_at hl 1 rfl) ?_
        refine lv_if_ne (tgt := 80) hx hb dX1_goneTold_73 (by decide) (fun c_73 => ?_) (fun c_73 => ?_)
        · refine lv_iload_n hx hb dX1_goneTold_80 rfl (lv_at hl 0 rfl) ?_
          refine lv_i2d hx hb dX1_goneTold_81 ?_
          refine lv_iload_n hx hb dX1_goneTold_82 rfl (lv_at hl 1 rfl) ?_
          refine lv_i2d hx hb dX1_goneTold_83 ?_
          refine lv_ddiv hx hb dX1_goneTold_84 (hnan c_73) ?_
          rw [← hQ]
          exact b_dret CX hr hlk hS (Nat.le_of_ble_eq_true rfl) (Nat.le_of_ble_eq_true rfl) dX1_goneTold_85 (⟨(by first | exact (if_pos c_73).symm | exact (if_neg c_73).symm), rfl⟩)
        · refine lv_dconst0 hx hb dX1_goneTold_76 ?_
          refine lv_goto (tgt := 85) hx hb dX1_goneTold_77 (by decide) ?_
          rw [← hQ]
          exact b_dret CX hr hlk hS (Nat.le_of_ble_eq_true rfl) (Nat.le_of_ble_eq_true rfl) dX1_goneTold_85 (⟨(by first | exact (if_pos c_73).symm | exact (if_neg c_73).symm), rfl⟩)
      · refine lv_iload_n hx hb dX1_goneTold_20 rfl (lv_at hl 0 rfl) ?_
        refine lv_aload_n hx hb dX1_goneTold_21 rfl (lv_at hl 3 rfl) ?_
        refine gf_X1_19_0 CX hc_X.at rfl dX1_goneTold_22 ?_
        refine gf_X1_70_1 CX hL.loop.at rfl dX1_goneTold_25 ?_
        refine lv_iload_n hx hb dX1_goneTold_28 rfl (lv_at hl 2 rfl) ?_
        refine b_cq0 (cs_X1_103 (rest := [.int (p_acc2 (f_gone S) 9 i)]) CX hl.1 (m_J2_get l (a := (F 1)) (ta := 1000 * id + 1) (mc := M 1) (ra := (F 2)) (tr := 1000 * id + 2) (f := (fun j => F (20 + j))) (n := nb S) (i := i) (hL.alg1 hW (by omega)) (hL.arg2 (by omega)) (by omega) (by omega)) rfl rfl rfl (hL.alg1 hW (by omega)).at hS rfl ⟨rfl, rfl, Nat.le_of_ble_eq_true rfl, Nat.le_of_ble_eq_true rfl⟩ (Nat.le_of_ble_eq_true rfl) dX1_goneTold_29 ⟨Nat.le_of_ble_eq_true rfl, Nat.le_of_ble_eq_true rfl⟩) hS (fun locs hS => ?_)
        refine b_cast CX (ci := 4) rfl (hL.brand (k := i) (by omega)).at q807 dX1_goneTold_32 ?_
        refine b_ci0 (cs_X1_376 (rest := [.int (p_acc2 (f_gone S) 9 i)]) CX hl.1 (m_X4_gone l (a := (F (20 + i))) (ta := 1000 * id + (20 + i)) (v0 := S 1 i 0) (v1 := S 1 i 1) (v2 := S 1 i 2) (v3 := S 1 i 3) (v4 := S 1 i 4) (v5 := S 1 i 5) (v6 := S 1 i 6) (v7 := S 1 i 7) (v8 := S 1 i 8) (v9 := S 1 i 9) (hL.brand (k := i) (by omega))) rfl rfl rfl (hL.brand (k := i) (by omega)).at hS rfl ⟨rfl, rfl, Nat.le_of_ble_eq_true rfl, Nat.le_of_ble_eq_true rfl⟩ (Nat.le_of_ble_eq_true rfl) dX1_goneTold_35 ⟨Nat.le_of_ble_eq_true rfl, Nat.le_of_ble_eq_true rfl⟩) hS (fun locs hS => ?_)
        refine lv_iadd hx hb dX1_goneTold_38 ?_
        refine b_top (x := (p_acc2 (f_gone S) 9 i) + ((S 1 i 5) + (S 1 i 6) + (S 1 i 7))) (y := p_acc2 (f_gone S) 9 (i + 1)) ((gone_s S i).symm) ?_
        refine lv_istore_n (lv' := [(1, .int (p_acc2 (f_gone S) 9 (i + 1))), (2, .int (p_acc2 (fun b k => p_about S b (k + 1)) 9 i)), (3, .int (nI i)), (0, .ref a)]) hx hb dX1_goneTold_39 rfl hl (Nat.le_of_ble_eq_true rfl) rfl (fun ls hl => ?_)
        refine lv_iconst (v := nI 1) hx hb dX1_goneTold_40 rfl ?_
        refine lv_istore (lv' := [(4, .int (nI 1)), (1, .int (p_acc2 (f_gone S) 9 (i + 1))), (2, .int (p_acc2 (fun b k => p_about S b (k + 1)) 9 i)), (3, .int (nI i)), (0, .ref a)]) hx hb dX1_goneTold_41 hl (Nat.le_of_ble_eq_true rfl) rfl (fun ls hl => ?_)
        have lp43_2 : ∀ (n_ : Nat) (j : Nat), j ≤ 9 → 9 - j < n_ → ∀ (locs : List Loc), va_S (b_A B0) s.heap H locs → ∀ ls : Array Slot, lv_has ls 5 [(1, .int (p_acc2 (f_gone S) 9 (i + 1))), (2, .int (p_acc (p_acc2 (fun b k => p_about S b (k + 1)) 9 i) (fun k => p_about S i (k + 1)) j)), (3, .int (nI i)), (4, .int (nI (j + 1))), (0, .ref a)] → W p l e ({ frames := 5, cells := 0, slots := 0, locals := 111 } : Room) s m ([.ref a] : List Value).toArray below meth c H locs 0 0 Q (F0 m 43 ls []) := by
          intro n_
          induction n_ with
          | zero => intro j hj hlt locs hS ls hl; exact absurd hlt (Nat.not_lt_zero _)
          | succ n_ ih43 =>
            intro j hj hlt locs hS ls hl
            refine lv_iload hx hb dX1_goneTold_43 (lv_at hl 3 rfl) ?_
            refine lv_bipush (v := nI 10) hx hb dX1_goneTold_45 rfl ?_
            refine b_icmp_geN (tgt := 66) CX (by omega) (by omega) dX1_goneTold_47 (by decide) (fun c_47 => ?_) (fun c_47 => ?_)
            · obtain rfl : j = 9 := by omega
              refine lv_iinc (v := nI (i + 1)) (lv' := [(3, .int (nI (i + 1))), (1, .int (p_acc2 (f_gone S) 9 (i + 1))), (2, .int (p_acc (p_acc2 (fun b k => p_about S b (k + 1)) 9 i) (fun k => p_about S i (k + 1)) 9)), (4, .int (nI (9 + 1))), (0, .ref a)]) hx hb dX1_goneTold_66 hl (k := 2) rfl (nI_1 _) (Nat.le_of_ble_eq_true rfl) rfl (fun ls hl => ?_)
              refine lv_goto (tgt := 6) hx hb dX1_goneTold_69 (by decide) ?_
              exact ih6 (i + 1) (by omega) (by omega) _ hS ls (lv_sub hl [1, 2, 0, 4] rfl)
            · refine lv_iload_n hx hb dX1_goneTold_50 rfl (lv_at hl 1 rfl) ?_
              refine lv_aload_n hx hb dX1_goneTold_51 rfl (lv_at hl 4 rfl) ?_
              refine lv_iload_n hx hb dX1_goneTold_52 rfl (lv_at hl 2 rfl) ?_
              refine lv_iload hx hb dX1_goneTold_53 (lv_at hl 3 rfl) ?_
              refine b_ci0 (cs_X1_298 (rest := [.int (p_acc (p_acc2 (fun b k => p_about S b (k + 1)) 9 i) (fun k => p_about S i (k + 1)) j)]) CX hl.1 (m_X1_brandTold l (a := a) (asv := asv) (atx := atx) (atk := atk) (hs := hs) (b := i) (k := j + 1) hc_X hL hW (by omega) (by omega)) rfl rfl rfl hc_X.at hS rfl ⟨rfl, rfl, Nat.le_of_ble_eq_true rfl, Nat.le_of_ble_eq_true rfl⟩ (Nat.le_of_ble_eq_true rfl) dX1_goneTold_55 ⟨Nat.le_of_ble_eq_true rfl, Nat.le_of_ble_eq_true rfl⟩) hS (fun locs hS => ?_)
              refine lv_iadd hx hb dX1_goneTold_58 ?_
              refine lv_istore_n (lv' := [(2, .int ((p_acc (p_acc2 (fun b k => p_about S b (k + 1)) 9 i) (fun k => p_about S i (k + 1)) j) + (p_about S i (j + 1)))), (1, .int (p_acc2 (f_gone S) 9 (i + 1))), (3, .int (nI i)), (4, .int (nI (j + 1))), (0, .ref a)]) hx hb dX1_goneTold_59 rfl hl (Nat.le_of_ble_eq_true rfl) rfl (fun ls hl => ?_)
              refine lv_iinc (v := nI (j + 1 + 1)) (lv' := [(4, .int (nI (j + 1 + 1))), (2, .int ((p_acc (p_acc2 (fun b k => p_about S b (k + 1)) 9 i) (fun k => p_about S i (k + 1)) j) + (p_about S i (j + 1)))), (1, .int (p_acc2 (f_gone S) 9 (i + 1))), (3, .int (nI i)), (0, .ref a)]) hx hb dX1_goneTold_60 hl (k := 3) rfl (nI_1 _) (Nat.le_of_ble_eq_true rfl) rfl (fun ls hl => ?_)
              refine lv_goto (tgt := 43) hx hb dX1_goneTold_63 (by decide) ?_
              exact ih43 (j + 1) (by omega) (by omega) _ hS ls (lv_sub hl [2, 1, 3, 0, 4] rfl)
        exact lp43_2 _ 0 (Nat.zero_le _) (Nat.lt_succ_self _) _ hS ls (lv_sub hl [1, 2, 3, 0, 4] rfl)
  exact lp6_1 _ 0 (Nat.zero_le _) (Nat.lt_succ_self _) _ hS ls (lv_sub hl [2, 1, 0, 3] rfl)
theorem gf_X1_385_0 {p : Program} {l : Launch} {e : Env} {R : Room} {s : State} {m : MethodId} {args : Array Value} {below : List Frame} {meth : Method} {c : Code} {H : Heap} {locs : List Loc} {cells slots : Nat} {Q : State → Prop} {cc : ByteArray} {pc nL a : Nat} {ls : Array Slot} {rest : List Value} {G : b_G} {B0 : Nat} (CX : b_Cx p s m args c cc nL RX1 G B0) {fs : List Value} (hP : b_at G a (.inr (0, fs)) H) {v : Value} (hv : fs[4]? = some v) (hdg : decode cc pc = .ok (.getfield 385, 3)) (kk : W p l e R s m args below meth c H locs cells slots Q (F0 m (pc + 3) ls (v :: rest))) : W p l e R s m args below meth c H locs cells slots Q (F0 m pc ls (.ref a :: rest)) := b_get CX in_X1 rfl 4 (by decide) q263 (Or.inl rfl) hP hv hdg kk
theorem pf_X1_385_0 {p : Program} {l : Launch} {e : Env} {R : Room} {s : State} {m : MethodId} {args : Array Value} {below : List Frame} {meth : Method} {c : Code} {H : Heap} {locs : List Loc} {cells slots : Nat} {Q : State → Prop} {cc : ByteArray} {pc nL a : Nat} {ls : Array Slot} {rest : List Value} {G : b_G} {B0 : Nat} (CX : b_Cx p s m args c cc nL RX1 G B0) {fs : List Value} (hP : b_at G a (.inr (0, fs)) H) (hS : va_S (b_A B0) s.heap H locs) (ha : B0 ≤ a) {v : Value} (hn : narrow (tyX1 4) v = v) (hfit : fits (tyX1 4) v = true) (hl : 4 < fs.length) (hdg : decode cc pc = .ok (.putfield 385, 3)) (kk : ∀ (H1 : Heap) (locs1 : List Loc), b_at G a (.inr (0, fs.set 4 v)) H1 → b_Up a H H1 → va_S (b_A B0) s.heap H1 locs1 → W p l e R s m args below meth c H1 locs1 cells slots Q (F0 m (pc + 3) ls rest)) : W p l e R s m args below meth c H locs cells slots Q (F0 m pc ls (v :: .ref a :: rest)) := b_put CX in_X1 tyX1 tyX1_ok rfl 4 (by decide) (by decide +kernel) q263 (Or.inl rfl) rfl hP hS ha hn hfit hl hdg kk
set_option maxHeartbeats 2000000 in
set_option maxRecDepth 100000 in
theorem m_X1_mix (l : Launch) {G : b_G} {B0 : Nat} {H : Heap} {τ : b_T} {f0 : Nat} {a : Nat} {asv : Nat} {atx : Nat} {atk : Nat} {hs : Int64} {v : Int64} (hc_X : b_tt G B0 τ H a 0 (.inr (0, [.ref f0, .ref asv, .ref atx, .ref atk, .long hs]))) : Met l yX1_mix (ws_ yX1_mix cX1_mix 3 (Option.none)) ({ frames := 0, cells := 0, slots := 0, locals := 0 } : Room) (b_Pc G B0 H [.ref a, .long v]) (b_Qv B0 (fun H1 => b_Fr τ (fun t => t = 0) H H1 ∧ b_tt G B0 τ H1 a 0 (.inr (0, [.ref f0, .ref asv, .ref atx, .ref atk, .long (31 * hs + v)])))) 0 0 (b_A B0) := by
  refine b_of (by decide) (Nat.le_of_ble_eq_true rfl) ?_
  intro p e s m below meth c CX hr hlk hnm hS ls hl
  have CX : b_Cx p s m _ c cX1_mix 3 RX1 G B0 := CX
  have hx := CX.hx
  have hb := CX.hb
  have hl : lv_has ls 3 [(0, .ref a), (1, .long v)] := hl
  generalize hQ : MQ below (b_Qv B0 (fun H1 => b_Fr τ (fun t => t = 0) H H1 ∧ b_tt G B0 τ H1 a 0 (.inr (0, [.ref f0, .ref asv, .ref atx, .ref atk, .long (31 * hs + v)])))) ([.ref a, .long v] : List Value).toArray s 0 0 (b_A B0) = Q
  have hF : b_Fr τ (fun t => t = 0) H H := b_Fr.rf
  have hA : b_Ag τ τ H := b_Ag.rf
  refine lv_aload_n hx hb dX1_mix_0 rfl (lv_at hl 0 rfl) ?_
  refine lv_ldc2 hx hb CX.ow (CX.ts _ q842) dX1_mix_1 ?_
  refine lv_aload_n hx hb dX1_mix_4 rfl (lv_at hl 0 rfl) ?_
  refine gf_X1_385_0 CX hc_X.at rfl dX1_mix_5 ?_
  refine lv_lmul hx hb dX1_mix_8 ?_
  refine lv_lload_n hx hb dX1_mix_9 rfl (lv_at hl 1 rfl) ?_
  refine lv_ladd hx hb dX1_mix_10 ?_
  refine pf_X1_385_0 CX hc_X.at hS hc_X.B rfl rfl (Nat.le_of_ble_eq_true rfl) dX1_mix_11 (fun H1 locs hat hu hS => ?_)
  have hF := hF.up hA hu hc_X.tag (fun _ => show 0 = 0 by omega)
  have hc_X : b_tt G B0 τ H1 a 0 (.inr (0, [.ref f0, .ref asv, .ref atx, .ref atk, .long ((31 * hs) + v)])) := hc_X.set hat
  rw [← hQ]
  exact b_vret CX hr hlk hS (Nat.le_of_ble_eq_true rfl) (Nat.le_of_ble_eq_true rfl) dX1_mix_14 (⟨hF, hc_X⟩)
theorem p_ofs {k : Nat} (hk : k < 28) : ((nI 0 ≤ nI k ∧ nI k ≤ nI 6) ∨ (nI 10 ≤ nI k ∧ nI k ≤ nI 17) ∨ (nI 20 ≤ nI k ∧ nI k ≤ nI 27)) ↔ (k < 7 ∨ (k % 10 < 8 ∧ 9 < k)) := by
  rw [nI_leI (by decide) (by omega), nI_leI (by omega) (by decide), nI_leI (by decide) (by omega), nI_leI (by omega) (by decide), nI_leI (by decide) (by omega), nI_leI (by omega) (by decide)]
  omega
theorem cs_X1_315 {p : Program} {l : Launch} {e : Env} {R : Room} {s : State} {m : MethodId} {args : Array Value} {below : List Frame} {meth : Method} {c : Code} {H : Heap} {locs : List Loc} {cells slots : Nat} {cc : ByteArray} {pc nL : Nat} {ls : Array Slot} {rest : List Value} {G : b_G} {B0 : Nat} (CX : b_Cx p s m args c cc nL RX1 G B0) (hls : ls.size = nL) {rm : Room} {mc ms : Nat} {As st0 : List Value} {Qc : Array Value → State → Outcome → State → Prop} (hM : Met l yX1_isOfShop (ws_ yX1_isOfShop cX1_isOfShop 1 (Option.some Jvm.ClassFile.FieldType.boolean)) rm (b_Pc G B0 H As) Qc mc ms (b_A B0)) (hn : As.length = 1) (hS : va_S (b_A B0) s.heap H locs) (hst : st0 = As.reverse ++ rest) (hr : rm.cells = mc ∧ rm.slots = ms ∧ rm.frames + 1 ≤ R.frames ∧ 8 + (1 + 11) + rm.locals ≤ R.locals) (hw : (rest.map fun v => v.category).sum ≤ 8) (hdg : decode cc pc = .ok (.invokestatic 315, 3)) (hf : cells + mc ≤ R.cells ∧ slots + ms ≤ R.slots) : va_Run p l e R s m args below meth c H locs cells slots mc ms (F0 m pc ls st0) rest (Qc As.toArray) (b_A B0) := va_runS CX.fix hM (va_cwS 1 CX.ts (lw_S q872 q873 q79 q874) rfl hr.1 hr.2.1 (by decide +kernel) ⟨hr.2.2.1, hr.2.2.2⟩) ⟨b_blind G B0 H _, b_pre _ CX.K hS⟩ rfl hn hls hst (lv_room hw) hdg hf
theorem cs_X1_318 {p : Program} {l : Launch} {e : Env} {R : Room} {s : State} {m : MethodId} {args : Array Value} {below : List Frame} {meth : Method} {c : Code} {H : Heap} {locs : List Loc} {cells slots : Nat} {cc : ByteArray} {pc nL a : Nat} {ls : Array Slot} {rest : List Value} {G : b_G} {B0 : Nat} (CX : b_Cx p s m args c cc nL RX1 G B0) (hls : ls.size = nL) {rm : Room} {mc ms : Nat} {As st0 : List Value} {Qc : Array Value → State → Outcome → State → Prop} (hM : Met l yX1_shopTold (ws_ yX1_shopTold cX1_shopTold 4 (Option.some Jvm.ClassFile.FieldType.int)) rm (b_Pc G B0 H (.ref a :: As)) Qc mc ms (b_A B0)) (hn : As.length = 2) {fs : List Value} {ci : Nat} {qc : vw_C} (hc : b_cl[ci]? = some qc) (hq : qc.1 = RX1) (hP : b_at G a (.inr (ci, fs)) H) (hS : va_S (b_A B0) s.heap H locs) (hst : st0 = As.reverse ++ .ref a :: rest) (hr : rm.cells = mc ∧ rm.slots = ms ∧ rm.frames + 1 ≤ R.frames ∧ 8 + (4 + 11) + rm.locals ≤ R.locals) (hw : (rest.map fun v => v.category).sum ≤ 8) (hdg : decode cc pc = .ok (.invokevirtual 318, 3)) (hf : cells + mc ≤ R.cells ∧ slots + ms ≤ R.slots) : va_Run p l e R s m args below meth c H locs cells slots mc ms (F0 m pc ls st0) rest (Qc (Value.ref a :: As).toArray) (b_A B0) := va_runV CX.fix hM (cwV 2 CX.ts (lw_V q876 q878 qs22 q79 q879) rfl hr.1 hr.2.1 (by decide +kernel) ⟨hr.2.2.1, hr.2.2.2⟩) ⟨b_blind G B0 H _, by have h9 := b_recv CX.K hc hP; rw [hq] at h9; exact h9, b_pre _ CX.K hS⟩ rfl hn hls hst (lv_room hw) hdg hf
theorem cs_X1_389 {p : Program} {l : Launch} {e : Env} {R : Room} {s : State} {m : MethodId} {args : Array Value} {below : List Frame} {meth : Method} {c : Code} {H : Heap} {locs : List Loc} {cells slots : Nat} {cc : ByteArray} {pc nL a : Nat} {ls : Array Slot} {rest : List Value} {G : b_G} {B0 : Nat} (CX : b_Cx p s m args c cc nL RX1 G B0) (hls : ls.size = nL) {rm : Room} {mc ms : Nat} {As st0 : List Value} {Qc : Array Value → State → Outcome → State → Prop} (hM : Met l yX1_mix (ws_ yX1_mix cX1_mix 3 (Option.none)) rm (b_Pc G B0 H (.ref a :: As)) Qc mc ms (b_A B0)) (hn : As.length = 1) {fs : List Value} {ci : Nat} {qc : vw_C} (hc : b_cl[ci]? = some qc) (hq : qc.1 = RX1) (hP : b_at G a (.inr (ci, fs)) H) (hS : va_S (b_A B0) s.heap H locs) (hst : st0 = As.reverse ++ .ref a :: rest) (hr : rm.cells = mc ∧ rm.slots = ms ∧ rm.frames + 1 ≤ R.frames ∧ 8 + (3 + 11) + rm.locals ≤ R.locals) (hw : (rest.map fun v => v.category).sum ≤ 8) (hdg : decode cc pc = .ok (.invokevirtual 389, 3)) (hf : cells + mc ≤ R.cells ∧ slots + ms ≤ R.slots) : va_Run p l e R s m args below meth c H locs cells slots mc ms (F0 m pc ls st0) rest (Qc (Value.ref a :: As).toArray) (b_A B0) := va_runV CX.fix hM (cwV 1 CX.ts (lw_V q838 q840 qs16 q79 q841) rfl hr.1 hr.2.1 (by decide +kernel) ⟨hr.2.2.1, hr.2.2.2⟩) ⟨b_blind G B0 H _, by have h9 := b_recv CX.K hc hP; rw [hq] at h9; exact h9, b_pre _ CX.K hS⟩ rfl hn hls hst (lv_room hw) hdg hf
theorem cs_X1_367 {p : Program} {l : Launch} {e : Env} {R : Room} {s : State} {m : MethodId} {args : Array Value} {below : List Frame} {meth : Method} {c : Code} {H : Heap} {locs : List Loc} {cells slots : Nat} {cc : ByteArray} {pc nL a : Nat} {ls : Array Slot} {rest : List Value} {G : b_G} {B0 : Nat} (CX : b_Cx p s m args c cc nL RX1 G B0) (hls : ls.size = nL) {rm : Room} {mc ms : Nat} {As st0 : List Value} {Qc : Array Value → State → Outcome → State → Prop} (hM : Met l yX1_filledTold (ws_ yX1_filledTold cX1_filledTold 3 (Option.some Jvm.ClassFile.FieldType.int)) rm (b_Pc G B0 H (.ref a :: As)) Qc mc ms (b_A B0)) (hn : As.length = 2) {fs : List Value} {ci : Nat} {qc : vw_C} (hc : b_cl[ci]? = some qc) (hq : qc.1 = RX1) (hP : b_at G a (.inr (ci, fs)) H) (hS : va_S (b_A B0) s.heap H locs) (hst : st0 = As.reverse ++ .ref a :: rest) (hr : rm.cells = mc ∧ rm.slots = ms ∧ rm.frames + 1 ≤ R.frames ∧ 8 + (3 + 11) + rm.locals ≤ R.locals) (hw : (rest.map fun v => v.category).sum ≤ 8) (hdg : decode cc pc = .ok (.invokevirtual 367, 3)) (hf : cells + mc ≤ R.cells ∧ slots + ms ≤ R.slots) : va_Run p l e R s m args below meth c H locs cells slots mc ms (F0 m pc ls st0) rest (Qc (Value.ref a :: As).toArray) (b_A B0) := va_runV CX.fix hM (cwV 2 CX.ts (lw_V q847 q849 qs18 q79 q850) rfl hr.1 hr.2.1 (by decide +kernel) ⟨hr.2.2.1, hr.2.2.2⟩) ⟨b_blind G B0 H _, by have h9 := b_recv CX.K hc hP; rw [hq] at h9; exact h9, b_pre _ CX.K hS⟩ rfl hn hls hst (lv_room hw) hdg hf
theorem cs_X1_346 {p : Program} {l : Launch} {e : Env} {R : Room} {s : State} {m : MethodId} {args : Array Value} {below : List Frame} {meth : Method} {c : Code} {H : Heap} {locs : List Loc} {cells slots : Nat} {cc : ByteArray} {pc nL a : Nat} {ls : Array Slot} {rest : List Value} {G : b_G} {B0 : Nat} (CX : b_Cx p s m args c cc nL RX1 G B0) (hls : ls.size = nL) {rm : Room} {mc ms : Nat} {As st0 : List Value} {Qc : Array Value → State → Outcome → State → Prop} (hM : Met l yX1_mostTold (ws_ yX1_mostTold cX1_mostTold 5 (Option.some Jvm.ClassFile.FieldType.int)) rm (b_Pc G B0 H (.ref a :: As)) Qc mc ms (b_A B0)) (hn : As.length = 2) {fs : List Value} {ci : Nat} {qc : vw_C} (hc : b_cl[ci]? = some qc) (hq : qc.1 = RX1) (hP : b_at G a (.inr (ci, fs)) H) (hS : va_S (b_A B0) s.heap H locs) (hst : st0 = As.reverse ++ .ref a :: rest) (hr : rm.cells = mc ∧ rm.slots = ms ∧ rm.frames + 1 ≤ R.frames ∧ 8 + (5 + 11) + rm.locals ≤ R.locals) (hw : (rest.map fun v => v.category).sum ≤ 8) (hdg : decode cc pc = .ok (.invokevirtual 346, 3)) (hf : cells + mc ≤ R.cells ∧ slots + ms ≤ R.slots) : va_Run p l e R s m args below meth c H locs cells slots mc ms (F0 m pc ls st0) rest (Qc (Value.ref a :: As).toArray) (b_A B0) := va_runV CX.fix hM (cwV 2 CX.ts (lw_V q855 q857 qs19 q79 q858) rfl hr.1 hr.2.1 (by decide +kernel) ⟨hr.2.2.1, hr.2.2.2⟩) ⟨b_blind G B0 H _, by have h9 := b_recv CX.K hc hP; rw [hq] at h9; exact h9, b_pre _ CX.K hS⟩ rfl hn hls hst (lv_room hw) hdg hf
set_option maxHeartbeats 2000000 in
set_option maxRecDepth 100000 in
theorem m_X1_mixRows (l : Launch) {G : b_G} {B0 : Nat} {H : Heap} {τ : b_T} {id : Nat} {F : Nat → Nat} {M : Nat → Int32} {E : Nat → Bool} {S : b_St} {Z : Nat → Nat → Int32} {a : Nat} {asv : Nat} {atx : Nat} {atk : Nat} {hs : Int64} (hc_X : b_tt G B0 τ H a 0 (.inr (0, [.ref ((F 0)), .ref asv, .ref atx, .ref atk, .long hs]))) (hL : LR G B0 τ id F M E H S Z) (hW : b_WF S) (hpr : ∀ b, b < nb S → ¬ p_price S b (nI 1) = 0) (hmt : ∀ b s, b < nb S → s < ns S → p_mostT S b s = nI (p_dl S b s 50 0)) (hi0 : 0 < id) : Met l yX1_mixRows (ws_ yX1_mixRows cX1_mixRows 3 (Option.none)) ({ frames := 5, cells := 0, slots := 0, locals := 111 } : Room) (b_Pc G B0 H [.ref a]) (b_Qv B0 (fun H1 => b_Fr τ (fun t => t = 0) H H1 ∧ b_tt G B0 τ H1 a 0 (.inr (0, [.ref ((F 0)), .ref asv, .ref atx, .ref atk, .long (p_ms (p_mb hs S (nb S)) S (ns S))])))) 0 0 (b_A B0) := by
  refine b_of (by decide) (Nat.le_of_ble_eq_true rfl) ?_
  intro p e s m below meth c CX hr hlk hnm hS ls hl
  have CX : b_Cx p s m _ c cX1_mixRows 3 RX1 G B0 := CX
  have hx := CX.hx
  have hb := CX.hb
  have hl : lv_has ls 3 [(0, .ref a)] := hl
  generalize hQ : MQ below (b_Qv B0 (fun H1 => b_Fr τ (fun t => t = 0) H H1 ∧ b_tt G B0 τ H1 a 0 (.inr (0, [.ref ((F 0)), .ref asv, .ref atx, .ref atk, .long (p_ms (p_mb hs S (nb S)) S (ns S))])))) ([.ref a] : List Value).toArray s 0 0 (b_A B0) = Q
  have hF : b_Fr τ (fun t => t = 0) H H := b_Fr.rf
  have hA : b_Ag τ τ H := b_Ag.rf
  have hnb : nb S = nb S := rfl
  have hns : ns S = ns S := rfl
  have hn8 := hL.2.2.2.1
  have hn6 := hL.2.2.2.2
  refine lv_iconst (v := nI 0) hx hb dX1_mixRows_0 rfl ?_
  refine lv_istore_n (lv' := [(1, .int (nI 0)), (0, .ref a)]) hx hb dX1_mixRows_1 rfl hl (Nat.le_of_ble_eq_true rfl) rfl (fun ls hl => ?_)
  have lp2_1 : ∀ (n_ : Nat) (b : Nat), b ≤ nb S → nb S - b < n_ → ∀ (H2 : Heap), b_tt G B0 τ H2 a 0 (.inr (0, [.ref ((F 0)), .ref asv, .ref atx, .ref atk, .long (p_mb hs S b)])) → LR G B0 τ id F M E H2 S Z → b_Fr τ (fun t => t = 0) H H2 → ∀ (locs : List Loc), va_S (b_A B0) s.heap H2 locs → ∀ ls : Array Slot, lv_has ls 3 [(1, .int (nI b)), (0, .ref a)] → W p l e ({ frames := 5, cells := 0, slots := 0, locals := 111 } : Room) s m ([.ref a] : List Value).toArray below meth c H2 locs 0 0 Q (F0 m 2 ls []) := by
    intro n_
    induction n_ with
    | zero => intro b hzb hlt H2 hc_X hL hF locs hS ls hl; exact absurd hlt (Nat.not_lt_zero _)
    | succ n_ ih2 =>
      intro b hzb hlt H2 hc_X hL hF locs hS ls hl
      refine lv_iload_n hx hb dX1_mixRows_2 rfl (lv_at hl 0 rfl) ?_
      refine lv_aload_n hx hb dX1_mixRows_3 rfl (lv_at hl 1 rfl) ?_
      refine gf_X1_19_0 CX hc_X.at rfl dX1_mixRows_4 ?_
      refine gf_X1_70_1 CX hL.loop.at rfl dX1_mixRows_7 ?_
      refine b_ci0 (cs_X1_45 (rest := [.int (nI b)]) CX hl.1 (m_J2_size l (a := (F 1)) (ta := 1000 * id + 1) (mc := M 1) (ra := (if E 1 = true then F 2 else G.2.2 0)) (x := S 0 0 0) hL.al1) rfl rfl rfl hL.al1.at hS rfl ⟨rfl, rfl, Nat.le_of_ble_eq_true rfl, Nat.le_of_ble_eq_true rfl⟩ (Nat.le_of_ble_eq_true rfl) dX1_mixRows_10 ⟨Nat.le_of_ble_eq_true rfl, Nat.le_of_ble_eq_true rfl⟩) hS (fun locs hS => ?_)
      refine b_top (x := (S 0 0 0)) (y := nI (nb S)) (hW.nbE) ?_
      refine b_icmp_geN (tgt := 92) CX (by omega) (by omega) dX1_mixRows_13 (by decide) (fun c_13 => ?_) (fun c_13 => ?_)
      · obtain rfl : b = nb S := by omega
        refine lv_iconst (v := nI 0) hx hb dX1_mixRows_92 rfl ?_
        refine lv_istore_n (lv' := [(1, .int (nI 0)), (0, .ref a)]) hx hb dX1_mixRows_93 rfl hl (Nat.le_of_ble_eq_true rfl) rfl (fun ls hl => ?_)
        have lp94_3 : ∀ (n_ : Nat) (i : Nat), i ≤ ns S → ns S - i < n_ → ∀ (H4 : Heap), b_tt G B0 τ H4 a 0 (.inr (0, [.ref ((F 0)), .ref asv, .ref atx, .ref atk, .long (p_ms (p_mb hs S (nb S)) S i)])) → LR G B0 τ id F M E H4 S Z → b_Fr τ (fun t => t = 0) H H4 → ∀ (locs : List Loc), va_S (b_A B0) s.heap H4 locs → ∀ ls : Array Slot, lv_has ls 3 [(1, .int (nI i)), (0, .ref a)] → W p l e ({ frames := 5, cells := 0, slots := 0, locals := 111 } : Room) s m ([.ref a] : List Value).toArray below meth c H4 locs 0 0 Q (F0 m 94 ls []) := by
          intro n_
          induction n_ with
          | zero => intro i hzi hlt H4 hc_X hL hF locs hS ls hl; exact absurd hlt (Nat.not_lt_zero _)
          | succ n_ ih94 =>
            intro i hzi hlt H4 hc_X hL hF locs hS ls hl
            refine lv_iload_n hx hb dX1_mixRows_94 rfl (lv_at hl 0 rfl) ?_
            refine lv_aload_n hx hb dX1_mixRows_95 rfl (lv_at hl 1 rfl) ?_
            refine gf_X1_19_0 CX hc_X.at rfl dX1_mixRows_96 ?_
            refine gf_X1_77_1 CX hL.loop.at rfl dX1_mixRows_99 ?_
            refine b_ci0 (cs_X1_45 (rest := [.int (nI i)]) CX hl.1 (m_J2_size l (a := (F 3)) (ta := 1000 * id + 3) (mc := M 3) (ra := (if E 3 = true then F 4 else G.2.2 0)) (x := S 0 0 1) hL.al3) rfl rfl rfl hL.al3.at hS rfl ⟨rfl, rfl, Nat.le_of_ble_eq_true rfl, Nat.le_of_ble_eq_true rfl⟩ (Nat.le_of_ble_eq_true rfl) dX1_mixRows_102 ⟨Nat.le_of_ble_eq_true rfl, Nat.le_of_ble_eq_true rfl⟩) hS (fun locs hS => ?_)
            refine b_top (x := (S 0 0 1)) (y := nI (ns S)) (hW.nsE) ?_
            refine b_icmp_geN (tgt := 146) CX (by omega) (by omega) dX1_mixRows_105 (by decide) (fun c_105 => ?_) (fun c_105 => ?_)
            · obtain rfl : i = ns S := by omega
              rw [← hQ]
              exact b_vret CX hr hlk hS (Nat.le_of_ble_eq_true rfl) (Nat.le_of_ble_eq_true rfl) dX1_mixRows_146 (⟨hF, hc_X⟩)
            · refine lv_iconst (v := nI 0) hx hb dX1_mixRows_108 rfl ?_
              refine lv_istore_n (lv' := [(2, .int (nI 0)), (1, .int (nI i)), (0, .ref a)]) hx hb dX1_mixRows_109 rfl hl (Nat.le_of_ble_eq_true rfl) rfl (fun ls hl => ?_)
              have lp110_5 : ∀ (n_ : Nat) (k : Nat), k ≤ 28 → 28 - k < n_ → ∀ (H6 : Heap), b_tt G B0 τ H6 a 0 (.inr (0, [.ref ((F 0)), .ref asv, .ref atx, .ref atk, .long (p_mk (p_ms (p_mb hs S (nb S)) S i) (p_shop S i) k)])) → LR G B0 τ id F M E H6 S Z → b_Fr τ (fun t => t = 0) H H6 → ∀ (locs : List Loc), va_S (b_A B0) s.heap H6 locs → ∀ ls : Array Slot, lv_has ls 3 [(2, .int (nI k)), (1, .int (nI i)), (0, .ref a)] → W p l e ({ frames := 5, cells := 0, slots := 0, locals := 111 } : Room) s m ([.ref a] : List Value).toArray below meth c H6 locs 0 0 Q (F0 m 110 ls []) := by
                intro n_
                induction n_ with
                | zero => intro k hzk hlt H6 hc_X hL hF locs hS ls hl; exact absurd hlt (Nat.not_lt_zero _)
                | succ n_ ih110 =>
                  intro k hzk hlt H6 hc_X hL hF locs hS ls hl
                  refine lv_iload_n hx hb dX1_mixRows_110 rfl (lv_at hl 0 rfl) ?_
                  refine lv_bipush (v := nI 28) hx hb dX1_mixRows_111 rfl ?_
                  refine b_icmp_geN (tgt := 140) CX (by omega) (by omega) dX1_mixRows_113 (by decide) (fun c_113 => ?_) (fun c_113 => ?_)
                  · obtain rfl : k = 28 := by omega
                    refine lv_iinc (v := nI (i + 1)) (lv' := [(1, .int (nI (i + 1))), (2, .int (nI 28)), (0, .ref a)]) hx hb dX1_mixRows_140 hl (k := 1) rfl (nI_1 _) (Nat.le_of_ble_eq_true rfl) rfl (fun ls hl => ?_)
                    refine lv_goto (tgt := 94) hx hb dX1_mixRows_143 (by decide) ?_
                    exact ih94 (i + 1) (by omega) (by omega) H6 hc_X hL hF _ hS ls (lv_sub hl [0, 2] rfl)
                  · refine lv_iload_n hx hb dX1_mixRows_116 rfl (lv_at hl 0 rfl) ?_
                    refine b_ci0 (cs_X1_315 (rest := []) CX hl.1 (m_X1_isOfShop l (x := nI k) ) rfl hS rfl ⟨rfl, rfl, Nat.le_of_ble_eq_true rfl, Nat.le_of_ble_eq_true rfl⟩ (Nat.le_of_ble_eq_true rfl) dX1_mixRows_117 ⟨Nat.le_of_ble_eq_true rfl, Nat.le_of_ble_eq_true rfl⟩) hS (fun locs hS => ?_)
                    refine b_ifeq (tgt := 134) CX dX1_mixRows_120 (by decide) (fun c_120 => ?_) (fun c_120 => ?_)
                    · have hc_X : b_tt G B0 τ H6 a 0 (.inr (0, [.ref ((F 0)), .ref asv, .ref atx, .ref atk, .long (p_mk (p_ms (p_mb hs S (nb S)) S i) (p_shop S i) (k + 1))])) := hc_X.cg (by show (Sum.inr (0, [.ref (F 0), .ref asv, .ref atx, .ref atk, .long _]) : va_E) = .inr (0, [.ref (F 0), .ref asv, .ref atx, .ref atk, .long (if _ then _ else _)]); first | rw [if_pos ((p_ofs (by omega)).mp c_120)] | rw [if_neg (fun q => c_120 ((p_ofs (by omega)).mpr q))])
                      refine lv_iinc (v := nI (k + 1)) (lv' := [(2, .int (nI (k + 1))), (1, .int (nI i)), (0, .ref a)]) hx hb dX1_mixRows_134 hl (k := 0) rfl (nI_1 _) (Nat.le_of_ble_eq_true rfl) rfl (fun ls hl => ?_)
                      refine lv_goto (tgt := 110) hx hb dX1_mixRows_137 (by decide) ?_
                      exact ih110 (k + 1) (by omega) (by omega) H6 hc_X hL hF _ hS ls (lv_sub hl [0, 1, 2] rfl)
                    · have hk7 := (p_ofs (k := k) (by omega)).mp c_120
                      refine lv_aload_n hx hb dX1_mixRows_123 rfl (lv_at hl 2 rfl) ?_
                      refine lv_aload_n hx hb dX1_mixRows_124 rfl (lv_at hl 2 rfl) ?_
                      refine lv_iload_n hx hb dX1_mixRows_125 rfl (lv_at hl 1 rfl) ?_
                      refine lv_iload_n hx hb dX1_mixRows_126 rfl (lv_at hl 0 rfl) ?_
                      refine b_ci0 (cs_X1_318 (rest := [.ref a]) CX hl.1 (m_X1_shopTold l (a := a) (asv := asv) (atx := atx) (atk := atk) (hs := p_mk (p_ms (p_mb hs S (nb S)) S i) (p_shop S i) k) (s_ := i) (k := k) hc_X hL hW (by omega) (by omega)) rfl rfl rfl hc_X.at hS rfl ⟨rfl, rfl, Nat.le_of_ble_eq_true rfl, Nat.le_of_ble_eq_true rfl⟩ (Nat.le_of_ble_eq_true rfl) dX1_mixRows_127 ⟨Nat.le_of_ble_eq_true rfl, Nat.le_of_ble_eq_true rfl⟩) hS (fun locs hS => ?_)
                      refine lv_i2l hx hb dX1_mixRows_130 rfl ?_
                      refine b_cv (cs_X1_389 (rest := []) CX hl.1 (m_X1_mix l (a := a) (f0 := (F 0)) (asv := asv) (atx := atx) (atk := atk) (hs := p_mk (p_ms (p_mb hs S (nb S)) S i) (p_shop S i) k) (v := (p_shop S i k).toInt64) hc_X) rfl rfl rfl hc_X.at hS rfl ⟨rfl, rfl, Nat.le_of_ble_eq_true rfl, Nat.le_of_ble_eq_true rfl⟩ (Nat.le_of_ble_eq_true rfl) dX1_mixRows_131 ⟨Nat.le_of_ble_eq_true rfl, Nat.le_of_ble_eq_true rfl⟩) hS (fun H9 locs hp hS => ?_)
                      obtain ⟨hF9, hx0⟩ := hp
                      have hL := hL.fr hF9 (fun i9 hi9 => show ¬ ((1000 * id + i9) = 0) by omega)
                      have hz9 := hF.1
                      have hF0 := hF.tr hA hF9 (fun q9 hq9 x9 => by have x8 : τ q9 = 0 := x9; show τ q9 = 0; omega)
                      have hF := hF0
                      have hc_X : b_tt G B0 τ H9 a 0 (.inr (0, [.ref (((F 0))), .ref asv, .ref atx, .ref atk, .long (31 * (p_mk (p_ms (p_mb hs S (nb S)) S i) (p_shop S i) k) + ((p_shop S i k).toInt64))])) := hx0
                      have hc_X : b_tt G B0 τ H9 a 0 (.inr (0, [.ref (((F 0))), .ref asv, .ref atx, .ref atk, .long (p_mk (p_ms (p_mb hs S (nb S)) S i) (p_shop S i) (k + 1))])) := hc_X.cg (by show (Sum.inr (0, [.ref (F 0), .ref asv, .ref atx, .ref atk, .long _]) : va_E) = .inr (0, [.ref (F 0), .ref asv, .ref atx, .ref atk, .long (if _ then _ else _)]); first | rw [if_pos ((p_ofs (by omega)).mp c_120)] | rw [if_neg (fun q => c_120 ((p_ofs (by omega)).mpr q))])
                      refine lv_iinc (v := nI (k + 1)) (lv' := [(2, .int (nI (k + 1))), (1, .int (nI i)), (0, .ref a)]) hx hb dX1_mixRows_134 hl (k := 0) rfl (nI_1 _) (Nat.le_of_ble_eq_true rfl) rfl (fun ls hl => ?_)
                      refine lv_goto (tgt := 110) hx hb dX1_mixRows_137 (by decide) ?_
                      exact ih110 (k + 1) (by omega) (by omega) H9 hc_X hL hF _ hS ls (lv_sub hl [0, 1, 2] rfl)
              exact lp110_5 _ 0 (Nat.zero_le _) (Nat.lt_succ_self _) H4 hc_X hL hF _ hS ls (lv_sub hl [0, 1, 2] rfl)
        exact lp94_3 _ 0 (Nat.zero_le _) (Nat.lt_succ_self _) H2 hc_X hL hF _ hS ls (lv_sub hl [0, 1] rfl)
      · refine lv_iconst (v := nI 0) hx hb dX1_mixRows_16 rfl ?_
        refine lv_istore_n (lv' := [(2, .int (nI 0)), (1, .int (nI b)), (0, .ref a)]) hx hb dX1_mixRows_17 rfl hl (Nat.le_of_ble_eq_true rfl) rfl (fun ls hl => ?_)
        have lp18_10 : ∀ (n_ : Nat) (k : Nat), k ≤ 12 → 12 - k < n_ → ∀ (H11 : Heap), b_tt G B0 τ H11 a 0 (.inr (0, [.ref ((F 0)), .ref asv, .ref atx, .ref atk, .long (p_mx (p_mb hs S b) (p_about S b) k)])) → LR G B0 τ id F M E H11 S Z → b_Fr τ (fun t => t = 0) H H11 → ∀ (locs : List Loc), va_S (b_A B0) s.heap H11 locs → ∀ ls : Array Slot, lv_has ls 3 [(2, .int (nI k)), (1, .int (nI b)), (0, .ref a)] → W p l e ({ frames := 5, cells := 0, slots := 0, locals := 111 } : Room) s m ([.ref a] : List Value).toArray below meth c H11 locs 0 0 Q (F0 m 18 ls []) := by
          intro n_
          induction n_ with
          | zero => intro k hzk hlt H11 hc_X hL hF locs hS ls hl; exact absurd hlt (Nat.not_lt_zero _)
          | succ n_ ih18 =>
            intro k hzk hlt H11 hc_X hL hF locs hS ls hl
            refine lv_iload_n hx hb dX1_mixRows_18 rfl (lv_at hl 0 rfl) ?_
            refine lv_bipush (v := nI 12) hx hb dX1_mixRows_19 rfl ?_
            refine b_icmp_geN (tgt := 41) CX (by omega) (by omega) dX1_mixRows_21 (by decide) (fun c_21 => ?_) (fun c_21 => ?_)
            · obtain rfl : k = 12 := by omega
              refine lv_aload_n hx hb dX1_mixRows_41 rfl (lv_at hl 2 rfl) ?_
              refine lv_aload_n hx hb dX1_mixRows_42 rfl (lv_at hl 2 rfl) ?_
              refine lv_iload_n hx hb dX1_mixRows_43 rfl (lv_at hl 1 rfl) ?_
              refine lv_bipush (v := nI 25) hx hb dX1_mixRows_44 rfl ?_
              refine b_ci0 (cs_X1_367 (rest := [.ref a]) CX hl.1 (m_X1_filledTold l (a := a) (asv := asv) (atx := atx) (atk := atk) (hs := p_mx (p_mb hs S b) (p_about S b) 12) (b := b) (w_ := nI 25) hc_X hL hW (by omega)) rfl rfl rfl hc_X.at hS rfl ⟨rfl, rfl, Nat.le_of_ble_eq_true rfl, Nat.le_of_ble_eq_true rfl⟩ (Nat.le_of_ble_eq_true rfl) dX1_mixRows_46 ⟨Nat.le_of_ble_eq_true rfl, Nat.le_of_ble_eq_true rfl⟩) hS (fun locs hS => ?_)
              refine lv_i2l hx hb dX1_mixRows_49 rfl ?_
              refine b_cv (cs_X1_389 (rest := []) CX hl.1 (m_X1_mix l (a := a) (f0 := (F 0)) (asv := asv) (atx := atx) (atk := atk) (hs := p_mx (p_mb hs S b) (p_about S b) 12) (v := (p_full S b (nI 25)).toInt64) hc_X) rfl rfl rfl hc_X.at hS rfl ⟨rfl, rfl, Nat.le_of_ble_eq_true rfl, Nat.le_of_ble_eq_true rfl⟩ (Nat.le_of_ble_eq_true rfl) dX1_mixRows_50 ⟨Nat.le_of_ble_eq_true rfl, Nat.le_of_ble_eq_true rfl⟩) hS (fun H13 locs hp hS => ?_)
              obtain ⟨hF9, hx0⟩ := hp
              have hL := hL.fr hF9 (fun i9 hi9 => show ¬ ((1000 * id + i9) = 0) by omega)
              have hz9 := hF.1
              have hF0 := hF.tr hA hF9 (fun q9 hq9 x9 => by have x8 : τ q9 = 0 := x9; show τ q9 = 0; omega)
              have hF := hF0
              have hc_X : b_tt G B0 τ H13 a 0 (.inr (0, [.ref (((F 0))), .ref asv, .ref atx, .ref atk, .long (31 * (p_mx (p_mb hs S b) (p_about S b) 12) + ((p_full S b (nI 25)).toInt64))])) := hx0
              refine lv_iconst (v := nI 0) hx hb dX1_mixRows_53 rfl ?_
              refine lv_istore_n (lv' := [(2, .int (nI 0)), (1, .int (nI b)), (0, .ref a)]) hx hb dX1_mixRows_54 rfl hl (Nat.le_of_ble_eq_true rfl) rfl (fun ls hl => ?_)
              have lp55_14 : ∀ (n_ : Nat) (j : Nat), j ≤ ns S → ns S - j < n_ → ∀ (H15 : Heap), b_tt G B0 τ H15 a 0 (.inr (0, [.ref (((F 0))), .ref asv, .ref atx, .ref atk, .long (p_mx (31 * p_mx (p_mb hs S b) (p_about S b) 12 + (p_full S b (nI 25)).toInt64) (fun s => nI (p_dl S b s 50 0)) j)])) → LR G B0 τ id F M E H15 S Z → b_Fr τ (fun t => t = 0) H H15 → ∀ (locs : List Loc), va_S (b_A B0) s.heap H15 locs → ∀ ls : Array Slot, lv_has ls 3 [(2, .int (nI j)), (1, .int (nI b)), (0, .ref a)] → W p l e ({ frames := 5, cells := 0, slots := 0, locals := 111 } : Room) s m ([.ref a] : List Value).toArray below meth c H15 locs 0 0 Q (F0 m 55 ls []) := by
                intro n_
                induction n_ with
                | zero => intro j hzj hlt H15 hc_X hL hF locs hS ls hl; exact absurd hlt (Nat.not_lt_zero _)
                | succ n_ ih55 =>
                  intro j hzj hlt H15 hc_X hL hF locs hS ls hl
                  refine lv_iload_n hx hb dX1_mixRows_55 rfl (lv_at hl 0 rfl) ?_
                  refine lv_aload_n hx hb dX1_mixRows_56 rfl (lv_at hl 2 rfl) ?_
                  refine gf_X1_19_0 CX hc_X.at rfl dX1_mixRows_57 ?_
                  refine gf_X1_77_1 CX hL.loop.at rfl dX1_mixRows_60 ?_
                  refine b_ci0 (cs_X1_45 (rest := [.int (nI j)]) CX hl.1 (m_J2_size l (a := (F 3)) (ta := 1000 * id + 3) (mc := M 3) (ra := (if E 3 = true then F 4 else G.2.2 0)) (x := S 0 0 1) hL.al3) rfl rfl rfl hL.al3.at hS rfl ⟨rfl, rfl, Nat.le_of_ble_eq_true rfl, Nat.le_of_ble_eq_true rfl⟩ (Nat.le_of_ble_eq_true rfl) dX1_mixRows_63 ⟨Nat.le_of_ble_eq_true rfl, Nat.le_of_ble_eq_true rfl⟩) hS (fun locs hS => ?_)
                  refine b_top (x := (S 0 0 1)) (y := nI (ns S)) (hW.nsE) ?_
                  refine b_icmp_geN (tgt := 86) CX (by omega) (by omega) dX1_mixRows_66 (by decide) (fun c_66 => ?_) (fun c_66 => ?_)
                  · obtain rfl : j = ns S := by omega
                    refine lv_iinc (v := nI (b + 1)) (lv' := [(1, .int (nI (b + 1))), (2, .int (nI (ns S))), (0, .ref a)]) hx hb dX1_mixRows_86 hl (k := 1) rfl (nI_1 _) (Nat.le_of_ble_eq_true rfl) rfl (fun ls hl => ?_)
                    refine lv_goto (tgt := 2) hx hb dX1_mixRows_89 (by decide) ?_
                    exact ih2 (b + 1) (by omega) (by omega) H15 hc_X hL hF _ hS ls (lv_sub hl [0, 2] rfl)
                  · refine lv_aload_n hx hb dX1_mixRows_69 rfl (lv_at hl 2 rfl) ?_
                    refine lv_aload_n hx hb dX1_mixRows_70 rfl (lv_at hl 2 rfl) ?_
                    refine lv_iload_n hx hb dX1_mixRows_71 rfl (lv_at hl 1 rfl) ?_
                    refine lv_iload_n hx hb dX1_mixRows_72 rfl (lv_at hl 0 rfl) ?_
                    refine b_ci0 (cs_X1_346 (rest := [.ref a]) CX hl.1 (m_X1_mostTold l (a := a) (asv := asv) (atx := atx) (atk := atk) (hs := p_mx (31 * p_mx (p_mb hs S b) (p_about S b) 12 + (p_full S b (nI 25)).toInt64) (fun s => nI (p_dl S b s 50 0)) j) (b := b) (s_ := j) hc_X hL hW (by omega) (by omega) (hpr _ (by omega))) rfl rfl rfl hc_X.at hS rfl ⟨rfl, rfl, Nat.le_of_ble_eq_true rfl, Nat.le_of_ble_eq_true rfl⟩ (Nat.le_of_ble_eq_true rfl) dX1_mixRows_73 ⟨Nat.le_of_ble_eq_true rfl, Nat.le_of_ble_eq_true rfl⟩) hS (fun locs hS => ?_)
                    refine b_top (x := p_mostT S b j) (y := nI (p_dl S b j 50 0)) (hmt _ _ (by omega) (by omega)) ?_
                    refine lv_i2l hx hb dX1_mixRows_76 rfl ?_
                    refine b_cv (cs_X1_389 (rest := []) CX hl.1 (m_X1_mix l (a := a) (f0 := ((F 0))) (asv := asv) (atx := atx) (atk := atk) (hs := p_mx (31 * p_mx (p_mb hs S b) (p_about S b) 12 + (p_full S b (nI 25)).toInt64) (fun s => nI (p_dl S b s 50 0)) j) (v := (nI (p_dl S b j 50 0)).toInt64) hc_X) rfl rfl rfl hc_X.at hS rfl ⟨rfl, rfl, Nat.le_of_ble_eq_true rfl, Nat.le_of_ble_eq_true rfl⟩ (Nat.le_of_ble_eq_true rfl) dX1_mixRows_77 ⟨Nat.le_of_ble_eq_true rfl, Nat.le_of_ble_eq_true rfl⟩) hS (fun H17 locs hp hS => ?_)
                    obtain ⟨hF9, hx0⟩ := hp
                    have hL := hL.fr hF9 (fun i9 hi9 => show ¬ ((1000 * id + i9) = 0) by omega)
                    have hz9 := hF.1
                    have hF0 := hF.tr hA hF9 (fun q9 hq9 x9 => by have x8 : τ q9 = 0 := x9; show τ q9 = 0; omega)
                    have hF := hF0
                    have hc_X : b_tt G B0 τ H17 a 0 (.inr (0, [.ref ((((F 0)))), .ref asv, .ref atx, .ref atk, .long (31 * (p_mx (31 * p_mx (p_mb hs S b) (p_about S b) 12 + (p_full S b (nI 25)).toInt64) (fun s => nI (p_dl S b s 50 0)) j) + ((nI (p_dl S b j 50 0)).toInt64))])) := hx0
                    refine lv_iinc (v := nI (j + 1)) (lv' := [(2, .int (nI (j + 1))), (1, .int (nI b)), (0, .ref a)]) hx hb dX1_mixRows_80 hl (k := 0) rfl (nI_1 _) (Nat.le_of_ble_eq_true rfl) rfl (fun ls hl => ?_)
                    refine lv_goto (tgt := 55) hx hb dX1_mixRows_83 (by decide) ?_
                    exact ih55 (j + 1) (by omega) (by omega) H17 hc_X hL hF _ hS ls (lv_sub hl [0, 1, 2] rfl)
              exact lp55_14 _ 0 (Nat.zero_le _) (Nat.lt_succ_self _) H13 hc_X hL hF _ hS ls (lv_sub hl [0, 1, 2] rfl)
            · refine lv_aload_n hx hb dX1_mixRows_24 rfl (lv_at hl 2 rfl) ?_
              refine lv_aload_n hx hb dX1_mixRows_25 rfl (lv_at hl 2 rfl) ?_
              refine lv_iload_n hx hb dX1_mixRows_26 rfl (lv_at hl 1 rfl) ?_
              refine lv_iload_n hx hb dX1_mixRows_27 rfl (lv_at hl 0 rfl) ?_
              refine b_ci0 (cs_X1_298 (rest := [.ref a]) CX hl.1 (m_X1_brandTold l (a := a) (asv := asv) (atx := atx) (atk := atk) (hs := p_mx (p_mb hs S b) (p_about S b) k) (b := b) (k := k) hc_X hL hW (by omega) (by omega)) rfl rfl rfl hc_X.at hS rfl ⟨rfl, rfl, Nat.le_of_ble_eq_true rfl, Nat.le_of_ble_eq_true rfl⟩ (Nat.le_of_ble_eq_true rfl) dX1_mixRows_28 ⟨Nat.le_of_ble_eq_true rfl, Nat.le_of_ble_eq_true rfl⟩) hS (fun locs hS => ?_)
              refine lv_i2l hx hb dX1_mixRows_31 rfl ?_
              refine b_cv (cs_X1_389 (rest := []) CX hl.1 (m_X1_mix l (a := a) (f0 := (F 0)) (asv := asv) (atx := atx) (atk := atk) (hs := p_mx (p_mb hs S b) (p_about S b) k) (v := (p_about S b k).toInt64) hc_X) rfl rfl rfl hc_X.at hS rfl ⟨rfl, rfl, Nat.le_of_ble_eq_true rfl, Nat.le_of_ble_eq_true rfl⟩ (Nat.le_of_ble_eq_true rfl) dX1_mixRows_32 ⟨Nat.le_of_ble_eq_true rfl, Nat.le_of_ble_eq_true rfl⟩) hS (fun H19 locs hp hS => ?_)
              obtain ⟨hF9, hx0⟩ := hp
              have hL := hL.fr hF9 (fun i9 hi9 => show ¬ ((1000 * id + i9) = 0) by omega)
              have hz9 := hF.1
              have hF0 := hF.tr hA hF9 (fun q9 hq9 x9 => by have x8 : τ q9 = 0 := x9; show τ q9 = 0; omega)
              have hF := hF0
              have hc_X : b_tt G B0 τ H19 a 0 (.inr (0, [.ref (((F 0))), .ref asv, .ref atx, .ref atk, .long (31 * (p_mx (p_mb hs S b) (p_about S b) k) + ((p_about S b k).toInt64))])) := hx0
              refine lv_iinc (v := nI (k + 1)) (lv' := [(2, .int (nI (k + 1))), (1, .int (nI b)), (0, .ref a)]) hx hb dX1_mixRows_35 hl (k := 0) rfl (nI_1 _) (Nat.le_of_ble_eq_true rfl) rfl (fun ls hl => ?_)
              refine lv_goto (tgt := 18) hx hb dX1_mixRows_38 (by decide) ?_
              exact ih18 (k + 1) (by omega) (by omega) H19 hc_X hL hF _ hS ls (lv_sub hl [0, 1, 2] rfl)
        exact lp18_10 _ 0 (Nat.zero_le _) (Nat.lt_succ_self _) H2 hc_X hL hF _ hS ls (lv_sub hl [0, 1, 2] rfl)
  exact lp2_1 _ 0 (Nat.zero_le _) (Nat.lt_succ_self _) H hc_X hL hF _ hS ls (lv_sub hl [0, 1] rfl)
theorem gf_X1_41_0 {p : Program} {l : Launch} {e : Env} {R : Room} {s : State} {m : MethodId} {args : Array Value} {below : List Frame} {meth : Method} {c : Code} {H : Heap} {locs : List Loc} {cells slots : Nat} {Q : State → Prop} {cc : ByteArray} {pc nL a : Nat} {ls : Array Slot} {rest : List Value} {G : b_G} {B0 : Nat} (CX : b_Cx p s m args c cc nL RX1 G B0) {fs : List Value} (hP : b_at G a (.inr (0, fs)) H) {v : Value} (hv : fs[3]? = some v) (hdg : decode cc pc = .ok (.getfield 41, 3)) (kk : W p l e R s m args below meth c H locs cells slots Q (F0 m (pc + 3) ls (v :: rest))) : W p l e R s m args below meth c H locs cells slots Q (F0 m pc ls (.ref a :: rest)) := b_get CX in_X1 rfl 3 (by decide) q262 (Or.inl rfl) hP hv hdg kk
theorem cs_X1_356 {p : Program} {l : Launch} {e : Env} {R : Room} {s : State} {m : MethodId} {args : Array Value} {below : List Frame} {meth : Method} {c : Code} {H : Heap} {locs : List Loc} {cells slots : Nat} {cc : ByteArray} {pc nL a : Nat} {ls : Array Slot} {rest : List Value} {G : b_G} {B0 : Nat} (CX : b_Cx p s m args c cc nL RX1 G B0) (hls : ls.size = nL) {rm : Room} {mc ms : Nat} {As st0 : List Value} {Qc : Array Value → State → Outcome → State → Prop} (hM : Met l yX2_layCollected (ws_ yX2_layCollected cX2_layCollected 9 (Option.none)) rm (b_Pc G B0 H (.ref a :: As)) Qc mc ms (b_A B0)) (hn : As.length = 4) {fs : List Value} {ci : Nat} {qc : vw_C} (hc : b_cl[ci]? = some qc) (hq : qc.1 = RX2) (hP : b_at G a (.inr (ci, fs)) H) (hS : va_S (b_A B0) s.heap H locs) (hst : st0 = As.reverse ++ .ref a :: rest) (hr : rm.cells = mc ∧ rm.slots = ms ∧ rm.frames + 1 ≤ R.frames ∧ 8 + (9 + 11) + rm.locals ≤ R.locals) (hw : (rest.map fun v => v.category).sum ≤ 8) (hdg : decode cc pc = .ok (.invokevirtual 356, 3)) (hf : cells + mc ≤ R.cells ∧ slots + ms ≤ R.slots) : va_Run p l e R s m args below meth c H locs cells slots mc ms (F0 m pc ls st0) rest (Qc (Value.ref a :: As).toArray) (b_A B0) := va_runV CX.fix hM (cwV 4 CX.ts (lw_V q903 q904 q905 q80 q906) rfl hr.1 hr.2.1 (by decide +kernel) ⟨hr.2.2.1, hr.2.2.2⟩) ⟨b_blind G B0 H _, by have h9 := b_recv CX.K hc hP; rw [hq] at h9; exact h9, b_pre _ CX.K hS⟩ rfl hn hls hst (lv_room hw) hdg hf
set_option maxHeartbeats 2000000 in
set_option maxRecDepth 100000 in
theorem m_X1_collectedTold (l : Launch) {G : b_G} {B0 : Nat} {H : Heap} {τ : b_T} {id : Nat} {F : Nat → Nat} {M : Nat → Int32} {E : Nat → Bool} {S : b_St} {Z : Nat → Nat → Int32} {a : Nat} {asv : Nat} {atx : Nat} {atk : Nat} {hs : Int64} {s_ : Nat} {b : Nat} {c_ : Nat} {f : Nat → Int32} (hc_X : b_tt G B0 τ H a 0 (.inr (0, [.ref ((F 0)), .ref asv, .ref atx, .ref atk, .long hs]))) (hc_tk : b_tt G B0 τ H atk 5 (.inl (G.2.1 0, 8, .inl f))) (hL : LR G B0 τ id F M E H S Z) (hW : b_WF S) (hSs_ : s_ < ns S) (hBb : b < nb S) (hc : c_ ≤ 50) (hmf : p_from S s_ (kd S b) < nI c_ ↔ ¬ a_collect S s_ (kd S b) (nI c_) ≤ 0) (hpk0 : a_collect S s_ (kd S b) (nI c_) ≤ 0 → p_picks S s_ (kd S b) c_) (hi0 : 0 < id) : Met l yX1_collectedTold (ws_ yX1_collectedTold cX1_collectedTold 5 (Option.some Jvm.ClassFile.FieldType.int)) ({ frames := 5, cells := 0, slots := 0, locals := 111 } : Room) (b_Pc G B0 H [.ref a, .int (nI s_), .int (nI b), .int (nI c_)]) (b_Qi B0 (fun r H1 => r = p_would S s_ b c_ ∧ b_Fr τ (fun t => t = 5) H H1 ∧ b_tt G B0 τ H1 atk 5 (.inl (G.2.1 0, 8, .inl ((if p_from S s_ (kd S b) < nI c_ then f else fun q => nI (p_tk S s_ (kd S b) (12 * c_) q))))))) 0 0 (b_A B0) := by
  refine b_of (by decide) (Nat.le_of_ble_eq_true rfl) ?_
  intro p e s m below meth c CX hr hlk hnm hS ls hl
  have CX : b_Cx p s m _ c cX1_collectedTold 5 RX1 G B0 := CX
  have hx := CX.hx
  have hb := CX.hb
  have hl : lv_has ls 5 [(0, .ref a), (1, .int (nI s_)), (2, .int (nI b)), (3, .int (nI c_))] := hl
  generalize hQ : MQ below (b_Qi B0 (fun r H1 => r = p_would S s_ b c_ ∧ b_Fr τ (fun t => t = 5) H H1 ∧ b_tt G B0 τ H1 atk 5 (.inl (G.2.1 0, 8, .inl ((if p_from S s_ (kd S b) < nI c_ then f else fun q => nI (p_tk S s_ (kd S b) (12 * c_) q))))))) ([.ref a, .int (nI s_), .int (nI b), .int (nI c_)] : List Value).toArray s 0 0 (b_A B0) = Q
  have hF : b_Fr τ (fun t => t = 5) H H := b_Fr.rf
  have hA : b_Ag τ τ H := b_Ag.rf
  have hnb : nb S = nb S := rfl
  have hns : ns S = ns S := rfl
  have hn8 := hL.2.2.2.1
  have hn6 := hL.2.2.2.2
  have hkd := hW.kd3 (b := b) (by omega)
  refine lv_aload_n hx hb dX1_collectedTold_0 rfl (lv_at hl 0 rfl) ?_
  refine gf_X1_19_0 CX hc_X.at rfl dX1_collectedTold_1 ?_
  refine gf_X1_70_1 CX hL.loop.at rfl dX1_collectedTold_4 ?_
  refine lv_iload_n hx hb dX1_collectedTold_7 rfl (lv_at hl 2 rfl) ?_
  refine b_cq0 (cs_X1_103 (rest := []) CX hl.1 (m_J2_get l (a := (F 1)) (ta := 1000 * id + 1) (mc := M 1) (ra := (F 2)) (tr := 1000 * id + 2) (f := (fun j => F (20 + j))) (n := nb S) (i := b) (hL.alg1 hW (by omega)) (hL.arg2 (by omega)) (by omega) (by omega)) rfl rfl rfl (hL.alg1 hW (by omega)).at hS rfl ⟨rfl, rfl, Nat.le_of_ble_eq_true rfl, Nat.le_of_ble_eq_true rfl⟩ (Nat.le_of_ble_eq_true rfl) dX1_collectedTold_8 ⟨Nat.le_of_ble_eq_true rfl, Nat.le_of_ble_eq_true rfl⟩) hS (fun locs hS => ?_)
  refine b_cast CX (ci := 4) rfl (hL.brand (k := b) (by omega)).at q807 dX1_collectedTold_11 ?_
  refine gf_X1_196_4 CX (hL.brand (k := b) (by omega)).at (v := .int (nI (kd S b))) (congrArg (fun q => some (Value.int q)) (hW.kdE (by omega))) dX1_collectedTold_14 ?_
  refine lv_istore (lv' := [(4, .int (nI (kd S b))), (0, .ref a), (1, .int (nI s_)), (2, .int (nI b)), (3, .int (nI c_))]) hx hb dX1_collectedTold_17 hl (Nat.le_of_ble_eq_true rfl) rfl (fun ls hl => ?_)
  refine lv_aload_n hx hb dX1_collectedTold_19 rfl (lv_at hl 1 rfl) ?_
  refine lv_iload_n hx hb dX1_collectedTold_20 rfl (lv_at hl 2 rfl) ?_
  refine lv_iload hx hb dX1_collectedTold_21 (lv_at hl 0 rfl) ?_
  refine b_ci0 (cs_X1_353 (rest := []) CX hl.1 (m_X1_mostFrom l (a := a) (asv := asv) (atx := atx) (atk := atk) (hs := hs) (s_ := s_) (k := kd S b) hc_X hL hW (by omega) (by omega)) rfl rfl rfl hc_X.at hS rfl ⟨rfl, rfl, Nat.le_of_ble_eq_true rfl, Nat.le_of_ble_eq_true rfl⟩ (Nat.le_of_ble_eq_true rfl) dX1_collectedTold_23 ⟨Nat.le_of_ble_eq_true rfl, Nat.le_of_ble_eq_true rfl⟩) hS (fun locs hS => ?_)
  refine lv_iload_n hx hb dX1_collectedTold_26 rfl (lv_at hl 4 rfl) ?_
  refine lv_icmp_ge (tgt := 32) hx hb dX1_collectedTold_27 (by decide) (fun c_27 => ?_) (fun c_27 => ?_)
  · have hnl : ¬ p_from S s_ (kd S b) < nI c_ := fun q => Int32.lt_irrefl (Int32.lt_of_lt_of_le q c_27)
    have ha : a_collect S s_ (kd S b) (nI c_) ≤ 0 := Classical.byContradiction (fun q => hnl (hmf.mpr q))
    have hpk := hpk0 ha
    refine lv_aload_n hx hb dX1_collectedTold_32 rfl (lv_at hl 1 rfl) ?_
    refine gf_X1_19_0 CX hc_X.at rfl dX1_collectedTold_33 ?_
    refine lv_aload_n hx hb dX1_collectedTold_36 rfl (lv_at hl 1 rfl) ?_
    refine gf_X1_19_0 CX hc_X.at rfl dX1_collectedTold_37 ?_
    refine gf_X1_77_1 CX hL.loop.at rfl dX1_collectedTold_40 ?_
    refine lv_iload_n hx hb dX1_collectedTold_43 rfl (lv_at hl 2 rfl) ?_
    refine b_cq0 (cs_X1_103 (rest := [.ref ((F 0))]) CX hl.1 (m_J2_get l (a := (F 3)) (ta := 1000 * id + 3) (mc := M 3) (ra := (F 4)) (tr := 1000 * id + 4) (f := (fun j => F (30 + j))) (n := ns S) (i := s_) (hL.alg3 hW (by omega)) (hL.arg4 (by omega)) (by omega) (by omega)) rfl rfl rfl (hL.alg3 hW (by omega)).at hS rfl ⟨rfl, rfl, Nat.le_of_ble_eq_true rfl, Nat.le_of_ble_eq_true rfl⟩ (Nat.le_of_ble_eq_true rfl) dX1_collectedTold_44 ⟨Nat.le_of_ble_eq_true rfl, Nat.le_of_ble_eq_true rfl⟩) hS (fun locs hS => ?_)
    refine b_cast CX (ci := 5) rfl (hL.shop (k := s_) (by omega)).at q820 dX1_collectedTold_47 ?_
    refine lv_iload hx hb dX1_collectedTold_50 (lv_at hl 0 rfl) ?_
    refine lv_iload_n hx hb dX1_collectedTold_52 rfl (lv_at hl 4 rfl) ?_
    refine lv_aload_n hx hb dX1_collectedTold_53 rfl (lv_at hl 1 rfl) ?_
    refine gf_X1_41_0 CX hc_X.at rfl dX1_collectedTold_54 ?_
    refine b_cv (cs_X1_356 (rest := []) CX hl.1 (m_X2_layCollected l (s_ := s_) (k := kd S b) (c_ := c_) (k0 := atk) (tg := 5) (f := f) hc_tk hL hW (by omega) (by omega) (by omega) hpk (by omega)) rfl rfl rfl hL.loop.at hS rfl ⟨rfl, rfl, Nat.le_of_ble_eq_true rfl, Nat.le_of_ble_eq_true rfl⟩ (Nat.le_of_ble_eq_true rfl) dX1_collectedTold_57 ⟨Nat.le_of_ble_eq_true rfl, Nat.le_of_ble_eq_true rfl⟩) hS (fun H2 locs hp hS => ?_)
    obtain ⟨hF9, hx0⟩ := hp
    have hc_X := hc_X.fr hF9 (show ¬ (0 = 5) by omega)
    have hL := hL.fr hF9 (fun i9 hi9 => show ¬ ((1000 * id + i9) = 5) by omega)
    have hF := hF.tr hA hF9 (fun q9 hq9 x9 => by have x8 : τ q9 = 5 := x9; show τ q9 = 5; omega)
    have hc_tk : b_tt G B0 τ H2 atk 5 (.inl (G.2.1 0, 8, .inl ((fun q => nI (p_tk S s_ (kd S b) (12 * c_) q))))) := hx0
    refine lv_aload_n hx hb dX1_collectedTold_60 rfl (lv_at hl 1 rfl) ?_
    refine gf_X1_41_0 CX hc_X.at rfl dX1_collectedTold_61 ?_
    refine lv_iload_n hx hb dX1_collectedTold_64 rfl (lv_at hl 3 rfl) ?_
    refine b_ild CX hc_tk.at (x := ((fun q => nI (p_tk S s_ (kd S b) (12 * c_) q))) b) (vp_in_nI (by omega) (by omega)) (b_at_nI (f := (fun q => nI (p_tk S s_ (kd S b) (12 * c_) q))) (n := b) (by omega) rfl) dX1_collectedTold_65 ?_
    have hc_tk : b_tt G B0 τ H2 atk 5 (.inl (G.2.1 0, 8, .inl ((if p_from S s_ (kd S b) < nI c_ then f else fun q => nI (p_tk S s_ (kd S b) (12 * c_) q))))) := hc_tk.cg (by rw [if_neg hnl])
    rw [← hQ]
    exact b_iret CX hr hlk hS (Nat.le_of_ble_eq_true rfl) (Nat.le_of_ble_eq_true rfl) dX1_collectedTold_66 (⟨(by first | exact (if_pos ha).symm | exact (if_neg ha).symm), hF, hc_tk⟩)
  · have hlt : p_from S s_ (kd S b) < nI c_ := Int32.not_le.mp c_27
    have ha := hmf.mp hlt
    have hc_tk : b_tt G B0 τ H atk 5 (.inl (G.2.1 0, 8, .inl ((if p_from S s_ (kd S b) < nI c_ then f else fun q => nI (p_tk S s_ (kd S b) (12 * c_) q))))) := hc_tk.cg (by rw [if_pos hlt])
    refine lv_iconst (v := -1) hx hb dX1_collectedTold_30 rfl ?_
    rw [← hQ]
    exact b_iret CX hr hlk hS (Nat.le_of_ble_eq_true rfl) (Nat.le_of_ble_eq_true rfl) dX1_collectedTold_31 (⟨(by first | exact (if_pos ha).symm | exact (if_neg ha).symm), hF, hc_tk⟩)
