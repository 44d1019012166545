/-! the reference: what can be called -/
set_option maxRecDepth 100000
theorem cs_X3_49 {p : Program} {l : Launch} {e : Env} {R : Room} {s : State} {m : MethodId} {args : Array Value} {below : List Frame} {meth : Method} {c : Code} {H : Heap} {locs : List Loc} {cells slots : Nat} {cc : ByteArray} {pc nL a : Nat} {ls : Array Slot} {rest : List Value} {G : b_G} {B0 : Nat} (CX : b_Cx p s m args c cc nL RX3 G B0) (hls : ls.size = nL) {rm : Room} {mc ms : Nat} {As st0 : List Value} {Qc : Array Value → State → Outcome → State → Prop} (hM : Met l yX3_fails (ws_ yX3_fails cX3_fails 2 (Option.some Jvm.ClassFile.FieldType.int)) rm (b_Pc G B0 H (.ref a :: As)) Qc mc ms (b_A B0)) (hn : As.length = 1) {fs : List Value} {ci : Nat} {qc : vw_C} (hc : b_cl[ci]? = some qc) (hq : qc.1 = RX3) (hP : b_at G a (.inr (ci, fs)) H) (hS : va_S (b_A B0) s.heap H locs) (hst : st0 = As.reverse ++ .ref a :: rest) (hr : rm.cells = mc ∧ rm.slots = ms ∧ rm.frames + 1 ≤ R.frames ∧ 8 + (2 + 11) + rm.locals ≤ R.locals) (hw : (rest.map fun v => v.category).sum ≤ 8) (hdg : decode cc pc = .ok (.invokevirtual 49, 3)) (hf : cells + mc ≤ R.cells ∧ slots + ms ≤ R.slots) : va_Run p l e R s m args below meth c H locs cells slots mc ms (F0 m pc ls st0) rest (Qc (Value.ref a :: As).toArray) (b_A B0) := va_runV CX.fix hM (cwV 1 CX.ts (lw_V q1906 q1908 qs37 q88 q1909) rfl hr.1 hr.2.1 (by decide +kernel) ⟨hr.2.2.1, hr.2.2.2⟩) ⟨b_blind G B0 H _, by have h9 := b_recv CX.K hc hP; rw [hq] at h9; exact h9, b_pre _ CX.K hS⟩ rfl hn hls hst (lv_room hw) hdg hf
theorem cs_X3_53 {p : Program} {l : Launch} {e : Env} {R : Room} {s : State} {m : MethodId} {args : Array Value} {below : List Frame} {meth : Method} {c : Code} {H : Heap} {locs : List Loc} {cells slots : Nat} {cc : ByteArray} {pc nL a : Nat} {ls : Array Slot} {rest : List Value} {G : b_G} {B0 : Nat} (CX : b_Cx p s m args c cc nL RX3 G B0) (hls : ls.size = nL) {rm : Room} {mc ms : Nat} {As st0 : List Value} {Qc : Array Value → State → Outcome → State → Prop} (hM : Met l yX3_save (ws_ yX3_save cX3_save 2 (Option.none)) rm (b_Pc G B0 H (.ref a :: As)) Qc mc ms (b_A B0)) (hn : As.length = 0) {fs : List Value} {ci : Nat} {qc : vw_C} (hc : b_cl[ci]? = some qc) (hq : qc.1 = RX3) (hP : b_at G a (.inr (ci, fs)) H) (hS : va_S (b_A B0) s.heap H locs) (hst : st0 = As.reverse ++ .ref a :: rest) (hr : rm.cells = mc ∧ rm.slots = ms ∧ rm.frames + 1 ≤ R.frames ∧ 8 + (2 + 11) + rm.locals ≤ R.locals) (hw : (rest.map fun v => v.category).sum ≤ 8) (hdg : decode cc pc = .ok (.invokevirtual 53, 3)) (hf : cells + mc ≤ R.cells ∧ slots + ms ≤ R.slots) : va_Run p l e R s m args below meth c H locs cells slots mc ms (F0 m pc ls st0) rest (Qc (Value.ref a :: As).toArray) (b_A B0) := va_runV CX.fix hM (cwV 0 CX.ts (lw_V q1910 q1912 qs38 q88 q1913) rfl hr.1 hr.2.1 (by decide +kernel) ⟨hr.2.2.1, hr.2.2.2⟩) ⟨b_blind G B0 H _, by have h9 := b_recv CX.K hc hP; rw [hq] at h9; exact h9, b_pre _ CX.K hS⟩ rfl hn hls hst (lv_room hw) hdg hf
set_option maxHeartbeats 2000000 in
set_option maxRecDepth 100000 in
theorem m_X3_addBrand (l : Launch) {G : b_G} {B0 : Nat} {o : Nat → Nat} {Hr H : Heap} {S : b_St} {sp sv : Nat → Int32} {L : Nat → b_St} {t : Nat → Nat} {n tn : Nat} {th pl iw lt on ot nu di : Int32} {k : Int32} {b : Int32} (hM : MW G B0 o Hr H (enc S) sp sv (fun j => nI (t j)) (nI n) (nI tn) th pl iw lt on ot nu di) (hW : b_WF S) (hn : n ≤ 6) (ht : ∀ j, t j < 128) (htn : tn ≤ 60) (hSv : b_Sv sv n L) : Met l yX3_addBrand (ws_ yX3_addBrand cX3_addBrand 3 (Option.some Jvm.ClassFile.FieldType.int)) ({ frames := 1, cells := 0, slots := 0, locals := 22 } : Room) (b_Pc G B0 H [.ref (o 0), .int k, .int b]) (b_Qi B0 (fun r H1 => r = (o_addBrand (S, n, L, tn, t) k b).2.1 ∧ MZ G B0 o H H1 (o_addBrand (S, n, L, tn, t) k b).1 (o_addBrand (S, n, L, tn, t) k b).2.2)) 0 0 (b_A B0) := by
  refine b_of (by decide) (Nat.le_of_ble_eq_true rfl) ?_
  intro p e s m below meth c CX hr hlk hnm hS ls hl
  have CX : b_Cx p s m _ c cX3_addBrand 3 RX3 G B0 := CX
  have hx := CX.hx
  have hb := CX.hb
  have hl : lv_has ls 3 [(0, .ref (o 0)), (1, .int k), (2, .int b)] := hl
  generalize hQ : MQ below (b_Qi B0 (fun r H1 => r = (o_addBrand (S, n, L, tn, t) k b).2.1 ∧ MZ G B0 o H H1 (o_addBrand (S, n, L, tn, t) k b).1 (o_addBrand (S, n, L, tn, t) k b).2.2)) ([.ref (o 0), .int k, .int b] : List Value).toArray s 0 0 (b_A B0) = Q
  have hM := hM.re
  have hn8 := hW.nb8
  have hn6 := hW.ns6
  refine lv_aload_n hx hb dX3_addBrand_0 rfl (lv_at hl 0 rfl) ?_
  refine lv_iconst (v := nI 0) hx hb dX3_addBrand_1 rfl ?_
  refine pf_X3_28_8 CX hM.o0 hS (hM.B (by decide)) rfl rfl (Nat.le_of_ble_eq_true rfl) dX3_addBrand_2 (fun H1 locs hat hu hS => ?_)
  have hM : MW G B0 o H H1 (enc S) sp sv (fun j => nI (t j)) (nI n) (nI tn) (nI 0) pl iw lt on ot nu di := hM.set0 hat hu
  refine lv_iload_n hx hb dX3_addBrand_5 rfl (lv_at hl 1 rfl) ?_
  refine lv_iconst (v := nI 0) hx hb dX3_addBrand_6 rfl ?_
  refine lv_iconst (v := nI 2) hx hb dX3_addBrand_7 rfl ?_
  refine b_ci0 (cs_X3_35 (rest := []) CX hl.1 (m_X3_in l (x := k) (lo := nI 0) (hi := nI 2)  ) rfl hS rfl ⟨rfl, rfl, Nat.le_of_ble_eq_true rfl, Nat.le_of_ble_eq_true rfl⟩ (Nat.le_of_ble_eq_true rfl) dX3_addBrand_8 ⟨Nat.le_of_ble_eq_true rfl, Nat.le_of_ble_eq_true rfl⟩) hS (fun locs hS => ?_)
  refine b_ifeq (tgt := 25) CX dX3_addBrand_11 (by decide) (fun c_11 => ?_) (fun c_11 => ?_)
  · refine lv_aload_n hx hb dX3_addBrand_25 rfl (lv_at hl 0 rfl) ?_
    refine lv_iconst (v := nI 1) hx hb dX3_addBrand_26 rfl ?_
    refine b_ci (cs_X3_49 (rest := []) CX hl.1 (m_X3_fails l (code := nI 1) hM ) rfl rfl rfl hM.o0 hS rfl ⟨rfl, rfl, Nat.le_of_ble_eq_true rfl, Nat.le_of_ble_eq_true rfl⟩ (Nat.le_of_ble_eq_true rfl) dX3_addBrand_27 ⟨Nat.le_of_ble_eq_true rfl, Nat.le_of_ble_eq_true rfl⟩) hS (fun r H2 locs hp hS => ?_)
    obtain ⟨rfl, hM9⟩ := hp
    have hM : MW G B0 o H H2 (enc S) sp sv (fun j => nI (t j)) (nI n) (nI tn) (nI 1) pl iw lt on ot nu di := hM.tr hM9
    have ho : o_addBrand (S, n, L, tn, t) k b = (nI 1, nI 0, (S, n, L, tn, t)) := by
      unfold o_addBrand
      repeat (first | rw [if_pos (by first | assumption | exact ⟨by assumption, by assumption⟩ | (constructor <;> omega) | omega | exact fun q => absurd q (by assumption) | exact fun q => absurd q.1 (by assumption) | exact fun q => absurd q.2 (by assumption) | exact Int32.not_lt.mpr (by assumption) | exact Int32.not_le.mp (by assumption) | exact fun q => q.2 (by assumption) | exact fun q => absurd q.1 (by omega))] | rw [if_neg (by first | assumption | exact ⟨by assumption, by assumption⟩ | (constructor <;> omega) | omega | exact fun q => absurd q (by assumption) | exact fun q => absurd q.1 (by assumption) | exact fun q => absurd q.2 (by assumption) | exact Int32.not_lt.mpr (by assumption) | exact Int32.not_le.mp (by assumption) | exact fun q => q.2 (by assumption) | exact fun q => absurd q.1 (by omega))])
      first | rfl | (unfold f_ok f_no z_save;  rfl)
    rw [← hQ]
    exact b_iret CX hr hlk hS (Nat.le_of_ble_eq_true rfl) (Nat.le_of_ble_eq_true rfl) dX3_addBrand_30 ((by rw [ho]; exact ⟨rfl, _, _, _, _, _, _, _, _, _, hM, hSv⟩))
  · refine lv_iload_n hx hb dX3_addBrand_14 rfl (lv_at hl 2 rfl) ?_
    refine lv_iconst (v := nI 0) hx hb dX3_addBrand_15 rfl ?_
    refine lv_sipush (v := nI 5000) hx hb dX3_addBrand_16 rfl ?_
    refine b_ci0 (cs_X3_35 (rest := []) CX hl.1 (m_X3_in l (x := b) (lo := nI 0) (hi := nI 5000)  ) rfl hS rfl ⟨rfl, rfl, Nat.le_of_ble_eq_true rfl, Nat.le_of_ble_eq_true rfl⟩ (Nat.le_of_ble_eq_true rfl) dX3_addBrand_19 ⟨Nat.le_of_ble_eq_true rfl, Nat.le_of_ble_eq_true rfl⟩) hS (fun locs hS => ?_)
    refine b_ifne (tgt := 31) CX dX3_addBrand_22 (by decide) (fun c_22 => ?_) (fun c_22 => ?_)
    · refine lv_aload_n hx hb dX3_addBrand_31 rfl (lv_at hl 0 rfl) ?_
      refine gf_X3_7_8 CX hM.o0 rfl dX3_addBrand_32 ?_
      refine lv_iconst (v := nI 0) hx hb dX3_addBrand_35 rfl ?_
      refine b_ild CX hM.o1 (x := nI (nb S)) (vp_in_nI (by omega) (by omega)) (b_at_nI (by omega) (((enc_0 _ (by decide))).trans hW.nbE)) dX3_addBrand_36 ?_
      refine lv_bipush (v := nI 8) hx hb dX3_addBrand_37 rfl ?_
      refine b_icmp_neN (tgt := 48) CX (by omega) (by omega) dX3_addBrand_39 (by decide) (fun c_39 => ?_) (fun c_39 => ?_)
      · refine lv_aload_n hx hb dX3_addBrand_48 rfl (lv_at hl 0 rfl) ?_
        refine b_cv (cs_X3_53 (rest := []) CX hl.1 (m_X3_save l  hM hn) rfl rfl rfl hM.o0 hS rfl ⟨rfl, rfl, Nat.le_of_ble_eq_true rfl, Nat.le_of_ble_eq_true rfl⟩ (Nat.le_of_ble_eq_true rfl) dX3_addBrand_49 ⟨Nat.le_of_ble_eq_true rfl, Nat.le_of_ble_eq_true rfl⟩) hS (fun H3 locs hp hS => ?_)
        have hM9 := hp
        have hM : MW G B0 o H H3 (enc S) sp (p_sv sv (enc S) n) (fun j => nI (t j)) (nI (p_sn n)) (nI tn) (nI 0) pl iw lt on ot nu di := hM.tr hM9
        refine lv_aload_n hx hb dX3_addBrand_52 rfl (lv_at hl 0 rfl) ?_
        refine gf_X3_7_8 CX hM.o0 rfl dX3_addBrand_53 ?_
        refine lv_aload_n hx hb dX3_addBrand_56 rfl (lv_at hl 0 rfl) ?_
        refine gf_X3_7_8 CX hM.o0 rfl dX3_addBrand_57 ?_
        refine lv_iconst (v := nI 0) hx hb dX3_addBrand_60 rfl ?_
        refine b_ild CX hM.o1 (x := nI (nb S)) (vp_in_nI (by omega) (by omega)) (b_at_nI (by omega) (((enc_0 _ (by decide))).trans hW.nbE)) dX3_addBrand_61 ?_
        refine lv_iconst (v := nI 0) hx hb dX3_addBrand_62 rfl ?_
        refine b_ci0 (cs_X3_39 (rest := [.ref (o 1)]) CX hl.1 (m_X3_brandAt l (b := nb S) (w := 0)  ) rfl hS rfl ⟨rfl, rfl, Nat.le_of_ble_eq_true rfl, Nat.le_of_ble_eq_true rfl⟩ (Nat.le_of_ble_eq_true rfl) dX3_addBrand_63 ⟨Nat.le_of_ble_eq_true rfl, Nat.le_of_ble_eq_true rfl⟩) hS (fun locs hS => ?_)
        refine lv_iload_n hx hb dX3_addBrand_66 rfl (lv_at hl 1 rfl) ?_
        refine b_ist CX hM.o1 hS (hM.B (by decide)) (vp_in_nI (by omega) (by omega)) dX3_addBrand_67 (fun H4 locs hat hu hS => ?_)
        have hM : MW G B0 o H H4 (enc ((u3 S 1 (nb S) 0 k))) sp (p_sv sv (enc S) n) (fun j => nI (t j)) (nI (p_sn n)) (nI tn) (nI 0) pl iw lt on ot nu di := hM.set1 (b_up_nI (by omega) (enc_u1 _ (by omega) (by omega) _)) hat hu
        refine lv_aload_n hx hb dX3_addBrand_68 rfl (lv_at hl 0 rfl) ?_
        refine gf_X3_7_8 CX hM.o0 rfl dX3_addBrand_69 ?_
        refine lv_aload_n hx hb dX3_addBrand_72 rfl (lv_at hl 0 rfl) ?_
        refine gf_X3_7_8 CX hM.o0 rfl dX3_addBrand_73 ?_
        refine lv_iconst (v := nI 0) hx hb dX3_addBrand_76 rfl ?_
        refine b_ild CX hM.o1 (x := nI (nb S)) (vp_in_nI (by omega) (by omega)) (b_at_nI (by omega) (((enc_0 _ (by decide)).trans (by simp [u3])).trans hW.nbE)) dX3_addBrand_77 ?_
        refine lv_iconst (v := nI 1) hx hb dX3_addBrand_78 rfl ?_
        refine b_ci0 (cs_X3_39 (rest := [.ref (o 1)]) CX hl.1 (m_X3_brandAt l (b := nb S) (w := 1)  ) rfl hS rfl ⟨rfl, rfl, Nat.le_of_ble_eq_true rfl, Nat.le_of_ble_eq_true rfl⟩ (Nat.le_of_ble_eq_true rfl) dX3_addBrand_79 ⟨Nat.le_of_ble_eq_true rfl, Nat.le_of_ble_eq_true rfl⟩) hS (fun locs hS => ?_)
        refine lv_iload_n hx hb dX3_addBrand_82 rfl (lv_at hl 2 rfl) ?_
        refine b_ist CX hM.o1 hS (hM.B (by decide)) (vp_in_nI (by omega) (by omega)) dX3_addBrand_83 (fun H5 locs hat hu hS => ?_)
        have hM : MW G B0 o H H5 (enc ((u3 (u3 S 1 (nb S) 0 k) 1 (nb S) 1 b))) sp (p_sv sv (enc S) n) (fun j => nI (t j)) (nI (p_sn n)) (nI tn) (nI 0) pl iw lt on ot nu di := hM.set1 (b_up_nI (by omega) (enc_u1 _ (by omega) (by omega) _)) hat hu
        refine lv_aload_n hx hb dX3_addBrand_84 rfl (lv_at hl 0 rfl) ?_
        refine gf_X3_7_8 CX hM.o0 rfl dX3_addBrand_85 ?_
        refine lv_iconst (v := nI 0) hx hb dX3_addBrand_88 rfl ?_
        refine lv_dup2_11 hx hb dX3_addBrand_89 rfl rfl ?_
        refine b_ild CX hM.o1 (x := nI (nb S)) (vp_in_nI (by omega) (by omega)) (b_at_nI (by omega) (((enc_0 _ (by decide)).trans (by simp [u3])).trans hW.nbE)) dX3_addBrand_90 ?_
        refine lv_iconst (v := nI 1) hx hb dX3_addBrand_91 rfl ?_
        refine b_iaddN CX dX3_addBrand_92 ?_
        refine b_ist CX hM.o1 hS (hM.B (by decide)) (vp_in_nI (by omega) (by omega)) dX3_addBrand_93 (fun H6 locs hat hu hS => ?_)
        have hM : MW G B0 o H H6 (enc ((u3 (u3 (u3 S 1 (nb S) 0 k) 1 (nb S) 1 b) 0 0 0 (nI ((nb S) + 1))))) sp (p_sv sv (enc S) n) (fun j => nI (t j)) (nI (p_sn n)) (nI tn) (nI 0) pl iw lt on ot nu di := hM.set1 (b_up_nI (by omega) (enc_u0 _ (by decide) _)) hat hu
        refine lv_aload_n hx hb dX3_addBrand_94 rfl (lv_at hl 0 rfl) ?_
        refine gf_X3_7_8 CX hM.o0 rfl dX3_addBrand_95 ?_
        refine lv_iconst (v := nI 0) hx hb dX3_addBrand_98 rfl ?_
        refine b_ild CX hM.o1 (x := nI ((nb S) + 1)) (vp_in_nI (by omega) (by omega)) (b_at_nI (by omega) ((enc_0 _ (by decide)).trans (by simp [u3]))) dX3_addBrand_99 ?_
        refine lv_iconst (v := nI 1) hx hb dX3_addBrand_100 rfl ?_
        refine lv_isub hx hb dX3_addBrand_101 ?_
        refine b_top (x := (nI ((nb S) + 1)) - (nI 1)) (y := nI (nb S)) (nI_pred _) ?_
        have ho : o_addBrand (S, n, L, tn, t) k b = (nI 0, nI (nb S), ((u3 (u3 (u3 S 1 (nb S) 0 k) 1 (nb S) 1 b) 0 0 0 (nI ((nb S) + 1))), p_sn n, (p_L L S n), tn, t)) := by
          unfold o_addBrand
          repeat (first | rw [if_pos (by first | assumption | exact ⟨by assumption, by assumption⟩ | (constructor <;> omega) | omega | exact fun q => absurd q (by assumption) | exact fun q => absurd q.1 (by assumption) | exact fun q => absurd q.2 (by assumption) | exact Int32.not_lt.mpr (by assumption) | exact Int32.not_le.mp (by assumption) | exact fun q => q.2 (by assumption) | exact fun q => absurd q.1 (by omega))] | rw [if_neg (by first | assumption | exact ⟨by assumption, by assumption⟩ | (constructor <;> omega) | omega | exact fun q => absurd q (by assumption) | exact fun q => absurd q.1 (by assumption) | exact fun q => absurd q.2 (by assumption) | exact Int32.not_lt.mpr (by assumption) | exact Int32.not_le.mp (by assumption) | exact fun q => q.2 (by assumption) | exact fun q => absurd q.1 (by omega))])
          first | rfl | (unfold f_ok f_no z_save;  rfl)
        rw [← hQ]
        exact b_iret CX hr hlk hS (Nat.le_of_ble_eq_true rfl) (Nat.le_of_ble_eq_true rfl) dX3_addBrand_102 ((by rw [ho]; exact ⟨rfl, _, _, _, _, _, _, _, _, _, hM, (hSv.save hn _)⟩))
      · refine lv_aload_n hx hb dX3_addBrand_42 rfl (lv_at hl 0 rfl) ?_
        refine lv_iconst (v := nI 2) hx hb dX3_addBrand_43 rfl ?_
        refine b_ci (cs_X3_49 (rest := []) CX hl.1 (m_X3_fails l (code := nI 2) hM ) rfl rfl rfl hM.o0 hS rfl ⟨rfl, rfl, Nat.le_of_ble_eq_true rfl, Nat.le_of_ble_eq_true rfl⟩ (Nat.le_of_ble_eq_true rfl) dX3_addBrand_44 ⟨Nat.le_of_ble_eq_true rfl, Nat.le_of_ble_eq_true rfl⟩) hS (fun r H7 locs hp hS => ?_)
        obtain ⟨rfl, hM9⟩ := hp
        have hM : MW G B0 o H H7 (enc S) sp sv (fun j => nI (t j)) (nI n) (nI tn) (nI 2) pl iw lt on ot nu di := hM.tr hM9
        have ho : o_addBrand (S, n, L, tn, t) k b = (nI 2, nI 0, (S, n, L, tn, t)) := by
          unfold o_addBrand
          repeat (first | rw [if_pos (by first | assumption | exact ⟨by assumption, by assumption⟩ | (constructor <;> omega) | omega | exact fun q => absurd q (by assumption) | exact fun q => absurd q.1 (by assumption) | exact fun q => absurd q.2 (by assumption) | exact Int32.not_lt.mpr (by assumption) | exact Int32.not_le.mp (by assumption) | exact fun q => q.2 (by assumption) | exact fun q => absurd q.1 (by omega))] | rw [if_neg (by first | assumption | exact ⟨by assumption, by assumption⟩ | (constructor <;> omega) | omega | exact fun q => absurd q (by assumption) | exact fun q => absurd q.1 (by assumption) | exact fun q => absurd q.2 (by assumption) | exact Int32.not_lt.mpr (by assumption) | exact Int32.not_le.mp (by assumption) | exact fun q => q.2 (by assumption) | exact fun q => absurd q.1 (by omega))])
          first | rfl | (unfold f_ok f_no z_save;  rfl)
        rw [← hQ]
        exact b_iret CX hr hlk hS (Nat.le_of_ble_eq_true rfl) (Nat.le_of_ble_eq_true rfl) dX3_addBrand_47 ((by rw [ho]; exact ⟨rfl, _, _, _, _, _, _, _, _, _, hM, hSv⟩))
    · refine lv_aload_n hx hb dX3_addBrand_25 rfl (lv_at hl 0 rfl) ?_
      refine lv_iconst (v := nI 1) hx hb dX3_addBrand_26 rfl ?_
      refine b_ci (cs_X3_49 (rest := []) CX hl.1 (m_X3_fails l (code := nI 1) hM ) rfl rfl rfl hM.o0 hS rfl ⟨rfl, rfl, Nat.le_of_ble_eq_true rfl, Nat.le_of_ble_eq_true rfl⟩ (Nat.le_of_ble_eq_true rfl) dX3_addBrand_27 ⟨Nat.le_of_ble_eq_true rfl, Nat.le_of_ble_eq_true rfl⟩) hS (fun r H8 locs hp hS => ?_)
      obtain ⟨rfl, hM9⟩ := hp
      have hM : MW G B0 o H H8 (enc S) sp sv (fun j => nI (t j)) (nI n) (nI tn) (nI 1) pl iw lt on ot nu di := hM.tr hM9
      have ho : o_addBrand (S, n, L, tn, t) k b = (nI 1, nI 0, (S, n, L, tn, t)) := by
        unfold o_addBrand
        repeat (first | rw [if_pos (by first | assumption | exact ⟨by assumption, by assumption⟩ | (constructor <;> omega) | omega | exact fun q => absurd q (by assumption) | exact fun q => absurd q.1 (by assumption) | exact fun q => absurd q.2 (by assumption) | exact Int32.not_lt.mpr (by assumption) | exact Int32.not_le.mp (by assumption) | exact fun q => q.2 (by assumption) | exact fun q => absurd q.1 (by omega))] | rw [if_neg (by first | assumption | exact ⟨by assumption, by assumption⟩ | (constructor <;> omega) | omega | exact fun q => absurd q (by assumption) | exact fun q => absurd q.1 (by assumption) | exact fun q => absurd q.2 (by assumption) | exact Int32.not_lt.mpr (by assumption) | exact Int32.not_le.mp (by assumption) | exact fun q => q.2 (by assumption) | exact fun q => absurd q.1 (by omega))])
        first | rfl | (unfold f_ok f_no z_save;  rfl)
      rw [← hQ]
      exact b_iret CX hr hlk hS (Nat.le_of_ble_eq_true rfl) (Nat.le_of_ble_eq_true rfl) dX3_addBrand_30 ((by rw [ho]; exact ⟨rfl, _, _, _, _, _, _, _, _, _, hM, hSv⟩))
set_option maxHeartbeats 2000000 in
set_option maxRecDepth 100000 in
theorem m_X3_addShop (l : Launch) {G : b_G} {B0 : Nat} {o : Nat → Nat} {Hr H : Heap} {S : b_St} {sp sv : Nat → Int32} {L : Nat → b_St} {t : Nat → Nat} {n tn : Nat} {th pl iw lt on ot nu di : Int32} {b : Int32} (hM : MW G B0 o Hr H (enc S) sp sv (fun j => nI (t j)) (nI n) (nI tn) th pl iw lt on ot nu di) (hW : b_WF S) (hn : n ≤ 6) (ht : ∀ j, t j < 128) (htn : tn ≤ 60) (hSv : b_Sv sv n L) : Met l yX3_addShop (ws_ yX3_addShop cX3_addShop 2 (Option.some Jvm.ClassFile.FieldType.int)) ({ frames := 1, cells := 0, slots := 0, locals := 22 } : Room) (b_Pc G B0 H [.ref (o 0), .int b]) (b_Qi B0 (fun r H1 => r = (o_addShop (S, n, L, tn, t) b).2.1 ∧ MZ G B0 o H H1 (o_addShop (S, n, L, tn, t) b).1 (o_addShop (S, n, L, tn, t) b).2.2)) 0 0 (b_A B0) := by
  refine b_of (by decide) (Nat.le_of_ble_eq_true rfl) ?_
  intro p e s m below meth c CX hr hlk hnm hS ls hl
  have CX : b_Cx p s m _ c cX3_addShop 2 RX3 G B0 := CX
  have hx := CX.hx
  have hb := CX.hb
  have hl : lv_has ls 2 [(0, .ref (o 0)), (1, .int b)] := hl
  generalize hQ : MQ below (b_Qi B0 (fun r H1 => r = (o_addShop (S, n, L, tn, t) b).2.1 ∧ MZ G B0 o H H1 (o_addShop (S, n, L, tn, t) b).1 (o_addShop (S, n, L, tn, t) b).2.2)) ([.ref (o 0), .int b] : List Value).toArray s 0 0 (b_A B0) = Q
  have hM := hM.re
  have hn8 := hW.nb8
  have hn6 := hW.ns6
  refine lv_aload_n hx hb dX3_addShop_0 rfl (lv_at hl 0 rfl) ?_
  refine lv_iconst (v := nI 0) hx hb dX3_addShop_1 rfl ?_
  refine pf_X3_28_8 CX hM.o0 hS (hM.B (by decide)) rfl rfl (Nat.le_of_ble_eq_true rfl) dX3_addShop_2 (fun H1 locs hat hu hS => ?_)
  have hM : MW G B0 o H H1 (enc S) sp sv (fun j => nI (t j)) (nI n) (nI tn) (nI 0) pl iw lt on ot nu di := hM.set0 hat hu
  refine lv_iload_n hx hb dX3_addShop_5 rfl (lv_at hl 1 rfl) ?_
  refine lv_iconst (v := nI 0) hx hb dX3_addShop_6 rfl ?_
  refine lv_ldc (v := nI 100000) hx hb CX.ow (CX.ts _ q1921) dX3_addShop_7 ?_
  refine b_ci0 (cs_X3_35 (rest := []) CX hl.1 (m_X3_in l (x := b) (lo := nI 0) (hi := nI 100000)  ) rfl hS rfl ⟨rfl, rfl, Nat.le_of_ble_eq_true rfl, Nat.le_of_ble_eq_true rfl⟩ (Nat.le_of_ble_eq_true rfl) dX3_addShop_9 ⟨Nat.le_of_ble_eq_true rfl, Nat.le_of_ble_eq_true rfl⟩) hS (fun locs hS => ?_)
  refine b_ifne (tgt := 21) CX dX3_addShop_12 (by decide) (fun c_12 => ?_) (fun c_12 => ?_)
  · refine lv_aload_n hx hb dX3_addShop_21 rfl (lv_at hl 0 rfl) ?_
    refine gf_X3_7_8 CX hM.o0 rfl dX3_addShop_22 ?_
    refine lv_iconst (v := nI 1) hx hb dX3_addShop_25 rfl ?_
    refine b_ild CX hM.o1 (x := nI (ns S)) (vp_in_nI (by omega) (by omega)) (b_at_nI (by omega) (((enc_0 _ (by decide))).trans hW.nsE)) dX3_addShop_26 ?_
    refine lv_bipush (v := nI 6) hx hb dX3_addShop_27 rfl ?_
    refine b_icmp_neN (tgt := 38) CX (by omega) (by omega) dX3_addShop_29 (by decide) (fun c_29 => ?_) (fun c_29 => ?_)
    · refine lv_aload_n hx hb dX3_addShop_38 rfl (lv_at hl 0 rfl) ?_
      refine b_cv (cs_X3_53 (rest := []) CX hl.1 (m_X3_save l  hM hn) rfl rfl rfl hM.o0 hS rfl ⟨rfl, rfl, Nat.le_of_ble_eq_true rfl, Nat.le_of_ble_eq_true rfl⟩ (Nat.le_of_ble_eq_true rfl) dX3_addShop_39 ⟨Nat.le_of_ble_eq_true rfl, Nat.le_of_ble_eq_true rfl⟩) hS (fun H2 locs hp hS => ?_)
      have hM9 := hp
      have hM : MW G B0 o H H2 (enc S) sp (p_sv sv (enc S) n) (fun j => nI (t j)) (nI (p_sn n)) (nI tn) (nI 0) pl iw lt on ot nu di := hM.tr hM9
      refine lv_aload_n hx hb dX3_addShop_42 rfl (lv_at hl 0 rfl) ?_
      refine gf_X3_7_8 CX hM.o0 rfl dX3_addShop_43 ?_
      refine lv_aload_n hx hb dX3_addShop_46 rfl (lv_at hl 0 rfl) ?_
      refine gf_X3_7_8 CX hM.o0 rfl dX3_addShop_47 ?_
      refine lv_iconst (v := nI 1) hx hb dX3_addShop_50 rfl ?_
      refine b_ild CX hM.o1 (x := nI (ns S)) (vp_in_nI (by omega) (by omega)) (b_at_nI (by omega) (((enc_0 _ (by decide))).trans hW.nsE)) dX3_addShop_51 ?_
      refine lv_iconst (v := nI 0) hx hb dX3_addShop_52 rfl ?_
      refine b_ci0 (cs_X3_43 (rest := [.ref (o 1)]) CX hl.1 (m_X3_shopAt_c l (b := ns S) (w := 0)  ) rfl hS rfl ⟨rfl, rfl, Nat.le_of_ble_eq_true rfl, Nat.le_of_ble_eq_true rfl⟩ (Nat.le_of_ble_eq_true rfl) dX3_addShop_53 ⟨Nat.le_of_ble_eq_true rfl, Nat.le_of_ble_eq_true rfl⟩) hS (fun locs hS => ?_)
      refine lv_iload_n hx hb dX3_addShop_56 rfl (lv_at hl 1 rfl) ?_
      refine b_ist CX hM.o1 hS (hM.B (by decide)) (vp_in_nI (by omega) (by omega)) dX3_addShop_57 (fun H3 locs hat hu hS => ?_)
      have hM : MW G B0 o H H3 (enc ((u3 S 2 (ns S) 0 b))) sp (p_sv sv (enc S) n) (fun j => nI (t j)) (nI (p_sn n)) (nI tn) (nI 0) pl iw lt on ot nu di := hM.set1 (b_up_nI (by omega) (enc_u2 _ (by omega) (by omega) _)) hat hu
      refine lv_aload_n hx hb dX3_addShop_58 rfl (lv_at hl 0 rfl) ?_
      refine gf_X3_7_8 CX hM.o0 rfl dX3_addShop_59 ?_
      refine lv_iconst (v := nI 1) hx hb dX3_addShop_62 rfl ?_
      refine lv_dup2_11 hx hb dX3_addShop_63 rfl rfl ?_
      refine b_ild CX hM.o1 (x := nI (ns S)) (vp_in_nI (by omega) (by omega)) (b_at_nI (by omega) (((enc_0 _ (by decide)).trans (by simp [u3])).trans hW.nsE)) dX3_addShop_64 ?_
      refine lv_iconst (v := nI 1) hx hb dX3_addShop_65 rfl ?_
      refine b_iaddN CX dX3_addShop_66 ?_
      refine b_ist CX hM.o1 hS (hM.B (by decide)) (vp_in_nI (by omega) (by omega)) dX3_addShop_67 (fun H4 locs hat hu hS => ?_)
      have hM : MW G B0 o H H4 (enc ((u3 (u3 S 2 (ns S) 0 b) 0 0 1 (nI ((ns S) + 1))))) sp (p_sv sv (enc S) n) (fun j => nI (t j)) (nI (p_sn n)) (nI tn) (nI 0) pl iw lt on ot nu di := hM.set1 (b_up_nI (by omega) (enc_u0 _ (by decide) _)) hat hu
      refine lv_aload_n hx hb dX3_addShop_68 rfl (lv_at hl 0 rfl) ?_
      refine gf_X3_7_8 CX hM.o0 rfl dX3_addShop_69 ?_
      refine lv_iconst (v := nI 1) hx hb dX3_addShop_72 rfl ?_
      refine b_ild CX hM.o1 (x := nI ((ns S) + 1)) (vp_in_nI (by omega) (by omega)) (b_at_nI (by omega) ((enc_0 _ (by decide)).trans (by simp [u3]))) dX3_addShop_73 ?_
      refine lv_iconst (v := nI 1) hx hb dX3_addShop_74 rfl ?_
      refine lv_isub hx hb dX3_addShop_75 ?_
      refine b_top (x := (nI ((ns S) + 1)) - (nI 1)) (y := nI (ns S)) (nI_pred _) ?_
      have ho : o_addShop (S, n, L, tn, t) b = (nI 0, nI (ns S), ((u3 (u3 S 2 (ns S) 0 b) 0 0 1 (nI ((ns S) + 1))), p_sn n, (p_L L S n), tn, t)) := by
        unfold o_addShop
        repeat (first | rw [if_pos (by first | assumption | exact ⟨by assumption, by assumption⟩ | (constructor <;> omega) | omega | exact fun q => absurd q (by assumption) | exact fun q => absurd q.1 (by assumption) | exact fun q => absurd q.2 (by assumption) | exact Int32.not_lt.mpr (by assumption) | exact Int32.not_le.mp (by assumption) | exact fun q => q.2 (by assumption) | exact fun q => absurd q.1 (by omega))] | rw [if_neg (by first | assumption | exact ⟨by assumption, by assumption⟩ | (constructor <;> omega) | omega | exact fun q => absurd q (by assumption) | exact fun q => absurd q.1 (by assumption) | exact fun q => absurd q.2 (by assumption) | exact Int32.not_lt.mpr (by assumption) | exact Int32.not_le.mp (by assumption) | exact fun q => q.2 (by assumption) | exact fun q => absurd q.1 (by omega))])
        first | rfl | (unfold f_ok f_no z_save;  rfl)
      rw [← hQ]
      exact b_iret CX hr hlk hS (Nat.le_of_ble_eq_true rfl) (Nat.le_of_ble_eq_true rfl) dX3_addShop_76 ((by rw [ho]; exact ⟨rfl, _, _, _, _, _, _, _, _, _, hM, (hSv.save hn _)⟩))
    · refine lv_aload_n hx hb dX3_addShop_32 rfl (lv_at hl 0 rfl) ?_
      refine lv_iconst (v := nI 2) hx hb dX3_addShop_33 rfl ?_
      refine b_ci (cs_X3_49 (rest := []) CX hl.1 (m_X3_fails l (code := nI 2) hM ) rfl rfl rfl hM.o0 hS rfl ⟨rfl, rfl, Nat.le_of_ble_eq_true rfl, Nat.le_of_ble_eq_true rfl⟩ (Nat.le_of_ble_eq_true rfl) dX3_addShop_34 ⟨Nat.le_of_ble_eq_true rfl, Nat.le_of_ble_eq_true rfl⟩) hS (fun r H5 locs hp hS => ?_)
      obtain ⟨rfl, hM9⟩ := hp
      have hM : MW G B0 o H H5 (enc S) sp sv (fun j => nI (t j)) (nI n) (nI tn) (nI 2) pl iw lt on ot nu di := hM.tr hM9
      have ho : o_addShop (S, n, L, tn, t) b = (nI 2, nI 0, (S, n, L, tn, t)) := by
        unfold o_addShop
        repeat (first | rw [if_pos (by first | assumption | exact ⟨by assumption, by assumption⟩ | (constructor <;> omega) | omega | exact fun q => absurd q (by assumption) | exact fun q => absurd q.1 (by assumption) | exact fun q => absurd q.2 (by assumption) | exact Int32.not_lt.mpr (by assumption) | exact Int32.not_le.mp (by assumption) | exact fun q => q.2 (by assumption) | exact fun q => absurd q.1 (by omega))] | rw [if_neg (by first | assumption | exact ⟨by assumption, by assumption⟩ | (constructor <;> omega) | omega | exact fun q => absurd q (by assumption) | exact fun q => absurd q.1 (by assumption) | exact fun q => absurd q.2 (by assumption) | exact Int32.not_lt.mpr (by assumption) | exact Int32.not_le.mp (by assumption) | exact fun q => q.2 (by assumption) | exact fun q => absurd q.1 (by omega))])
        first | rfl | (unfold f_ok f_no z_save;  rfl)
      rw [← hQ]
      exact b_iret CX hr hlk hS (Nat.le_of_ble_eq_true rfl) (Nat.le_of_ble_eq_true rfl) dX3_addShop_37 ((by rw [ho]; exact ⟨rfl, _, _, _, _, _, _, _, _, _, hM, hSv⟩))
  · refine lv_aload_n hx hb dX3_addShop_15 rfl (lv_at hl 0 rfl) ?_
    refine lv_iconst (v := nI 1) hx hb dX3_addShop_16 rfl ?_
    refine b_ci (cs_X3_49 (rest := []) CX hl.1 (m_X3_fails l (code := nI 1) hM ) rfl rfl rfl hM.o0 hS rfl ⟨rfl, rfl, Nat.le_of_ble_eq_true rfl, Nat.le_of_ble_eq_true rfl⟩ (Nat.le_of_ble_eq_true rfl) dX3_addShop_17 ⟨Nat.le_of_ble_eq_true rfl, Nat.le_of_ble_eq_true rfl⟩) hS (fun r H6 locs hp hS => ?_)
    obtain ⟨rfl, hM9⟩ := hp
    have hM : MW G B0 o H H6 (enc S) sp sv (fun j => nI (t j)) (nI n) (nI tn) (nI 1) pl iw lt on ot nu di := hM.tr hM9
    have ho : o_addShop (S, n, L, tn, t) b = (nI 1, nI 0, (S, n, L, tn, t)) := by
      unfold o_addShop
      repeat (first | rw [if_pos (by first | assumption | exact ⟨by assumption, by assumption⟩ | (constructor <;> omega) | omega | exact fun q => absurd q (by assumption) | exact fun q => absurd q.1 (by assumption) | exact fun q => absurd q.2 (by assumption) | exact Int32.not_lt.mpr (by assumption) | exact Int32.not_le.mp (by assumption) | exact fun q => q.2 (by assumption) | exact fun q => absurd q.1 (by omega))] | rw [if_neg (by first | assumption | exact ⟨by assumption, by assumption⟩ | (constructor <;> omega) | omega | exact fun q => absurd q (by assumption) | exact fun q => absurd q.1 (by assumption) | exact fun q => absurd q.2 (by assumption) | exact Int32.not_lt.mpr (by assumption) | exact Int32.not_le.mp (by assumption) | exact fun q => q.2 (by assumption) | exact fun q => absurd q.1 (by omega))])
      first | rfl | (unfold f_ok f_no z_save;  rfl)
    rw [← hQ]
    exact b_iret CX hr hlk hS (Nat.le_of_ble_eq_true rfl) (Nat.le_of_ble_eq_true rfl) dX3_addShop_20 ((by rw [ho]; exact ⟨rfl, _, _, _, _, _, _, _, _, _, hM, hSv⟩))
set_option maxHeartbeats 2000000 in
set_option maxRecDepth 100000 in
theorem m_X3_buyCrates (l : Launch) {G : b_G} {B0 : Nat} {o : Nat → Nat} {Hr H : Heap} {S : b_St} {sp sv : Nat → Int32} {L : Nat → b_St} {t : Nat → Nat} {n tn : Nat} {th pl iw lt on ot nu di : Int32} {b : Int32} (hM : MW G B0 o Hr H (enc S) sp sv (fun j => nI (t j)) (nI n) (nI tn) th pl iw lt on ot nu di) (hW : b_WF S) (hn : n ≤ 6) (ht : ∀ j, t j < 128) (htn : tn ≤ 60) (hSv : b_Sv sv n L) : Met l yX3_buyCrates (ws_ yX3_buyCrates cX3_buyCrates 2 (Option.some Jvm.ClassFile.FieldType.int)) ({ frames := 3, cells := 0, slots := 0, locals := 65 } : Room) (b_Pc G B0 H [.ref (o 0), .int b]) (b_Qi B0 (fun r H1 => r = (o_buy (S, n, L, tn, t) b).2.1 ∧ MZ G B0 o H H1 (o_buy (S, n, L, tn, t) b).1 (o_buy (S, n, L, tn, t) b).2.2)) 0 0 (b_A B0) := by
  refine b_of (by decide) (Nat.le_of_ble_eq_true rfl) ?_
  intro p e s m below meth c CX hr hlk hnm hS ls hl
  have CX : b_Cx p s m _ c cX3_buyCrates 2 RX3 G B0 := CX
  have hx := CX.hx
  have hb := CX.hb
  have hl : lv_has ls 2 [(0, .ref (o 0)), (1, .int b)] := hl
  generalize hQ : MQ below (b_Qi B0 (fun r H1 => r = (o_buy (S, n, L, tn, t) b).2.1 ∧ MZ G B0 o H H1 (o_buy (S, n, L, tn, t) b).1 (o_buy (S, n, L, tn, t) b).2.2)) ([.ref (o 0), .int b] : List Value).toArray s 0 0 (b_A B0) = Q
  have hM := hM.re
  have hn8 := hW.nb8
  have hn6 := hW.ns6
  refine lv_aload_n hx hb dX3_buyCrates_0 rfl (lv_at hl 0 rfl) ?_
  refine lv_iconst (v := nI 0) hx hb dX3_buyCrates_1 rfl ?_
  refine pf_X3_28_8 CX hM.o0 hS (hM.B (by decide)) rfl rfl (Nat.le_of_ble_eq_true rfl) dX3_buyCrates_2 (fun H1 locs hat hu hS => ?_)
  have hM : MW G B0 o H H1 (enc S) sp sv (fun j => nI (t j)) (nI n) (nI tn) (nI 0) pl iw lt on ot nu di := hM.set0 hat hu
  refine lv_iload_n hx hb dX3_buyCrates_5 rfl (lv_at hl 1 rfl) ?_
  refine lv_iconst (v := nI 1) hx hb dX3_buyCrates_6 rfl ?_
  refine lv_sipush (v := nI 500) hx hb dX3_buyCrates_7 rfl ?_
  refine b_ci0 (cs_X3_35 (rest := []) CX hl.1 (m_X3_in l (x := b) (lo := nI 1) (hi := nI 500)  ) rfl hS rfl ⟨rfl, rfl, Nat.le_of_ble_eq_true rfl, Nat.le_of_ble_eq_true rfl⟩ (Nat.le_of_ble_eq_true rfl) dX3_buyCrates_10 ⟨Nat.le_of_ble_eq_true rfl, Nat.le_of_ble_eq_true rfl⟩) hS (fun locs hS => ?_)
  refine b_ifne (tgt := 22) CX dX3_buyCrates_13 (by decide) (fun c_13 => ?_) (fun c_13 => ?_)
  · refine lv_aload_n hx hb dX3_buyCrates_22 rfl (lv_at hl 0 rfl) ?_
    refine gf_X3_7_8 CX hM.o0 rfl dX3_buyCrates_23 ?_
    refine lv_iconst (v := nI 2) hx hb dX3_buyCrates_26 rfl ?_
    refine b_ild CX hM.o1 (x := S 0 0 2) (vp_in_nI (by omega) (by omega)) (b_at_nI (by omega) ((enc_0 _ (by decide)))) dX3_buyCrates_27 ?_
    refine lv_aload_n hx hb dX3_buyCrates_28 rfl (lv_at hl 0 rfl) ?_
    refine b_ci0 (cs_X3_60 (rest := [.int (S 0 0 2)]) CX hl.1 (m_X3_cratesInShops l  hM hW) rfl rfl rfl hM.o0 hS rfl ⟨rfl, rfl, Nat.le_of_ble_eq_true rfl, Nat.le_of_ble_eq_true rfl⟩ (Nat.le_of_ble_eq_true rfl) dX3_buyCrates_29 ⟨Nat.le_of_ble_eq_true rfl, Nat.le_of_ble_eq_true rfl⟩) hS (fun locs hS => ?_)
    refine lv_iadd hx hb dX3_buyCrates_32 ?_
    refine lv_iload_n hx hb dX3_buyCrates_33 rfl (lv_at hl 1 rfl) ?_
    refine lv_iadd hx hb dX3_buyCrates_34 ?_
    refine lv_sipush (v := nI 1000) hx hb dX3_buyCrates_35 rfl ?_
    refine lv_icmp_le (tgt := 47) hx hb dX3_buyCrates_38 (by decide) (fun c_38 => ?_) (fun c_38 => ?_)
    · refine lv_aload_n hx hb dX3_buyCrates_47 rfl (lv_at hl 0 rfl) ?_
      refine b_cv (cs_X3_53 (rest := []) CX hl.1 (m_X3_save l  hM hn) rfl rfl rfl hM.o0 hS rfl ⟨rfl, rfl, Nat.le_of_ble_eq_true rfl, Nat.le_of_ble_eq_true rfl⟩ (Nat.le_of_ble_eq_true rfl) dX3_buyCrates_48 ⟨Nat.le_of_ble_eq_true rfl, Nat.le_of_ble_eq_true rfl⟩) hS (fun H2 locs hp hS => ?_)
      have hM9 := hp
      have hM : MW G B0 o H H2 (enc S) sp (p_sv sv (enc S) n) (fun j => nI (t j)) (nI (p_sn n)) (nI tn) (nI 0) pl iw lt on ot nu di := hM.tr hM9
      refine lv_aload_n hx hb dX3_buyCrates_51 rfl (lv_at hl 0 rfl) ?_
      refine gf_X3_7_8 CX hM.o0 rfl dX3_buyCrates_52 ?_
      refine lv_iconst (v := nI 2) hx hb dX3_buyCrates_55 rfl ?_
      refine lv_dup2_11 hx hb dX3_buyCrates_56 rfl rfl ?_
      refine b_ild CX hM.o1 (x := S 0 0 2) (vp_in_nI (by omega) (by omega)) (b_at_nI (by omega) ((enc_0 _ (by decide)))) dX3_buyCrates_57 ?_
      refine lv_iload_n hx hb dX3_buyCrates_58 rfl (lv_at hl 1 rfl) ?_
      refine lv_iadd hx hb dX3_buyCrates_59 ?_
      refine b_ist CX hM.o1 hS (hM.B (by decide)) (vp_in_nI (by omega) (by omega)) dX3_buyCrates_60 (fun H3 locs hat hu hS => ?_)
      have hM : MW G B0 o H H3 (enc ((u3 S 0 0 2 ((S 0 0 2) + b)))) sp (p_sv sv (enc S) n) (fun j => nI (t j)) (nI (p_sn n)) (nI tn) (nI 0) pl iw lt on ot nu di := hM.set1 (b_up_nI (by omega) (enc_u0 _ (by decide) _)) hat hu
      refine lv_aload_n hx hb dX3_buyCrates_61 rfl (lv_at hl 0 rfl) ?_
      refine gf_X3_7_8 CX hM.o0 rfl dX3_buyCrates_62 ?_
      refine lv_iconst (v := nI 2) hx hb dX3_buyCrates_65 rfl ?_
      refine b_ild CX hM.o1 (x := (S 0 0 2) + b) (vp_in_nI (by omega) (by omega)) (b_at_nI (by omega) ((enc_0 _ (by decide)).trans (by simp [u3]))) dX3_buyCrates_66 ?_
      have ho : o_buy (S, n, L, tn, t) b = (nI 0, (S 0 0 2) + b, ((u3 S 0 0 2 ((S 0 0 2) + b)), p_sn n, (p_L L S n), tn, t)) := by
        unfold o_buy
        repeat (first | rw [if_pos (by first | assumption | exact ⟨by assumption, by assumption⟩ | (constructor <;> omega) | omega | exact fun q => absurd q (by assumption) | exact fun q => absurd q.1 (by assumption) | exact fun q => absurd q.2 (by assumption) | exact Int32.not_lt.mpr (by assumption) | exact Int32.not_le.mp (by assumption) | exact fun q => q.2 (by assumption) | exact fun q => absurd q.1 (by omega))] | rw [if_neg (by first | assumption | exact ⟨by assumption, by assumption⟩ | (constructor <;> omega) | omega | exact fun q => absurd q (by assumption) | exact fun q => absurd q.1 (by assumption) | exact fun q => absurd q.2 (by assumption) | exact Int32.not_lt.mpr (by assumption) | exact Int32.not_le.mp (by assumption) | exact fun q => q.2 (by assumption) | exact fun q => absurd q.1 (by omega))])
        first | rfl | (unfold f_ok f_no z_save;  rfl)
      rw [← hQ]
      exact b_iret CX hr hlk hS (Nat.le_of_ble_eq_true rfl) (Nat.le_of_ble_eq_true rfl) dX3_buyCrates_67 ((by rw [ho]; exact ⟨rfl, _, _, _, _, _, _, _, _, _, hM, (hSv.save hn _)⟩))
    · refine lv_aload_n hx hb dX3_buyCrates_41 rfl (lv_at hl 0 rfl) ?_
      refine lv_iconst (v := nI 2) hx hb dX3_buyCrates_42 rfl ?_
      refine b_ci (cs_X3_49 (rest := []) CX hl.1 (m_X3_fails l (code := nI 2) hM ) rfl rfl rfl hM.o0 hS rfl ⟨rfl, rfl, Nat.le_of_ble_eq_true rfl, Nat.le_of_ble_eq_true rfl⟩ (Nat.le_of_ble_eq_true rfl) dX3_buyCrates_43 ⟨Nat.le_of_ble_eq_true rfl, Nat.le_of_ble_eq_true rfl⟩) hS (fun r H4 locs hp hS => ?_)
      obtain ⟨rfl, hM9⟩ := hp
      have hM : MW G B0 o H H4 (enc S) sp sv (fun j => nI (t j)) (nI n) (nI tn) (nI 2) pl iw lt on ot nu di := hM.tr hM9
      have ho : o_buy (S, n, L, tn, t) b = (nI 2, nI 0, (S, n, L, tn, t)) := by
        unfold o_buy
        repeat (first | rw [if_pos (by first | assumption | exact ⟨by assumption, by assumption⟩ | (constructor <;> omega) | omega | exact fun q => absurd q (by assumption) | exact fun q => absurd q.1 (by assumption) | exact fun q => absurd q.2 (by assumption) | exact Int32.not_lt.mpr (by assumption) | exact Int32.not_le.mp (by assumption) | exact fun q => q.2 (by assumption) | exact fun q => absurd q.1 (by omega))] | rw [if_neg (by first | assumption | exact ⟨by assumption, by assumption⟩ | (constructor <;> omega) | omega | exact fun q => absurd q (by assumption) | exact fun q => absurd q.1 (by assumption) | exact fun q => absurd q.2 (by assumption) | exact Int32.not_lt.mpr (by assumption) | exact Int32.not_le.mp (by assumption) | exact fun q => q.2 (by assumption) | exact fun q => absurd q.1 (by omega))])
        first | rfl | (unfold f_ok f_no z_save;  rfl)
      rw [← hQ]
      exact b_iret CX hr hlk hS (Nat.le_of_ble_eq_true rfl) (Nat.le_of_ble_eq_true rfl) dX3_buyCrates_46 ((by rw [ho]; exact ⟨rfl, _, _, _, _, _, _, _, _, _, hM, hSv⟩))
  · refine lv_aload_n hx hb dX3_buyCrates_16 rfl (lv_at hl 0 rfl) ?_
    refine lv_iconst (v := nI 1) hx hb dX3_buyCrates_17 rfl ?_
    refine b_ci (cs_X3_49 (rest := []) CX hl.1 (m_X3_fails l (code := nI 1) hM ) rfl rfl rfl hM.o0 hS rfl ⟨rfl, rfl, Nat.le_of_ble_eq_true rfl, Nat.le_of_ble_eq_true rfl⟩ (Nat.le_of_ble_eq_true rfl) dX3_buyCrates_18 ⟨Nat.le_of_ble_eq_true rfl, Nat.le_of_ble_eq_true rfl⟩) hS (fun r H5 locs hp hS => ?_)
    obtain ⟨rfl, hM9⟩ := hp
    have hM : MW G B0 o H H5 (enc S) sp sv (fun j => nI (t j)) (nI n) (nI tn) (nI 1) pl iw lt on ot nu di := hM.tr hM9
    have ho : o_buy (S, n, L, tn, t) b = (nI 1, nI 0, (S, n, L, tn, t)) := by
      unfold o_buy
      repeat (first | rw [if_pos (by first | assumption | exact ⟨by assumption, by assumption⟩ | (constructor <;> omega) | omega | exact fun q => absurd q (by assumption) | exact fun q => absurd q.1 (by assumption) | exact fun q => absurd q.2 (by assumption) | exact Int32.not_lt.mpr (by assumption) | exact Int32.not_le.mp (by assumption) | exact fun q => q.2 (by assumption) | exact fun q => absurd q.1 (by omega))] | rw [if_neg (by first | assumption | exact ⟨by assumption, by assumption⟩ | (constructor <;> omega) | omega | exact fun q => absurd q (by assumption) | exact fun q => absurd q.1 (by assumption) | exact fun q => absurd q.2 (by assumption) | exact Int32.not_lt.mpr (by assumption) | exact Int32.not_le.mp (by assumption) | exact fun q => q.2 (by assumption) | exact fun q => absurd q.1 (by omega))])
      first | rfl | (unfold f_ok f_no z_save;  rfl)
    rw [← hQ]
    exact b_iret CX hr hlk hS (Nat.le_of_ble_eq_true rfl) (Nat.le_of_ble_eq_true rfl) dX3_buyCrates_21 ((by rw [ho]; exact ⟨rfl, _, _, _, _, _, _, _, _, _, hM, hSv⟩))
theorem gf_X3_22_8 {p : Program} {l : Launch} {e : Env} {R : Room} {s : State} {m : MethodId} {args : Array Value} {below : List Frame} {meth : Method} {c : Code} {H : Heap} {locs : List Loc} {cells slots : Nat} {Q : State → Prop} {cc : ByteArray} {pc nL a : Nat} {ls : Array Slot} {rest : List Value} {G : b_G} {B0 : Nat} (CX : b_Cx p s m args c cc nL RX3 G B0) {fs : List Value} (hP : b_at G a (.inr (8, fs)) H) {v : Value} (hv : fs[7]? = some v) (hdg : decode cc pc = .ok (.getfield 22, 3)) (kk : W p l e R s m args below meth c H locs cells slots Q (F0 m (pc + 3) ls (v :: rest))) : W p l e R s m args below meth c H locs cells slots Q (F0 m pc ls (.ref a :: rest)) := b_get CX in_X3 rfl 7 (by decide) q1853 (Or.inl rfl) hP hv hdg kk
theorem gf_X3_25_8 {p : Program} {l : Launch} {e : Env} {R : Room} {s : State} {m : MethodId} {args : Array Value} {below : List Frame} {meth : Method} {c : Code} {H : Heap} {locs : List Loc} {cells slots : Nat} {Q : State → Prop} {cc : ByteArray} {pc nL a : Nat} {ls : Array Slot} {rest : List Value} {G : b_G} {B0 : Nat} (CX : b_Cx p s m args c cc nL RX3 G B0) {fs : List Value} (hP : b_at G a (.inr (8, fs)) H) {v : Value} (hv : fs[8]? = some v) (hdg : decode cc pc = .ok (.getfield 25, 3)) (kk : W p l e R s m args below meth c H locs cells slots Q (F0 m (pc + 3) ls (v :: rest))) : W p l e R s m args below meth c H locs cells slots Q (F0 m pc ls (.ref a :: rest)) := b_get CX in_X3 rfl 8 (by decide) q1854 (Or.inl rfl) hP hv hdg kk
set_option maxHeartbeats 2000000 in
set_option maxRecDepth 100000 in
theorem m_X3_set (l : Launch) {G : b_G} {B0 : Nat} {o : Nat → Nat} {Hr H : Heap} {S : b_St} {sp sv : Nat → Int32} {L : Nat → b_St} {t : Nat → Nat} {n tn : Nat} {th pl iw lt on ot nu di : Int32} {x : Int32} {b : Int32} (hM : MW G B0 o Hr H (enc S) sp sv (fun j => nI (t j)) (nI n) (nI tn) th pl iw lt on ot nu di) (hW : b_WF S) (hn : n ≤ 6) (ht : ∀ j, t j < 128) (htn : tn ≤ 60) (hSv : b_Sv sv n L) : Met l yX3_set (ws_ yX3_set cX3_set 4 (Option.some Jvm.ClassFile.FieldType.int)) ({ frames := 1, cells := 0, slots := 0, locals := 22 } : Room) (b_Pc G B0 H [.ref (o 0), .int x, .int b]) (b_Qi B0 (fun r H1 => r = (o_set (S, n, L, tn, t) x b).2.1 ∧ MZ G B0 o H H1 (o_set (S, n, L, tn, t) x b).1 (o_set (S, n, L, tn, t) x b).2.2)) 0 0 (b_A B0) := by
  refine b_of (by decide) (Nat.le_of_ble_eq_true rfl) ?_
  intro p e s m below meth c CX hr hlk hnm hS ls hl
  have CX : b_Cx p s m _ c cX3_set 4 RX3 G B0 := CX
  have hx := CX.hx
  have hb := CX.hb
  have hl : lv_has ls 4 [(0, .ref (o 0)), (1, .int x), (2, .int b)] := hl
  generalize hQ : MQ below (b_Qi B0 (fun r H1 => r = (o_set (S, n, L, tn, t) x b).2.1 ∧ MZ G B0 o H H1 (o_set (S, n, L, tn, t) x b).1 (o_set (S, n, L, tn, t) x b).2.2)) ([.ref (o 0), .int x, .int b] : List Value).toArray s 0 0 (b_A B0) = Q
  have hM := hM.re
  have hn8 := hW.nb8
  have hn6 := hW.ns6
  refine lv_aload_n hx hb dX3_set_0 rfl (lv_at hl 0 rfl) ?_
  refine lv_iconst (v := nI 0) hx hb dX3_set_1 rfl ?_
  refine pf_X3_28_8 CX hM.o0 hS (hM.B (by decide)) rfl rfl (Nat.le_of_ble_eq_true rfl) dX3_set_2 (fun H1 locs hat hu hS => ?_)
  have hM : MW G B0 o H H1 (enc S) sp sv (fun j => nI (t j)) (nI n) (nI tn) (nI 0) pl iw lt on ot nu di := hM.set0 hat hu
  refine lv_iload_n hx hb dX3_set_5 rfl (lv_at hl 1 rfl) ?_
  refine lv_iconst (v := nI 0) hx hb dX3_set_6 rfl ?_
  refine lv_iconst (v := nI 5) hx hb dX3_set_7 rfl ?_
  refine b_ci0 (cs_X3_35 (rest := []) CX hl.1 (m_X3_in l (x := x) (lo := nI 0) (hi := nI 5)  ) rfl hS rfl ⟨rfl, rfl, Nat.le_of_ble_eq_true rfl, Nat.le_of_ble_eq_true rfl⟩ (Nat.le_of_ble_eq_true rfl) dX3_set_8 ⟨Nat.le_of_ble_eq_true rfl, Nat.le_of_ble_eq_true rfl⟩) hS (fun locs hS => ?_)
  refine b_ifne (tgt := 20) CX dX3_set_11 (by decide) (fun c_11 => ?_) (fun c_11 => ?_)
  · obtain ⟨jx, hjxa, hjxb, rfl⟩ := p_rg (by decide) c_11 (by decide)
    have ejx : ix (nI jx) = jx := ix_n (by omega)
    refine lv_iload_n hx hb dX3_set_20 rfl (lv_at hl 2 rfl) ?_
    refine lv_aload_n hx hb dX3_set_21 rfl (lv_at hl 0 rfl) ?_
    refine gf_X3_22_8 CX hM.o0 rfl dX3_set_22 ?_
    refine lv_iload_n hx hb dX3_set_25 rfl (lv_at hl 1 rfl) ?_
    refine b_ild CX hM.o5 (x := b_least jx) (vp_in_nI (by omega) (by omega)) (b_at_nI (f := b_least) (n := jx) (by omega) rfl) dX3_set_26 ?_
    refine lv_aload_n hx hb dX3_set_27 rfl (lv_at hl 0 rfl) ?_
    refine gf_X3_25_8 CX hM.o0 rfl dX3_set_28 ?_
    refine lv_iload_n hx hb dX3_set_31 rfl (lv_at hl 1 rfl) ?_
    refine b_ild CX hM.o6 (x := b_most jx) (vp_in_nI (by omega) (by omega)) (b_at_nI (f := b_most) (n := jx) (by omega) rfl) dX3_set_32 ?_
    refine b_ci0 (cs_X3_35 (rest := []) CX hl.1 (m_X3_in l (x := b) (lo := b_least jx) (hi := b_most jx)  ) rfl hS rfl ⟨rfl, rfl, Nat.le_of_ble_eq_true rfl, Nat.le_of_ble_eq_true rfl⟩ (Nat.le_of_ble_eq_true rfl) dX3_set_33 ⟨Nat.le_of_ble_eq_true rfl, Nat.le_of_ble_eq_true rfl⟩) hS (fun locs hS => ?_)
    refine b_ifne (tgt := 45) CX dX3_set_36 (by decide) (fun c_36 => ?_) (fun c_36 => ?_)
    · refine lv_iload_n hx hb dX3_set_45 rfl (lv_at hl 1 rfl) ?_
      refine lv_iconst (v := nI 4) hx hb dX3_set_46 rfl ?_
      refine b_icmp_geN (tgt := 65) CX (by omega) (by omega) dX3_set_47 (by decide) (fun c_47 => ?_) (fun c_47 => ?_)
      · refine lv_aload_n hx hb dX3_set_65 rfl (lv_at hl 0 rfl) ?_
        refine b_cv (cs_X3_53 (rest := []) CX hl.1 (m_X3_save l  hM hn) rfl rfl rfl hM.o0 hS rfl ⟨rfl, rfl, Nat.le_of_ble_eq_true rfl, Nat.le_of_ble_eq_true rfl⟩ (Nat.le_of_ble_eq_true rfl) dX3_set_66 ⟨Nat.le_of_ble_eq_true rfl, Nat.le_of_ble_eq_true rfl⟩) hS (fun H2 locs hp hS => ?_)
        have hM9 := hp
        have hM : MW G B0 o H H2 (enc S) sp (p_sv sv (enc S) n) (fun j => nI (t j)) (nI (p_sn n)) (nI tn) (nI 0) pl iw lt on ot nu di := hM.tr hM9
        refine lv_aload_n hx hb dX3_set_69 rfl (lv_at hl 0 rfl) ?_
        refine gf_X3_7_8 CX hM.o0 rfl dX3_set_70 ?_
        refine lv_bipush (v := nI 7) hx hb dX3_set_73 rfl ?_
        refine lv_iload_n hx hb dX3_set_75 rfl (lv_at hl 1 rfl) ?_
        refine b_iaddN CX dX3_set_76 ?_
        refine b_ild CX hM.o1 (x := S 0 0 (7 + jx)) (vp_in_nI (by omega) (by omega)) (b_at_nI (by omega) ((enc_0 _ (by omega)))) dX3_set_77 ?_
        refine lv_istore_n (lv' := [(3, .int (S 0 0 (7 + jx))), (0, .ref (o 0)), (1, .int (nI jx)), (2, .int b)]) hx hb dX3_set_78 rfl hl (Nat.le_of_ble_eq_true rfl) rfl (fun ls hl => ?_)
        refine lv_aload_n hx hb dX3_set_79 rfl (lv_at hl 1 rfl) ?_
        refine gf_X3_7_8 CX hM.o0 rfl dX3_set_80 ?_
        refine lv_bipush (v := nI 7) hx hb dX3_set_83 rfl ?_
        refine lv_iload_n hx hb dX3_set_85 rfl (lv_at hl 2 rfl) ?_
        refine b_iaddN CX dX3_set_86 ?_
        refine lv_iload_n hx hb dX3_set_87 rfl (lv_at hl 3 rfl) ?_
        refine b_ist CX hM.o1 hS (hM.B (by decide)) (vp_in_nI (by omega) (by omega)) dX3_set_88 (fun H3 locs hat hu hS => ?_)
        have hM : MW G B0 o H H3 (enc ((u3 S 0 0 (7 + jx) b))) sp (p_sv sv (enc S) n) (fun j => nI (t j)) (nI (p_sn n)) (nI tn) (nI 0) pl iw lt on ot nu di := hM.set1 (b_up_nI (by omega) (enc_u0 _ (by omega) _)) hat hu
        refine lv_iload_n hx hb dX3_set_89 rfl (lv_at hl 0 rfl) ?_
        have ho : o_set (S, n, L, tn, t) (nI jx) b = (nI 0, S 0 0 (7 + jx), ((u3 S 0 0 (7 + jx) b), p_sn n, (p_L L S n), tn, t)) := by
          unfold o_set
          simp only [ejx]
          repeat (first | rw [if_pos (by first | assumption | exact ⟨by assumption, by assumption⟩ | (constructor <;> omega) | omega | exact fun q => absurd q (by assumption) | exact fun q => absurd q.1 (by assumption) | exact fun q => absurd q.2 (by assumption) | exact Int32.not_lt.mpr (by assumption) | exact Int32.not_le.mp (by assumption) | exact fun q => q.2 (by assumption) | exact fun q => absurd q.1 (by omega))] | rw [if_neg (by first | assumption | exact ⟨by assumption, by assumption⟩ | (constructor <;> omega) | omega | exact fun q => absurd q (by assumption) | exact fun q => absurd q.1 (by assumption) | exact fun q => absurd q.2 (by assumption) | exact Int32.not_lt.mpr (by assumption) | exact Int32.not_le.mp (by assumption) | exact fun q => q.2 (by assumption) | exact fun q => absurd q.1 (by omega))])
          first | rfl | (unfold f_ok f_no z_save;  rfl)
        rw [← hQ]
        exact b_iret CX hr hlk hS (Nat.le_of_ble_eq_true rfl) (Nat.le_of_ble_eq_true rfl) dX3_set_90 ((by rw [ho]; exact ⟨rfl, _, _, _, _, _, _, _, _, _, hM, (hSv.save hn _)⟩))
      · refine lv_aload_n hx hb dX3_set_50 rfl (lv_at hl 0 rfl) ?_
        refine gf_X3_7_8 CX hM.o0 rfl dX3_set_51 ?_
        refine lv_iconst (v := nI 3) hx hb dX3_set_54 rfl ?_
        refine b_ild CX hM.o1 (x := S 0 0 3) (vp_in_nI (by omega) (by omega)) (b_at_nI (by omega) ((enc_0 _ (by decide)))) dX3_set_55 ?_
        refine lv_if_le (tgt := 65) hx hb dX3_set_56 (by decide) (fun c_56 => ?_) (fun c_56 => ?_)
        · refine lv_aload_n hx hb dX3_set_65 rfl (lv_at hl 0 rfl) ?_
          refine b_cv (cs_X3_53 (rest := []) CX hl.1 (m_X3_save l  hM hn) rfl rfl rfl hM.o0 hS rfl ⟨rfl, rfl, Nat.le_of_ble_eq_true rfl, Nat.le_of_ble_eq_true rfl⟩ (Nat.le_of_ble_eq_true rfl) dX3_set_66 ⟨Nat.le_of_ble_eq_true rfl, Nat.le_of_ble_eq_true rfl⟩) hS (fun H4 locs hp hS => ?_)
          have hM9 := hp
          have hM : MW G B0 o H H4 (enc S) sp (p_sv sv (enc S) n) (fun j => nI (t j)) (nI (p_sn n)) (nI tn) (nI 0) pl iw lt on ot nu di := hM.tr hM9
          refine lv_aload_n hx hb dX3_set_69 rfl (lv_at hl 0 rfl) ?_
          refine gf_X3_7_8 CX hM.o0 rfl dX3_set_70 ?_
          refine lv_bipush (v := nI 7) hx hb dX3_set_73 rfl ?_
          refine lv_iload_n hx hb dX3_set_75 rfl (lv_at hl 1 rfl) ?_
          refine b_iaddN CX dX3_set_76 ?_
          refine b_ild CX hM.o1 (x := S 0 0 (7 + jx)) (vp_in_nI (by omega) (by omega)) (b_at_nI (by omega) ((enc_0 _ (by omega)))) dX3_set_77 ?_
          refine lv_istore_n (lv' := [(3, .int (S 0 0 (7 + jx))), (0, .ref (o 0)), (1, .int (nI jx)), (2, .int b)]) hx hb dX3_set_78 rfl hl (Nat.le_of_ble_eq_true rfl) rfl (fun ls hl => ?_)
          refine lv_aload_n hx hb dX3_set_79 rfl (lv_at hl 1 rfl) ?_
          refine gf_X3_7_8 CX hM.o0 rfl dX3_set_80 ?_
          refine lv_bipush (v := nI 7) hx hb dX3_set_83 rfl ?_
          refine lv_iload_n hx hb dX3_set_85 rfl (lv_at hl 2 rfl) ?_
          refine b_iaddN CX dX3_set_86 ?_
          refine lv_iload_n hx hb dX3_set_87 rfl (lv_at hl 3 rfl) ?_
          refine b_ist CX hM.o1 hS (hM.B (by decide)) (vp_in_nI (by omega) (by omega)) dX3_set_88 (fun H5 locs hat hu hS => ?_)
          have hM : MW G B0 o H H5 (enc ((u3 S 0 0 (7 + jx) b))) sp (p_sv sv (enc S) n) (fun j => nI (t j)) (nI (p_sn n)) (nI tn) (nI 0) pl iw lt on ot nu di := hM.set1 (b_up_nI (by omega) (enc_u0 _ (by omega) _)) hat hu
          refine lv_iload_n hx hb dX3_set_89 rfl (lv_at hl 0 rfl) ?_
          have ho : o_set (S, n, L, tn, t) (nI jx) b = (nI 0, S 0 0 (7 + jx), ((u3 S 0 0 (7 + jx) b), p_sn n, (p_L L S n), tn, t)) := by
            unfold o_set
            simp only [ejx]
            repeat (first | rw [if_pos (by first | assumption | exact ⟨by assumption, by assumption⟩ | (constructor <;> omega) | omega | exact fun q => absurd q (by assumption) | exact fun q => absurd q.1 (by assumption) | exact fun q => absurd q.2 (by assumption) | exact Int32.not_lt.mpr (by assumption) | exact Int32.not_le.mp (by assumption) | exact fun q => q.2 (by assumption) | exact fun q => absurd q.1 (by omega))] | rw [if_neg (by first | assumption | exact ⟨by assumption, by assumption⟩ | (constructor <;> omega) | omega | exact fun q => absurd q (by assumption) | exact fun q => absurd q.1 (by assumption) | exact fun q => absurd q.2 (by assumption) | exact Int32.not_lt.mpr (by assumption) | exact Int32.not_le.mp (by assumption) | exact fun q => q.2 (by assumption) | exact fun q => absurd q.1 (by omega))])
            first | rfl | (unfold f_ok f_no z_save;  rfl)
          rw [← hQ]
          exact b_iret CX hr hlk hS (Nat.le_of_ble_eq_true rfl) (Nat.le_of_ble_eq_true rfl) dX3_set_90 ((by rw [ho]; exact ⟨rfl, _, _, _, _, _, _, _, _, _, hM, (hSv.save hn _)⟩))
        · refine lv_aload_n hx hb dX3_set_59 rfl (lv_at hl 0 rfl) ?_
          refine lv_iconst (v := nI 3) hx hb dX3_set_60 rfl ?_
          refine b_ci (cs_X3_49 (rest := []) CX hl.1 (m_X3_fails l (code := nI 3) hM ) rfl rfl rfl hM.o0 hS rfl ⟨rfl, rfl, Nat.le_of_ble_eq_true rfl, Nat.le_of_ble_eq_true rfl⟩ (Nat.le_of_ble_eq_true rfl) dX3_set_61 ⟨Nat.le_of_ble_eq_true rfl, Nat.le_of_ble_eq_true rfl⟩) hS (fun r H6 locs hp hS => ?_)
          obtain ⟨rfl, hM9⟩ := hp
          have hM : MW G B0 o H H6 (enc S) sp sv (fun j => nI (t j)) (nI n) (nI tn) (nI 3) pl iw lt on ot nu di := hM.tr hM9
          have ho : o_set (S, n, L, tn, t) (nI jx) b = (nI 3, nI 0, (S, n, L, tn, t)) := by
            unfold o_set
            simp only [ejx]
            repeat (first | rw [if_pos (by first | assumption | exact ⟨by assumption, by assumption⟩ | (constructor <;> omega) | omega | exact fun q => absurd q (by assumption) | exact fun q => absurd q.1 (by assumption) | exact fun q => absurd q.2 (by assumption) | exact Int32.not_lt.mpr (by assumption) | exact Int32.not_le.mp (by assumption) | exact fun q => q.2 (by assumption) | exact fun q => absurd q.1 (by omega))] | rw [if_neg (by first | assumption | exact ⟨by assumption, by assumption⟩ | (constructor <;> omega) | omega | exact fun q => absurd q (by assumption) | exact fun q => absurd q.1 (by assumption) | exact fun q => absurd q.2 (by assumption) | exact Int32.not_lt.mpr (by assumption) | exact Int32.not_le.mp (by assumption) | exact fun q => q.2 (by assumption) | exact fun q => absurd q.1 (by omega))])
            first | rfl | (unfold f_ok f_no z_save;  rfl)
          rw [← hQ]
          exact b_iret CX hr hlk hS (Nat.le_of_ble_eq_true rfl) (Nat.le_of_ble_eq_true rfl) dX3_set_64 ((by rw [ho]; exact ⟨rfl, _, _, _, _, _, _, _, _, _, hM, hSv⟩))
    · refine lv_aload_n hx hb dX3_set_39 rfl (lv_at hl 0 rfl) ?_
      refine lv_iconst (v := nI 2) hx hb dX3_set_40 rfl ?_
      refine b_ci (cs_X3_49 (rest := []) CX hl.1 (m_X3_fails l (code := nI 2) hM ) rfl rfl rfl hM.o0 hS rfl ⟨rfl, rfl, Nat.le_of_ble_eq_true rfl, Nat.le_of_ble_eq_true rfl⟩ (Nat.le_of_ble_eq_true rfl) dX3_set_41 ⟨Nat.le_of_ble_eq_true rfl, Nat.le_of_ble_eq_true rfl⟩) hS (fun r H7 locs hp hS => ?_)
      obtain ⟨rfl, hM9⟩ := hp
      have hM : MW G B0 o H H7 (enc S) sp sv (fun j => nI (t j)) (nI n) (nI tn) (nI 2) pl iw lt on ot nu di := hM.tr hM9
      have ho : o_set (S, n, L, tn, t) (nI jx) b = (nI 2, nI 0, (S, n, L, tn, t)) := by
        unfold o_set
        simp only [ejx]
        repeat (first | rw [if_pos (by first | assumption | exact ⟨by assumption, by assumption⟩ | (constructor <;> omega) | omega | exact fun q => absurd q (by assumption) | exact fun q => absurd q.1 (by assumption) | exact fun q => absurd q.2 (by assumption) | exact Int32.not_lt.mpr (by assumption) | exact Int32.not_le.mp (by assumption) | exact fun q => q.2 (by assumption) | exact fun q => absurd q.1 (by omega))] | rw [if_neg (by first | assumption | exact ⟨by assumption, by assumption⟩ | (constructor <;> omega) | omega | exact fun q => absurd q (by assumption) | exact fun q => absurd q.1 (by assumption) | exact fun q => absurd q.2 (by assumption) | exact Int32.not_lt.mpr (by assumption) | exact Int32.not_le.mp (by assumption) | exact fun q => q.2 (by assumption) | exact fun q => absurd q.1 (by omega))])
        first | rfl | (unfold f_ok f_no z_save;  rfl)
      rw [← hQ]
      exact b_iret CX hr hlk hS (Nat.le_of_ble_eq_true rfl) (Nat.le_of_ble_eq_true rfl) dX3_set_44 ((by rw [ho]; exact ⟨rfl, _, _, _, _, _, _, _, _, _, hM, hSv⟩))
  · refine lv_aload_n hx hb dX3_set_14 rfl (lv_at hl 0 rfl) ?_
    refine lv_iconst (v := nI 1) hx hb dX3_set_15 rfl ?_
    refine b_ci (cs_X3_49 (rest := []) CX hl.1 (m_X3_fails l (code := nI 1) hM ) rfl rfl rfl hM.o0 hS rfl ⟨rfl, rfl, Nat.le_of_ble_eq_true rfl, Nat.le_of_ble_eq_true rfl⟩ (Nat.le_of_ble_eq_true rfl) dX3_set_16 ⟨Nat.le_of_ble_eq_true rfl, Nat.le_of_ble_eq_true rfl⟩) hS (fun r H8 locs hp hS => ?_)
    obtain ⟨rfl, hM9⟩ := hp
    have hM : MW G B0 o H H8 (enc S) sp sv (fun j => nI (t j)) (nI n) (nI tn) (nI 1) pl iw lt on ot nu di := hM.tr hM9
    have ho : o_set (S, n, L, tn, t) x b = (nI 1, nI 0, (S, n, L, tn, t)) := by
      unfold o_set
      repeat (first | rw [if_pos (by first | assumption | exact ⟨by assumption, by assumption⟩ | (constructor <;> omega) | omega | exact fun q => absurd q (by assumption) | exact fun q => absurd q.1 (by assumption) | exact fun q => absurd q.2 (by assumption) | exact Int32.not_lt.mpr (by assumption) | exact Int32.not_le.mp (by assumption) | exact fun q => q.2 (by assumption) | exact fun q => absurd q.1 (by omega))] | rw [if_neg (by first | assumption | exact ⟨by assumption, by assumption⟩ | (constructor <;> omega) | omega | exact fun q => absurd q (by assumption) | exact fun q => absurd q.1 (by assumption) | exact fun q => absurd q.2 (by assumption) | exact Int32.not_lt.mpr (by assumption) | exact Int32.not_le.mp (by assumption) | exact fun q => q.2 (by assumption) | exact fun q => absurd q.1 (by omega))])
      first | rfl | (unfold f_ok f_no z_save;  rfl)
    rw [← hQ]
    exact b_iret CX hr hlk hS (Nat.le_of_ble_eq_true rfl) (Nat.le_of_ble_eq_true rfl) dX3_set_19 ((by rw [ho]; exact ⟨rfl, _, _, _, _, _, _, _, _, _, hM, hSv⟩))
theorem cs_X3_89 {p : Program} {l : Launch} {e : Env} {R : Room} {s : State} {m : MethodId} {args : Array Value} {below : List Frame} {meth : Method} {c : Code} {H : Heap} {locs : List Loc} {cells slots : Nat} {cc : ByteArray} {pc nL a : Nat} {ls : Array Slot} {rest : List Value} {G : b_G} {B0 : Nat} (CX : b_Cx p s m args c cc nL RX3 G B0) (hls : ls.size = nL) {rm : Room} {mc ms : Nat} {As st0 : List Value} {Qc : Array Value → State → Outcome → State → Prop} (hM : Met l yX3_fills (ws_ yX3_fills cX3_fills 4 (Option.some Jvm.ClassFile.FieldType.int)) rm (b_Pc G B0 H (.ref a :: As)) Qc mc ms (b_A B0)) (hn : As.length = 2) {fs : List Value} {ci : Nat} {qc : vw_C} (hc : b_cl[ci]? = some qc) (hq : qc.1 = RX3) (hP : b_at G a (.inr (ci, fs)) H) (hS : va_S (b_A B0) s.heap H locs) (hst : st0 = As.reverse ++ .ref a :: rest) (hr : rm.cells = mc ∧ rm.slots = ms ∧ rm.frames + 1 ≤ R.frames ∧ 8 + (4 + 11) + rm.locals ≤ R.locals) (hw : (rest.map fun v => v.category).sum ≤ 8) (hdg : decode cc pc = .ok (.invokevirtual 89, 3)) (hf : cells + mc ≤ R.cells ∧ slots + ms ≤ R.slots) : va_Run p l e R s m args below meth c H locs cells slots mc ms (F0 m pc ls st0) rest (Qc (Value.ref a :: As).toArray) (b_A B0) := va_runV CX.fix hM (cwV 2 CX.ts (lw_V q1953 q1955 qs43 q88 q1956) rfl hr.1 hr.2.1 (by decide +kernel) ⟨hr.2.2.1, hr.2.2.2⟩) ⟨b_blind G B0 H _, by have h9 := b_recv CX.K hc hP; rw [hq] at h9; exact h9, b_pre _ CX.K hS⟩ rfl hn hls hst (lv_room hw) hdg hf
set_option maxHeartbeats 2000000 in
set_option maxRecDepth 100000 in
theorem m_X3_fill (l : Launch) {G : b_G} {B0 : Nat} {o : Nat → Nat} {Hr H : Heap} {S : b_St} {sp sv : Nat → Int32} {L : Nat → b_St} {t : Nat → Nat} {n tn : Nat} {th pl iw lt on ot nu di : Int32} {x : Int32} {b : Int32} (hM : MW G B0 o Hr H (enc S) sp sv (fun j => nI (t j)) (nI n) (nI tn) th pl iw lt on ot nu di) (hW : b_WF S) (hn : n ≤ 6) (ht : ∀ j, t j < 128) (htn : tn ≤ 60) (hSv : b_Sv sv n L) : Met l yX3_fill (ws_ yX3_fill cX3_fill 3 (Option.some Jvm.ClassFile.FieldType.int)) ({ frames := 4, cells := 0, slots := 0, locals := 89 } : Room) (b_Pc G B0 H [.ref (o 0), .int x, .int b]) (b_Qi B0 (fun r H1 => r = (o_fill (S, n, L, tn, t) x b).2.1 ∧ MZ G B0 o H H1 (o_fill (S, n, L, tn, t) x b).1 (o_fill (S, n, L, tn, t) x b).2.2)) 0 0 (b_A B0) := by
  refine b_of (by decide) (Nat.le_of_ble_eq_true rfl) ?_
  intro p e s m below meth c CX hr hlk hnm hS ls hl
  have CX : b_Cx p s m _ c cX3_fill 3 RX3 G B0 := CX
  have hx := CX.hx
  have hb := CX.hb
  have hl : lv_has ls 3 [(0, .ref (o 0)), (1, .int x), (2, .int b)] := hl
  generalize hQ : MQ below (b_Qi B0 (fun r H1 => r = (o_fill (S, n, L, tn, t) x b).2.1 ∧ MZ G B0 o H H1 (o_fill (S, n, L, tn, t) x b).1 (o_fill (S, n, L, tn, t) x b).2.2)) ([.ref (o 0), .int x, .int b] : List Value).toArray s 0 0 (b_A B0) = Q
  have hM := hM.re
  have hn8 := hW.nb8
  have hn6 := hW.ns6
  refine lv_aload_n hx hb dX3_fill_0 rfl (lv_at hl 0 rfl) ?_
  refine lv_iconst (v := nI 0) hx hb dX3_fill_1 rfl ?_
  refine pf_X3_28_8 CX hM.o0 hS (hM.B (by decide)) rfl rfl (Nat.le_of_ble_eq_true rfl) dX3_fill_2 (fun H1 locs hat hu hS => ?_)
  have hM : MW G B0 o H H1 (enc S) sp sv (fun j => nI (t j)) (nI n) (nI tn) (nI 0) pl iw lt on ot nu di := hM.set0 hat hu
  refine lv_aload_n hx hb dX3_fill_5 rfl (lv_at hl 0 rfl) ?_
  refine lv_iload_n hx hb dX3_fill_6 rfl (lv_at hl 1 rfl) ?_
  refine b_ci0 (cs_X3_85 (rest := []) CX hl.1 (m_X3_isBrand l (x := x) hM hW) rfl rfl rfl hM.o0 hS rfl ⟨rfl, rfl, Nat.le_of_ble_eq_true rfl, Nat.le_of_ble_eq_true rfl⟩ (Nat.le_of_ble_eq_true rfl) dX3_fill_7 ⟨Nat.le_of_ble_eq_true rfl, Nat.le_of_ble_eq_true rfl⟩) hS (fun locs hS => ?_)
  refine b_ifne (tgt := 19) CX dX3_fill_10 (by decide) (fun c_10 => ?_) (fun c_10 => ?_)
  · obtain ⟨jx, hjx, rfl⟩ := isB_lt hW c_10
    have ejx : ix (nI jx) = jx := ix_n (by omega)
    refine lv_iload_n hx hb dX3_fill_19 rfl (lv_at hl 2 rfl) ?_
    refine lv_iconst (v := nI 1) hx hb dX3_fill_20 rfl ?_
    refine lv_sipush (v := nI 5000) hx hb dX3_fill_21 rfl ?_
    refine b_ci0 (cs_X3_35 (rest := []) CX hl.1 (m_X3_in l (x := b) (lo := nI 1) (hi := nI 5000)  ) rfl hS rfl ⟨rfl, rfl, Nat.le_of_ble_eq_true rfl, Nat.le_of_ble_eq_true rfl⟩ (Nat.le_of_ble_eq_true rfl) dX3_fill_24 ⟨Nat.le_of_ble_eq_true rfl, Nat.le_of_ble_eq_true rfl⟩) hS (fun locs hS => ?_)
    refine b_ifne (tgt := 36) CX dX3_fill_27 (by decide) (fun c_27 => ?_) (fun c_27 => ?_)
    · refine lv_aload_n hx hb dX3_fill_36 rfl (lv_at hl 0 rfl) ?_
      refine lv_iload_n hx hb dX3_fill_37 rfl (lv_at hl 1 rfl) ?_
      refine lv_iconst (v := nI 1) hx hb dX3_fill_38 rfl ?_
      refine b_ci0 (cs_X3_46 (rest := []) CX hl.1 (m_X3_of l (b := jx) (w := 1) hM (by omega) (by omega)) rfl rfl rfl hM.o0 hS rfl ⟨rfl, rfl, Nat.le_of_ble_eq_true rfl, Nat.le_of_ble_eq_true rfl⟩ (Nat.le_of_ble_eq_true rfl) dX3_fill_39 ⟨Nat.le_of_ble_eq_true rfl, Nat.le_of_ble_eq_true rfl⟩) hS (fun locs hS => ?_)
      refine lv_iload_n hx hb dX3_fill_42 rfl (lv_at hl 2 rfl) ?_
      refine lv_icmp_ge (tgt := 52) hx hb dX3_fill_43 (by decide) (fun c_43 => ?_) (fun c_43 => ?_)
      · refine lv_aload_n hx hb dX3_fill_52 rfl (lv_at hl 0 rfl) ?_
        refine b_cv (cs_X3_53 (rest := []) CX hl.1 (m_X3_save l  hM hn) rfl rfl rfl hM.o0 hS rfl ⟨rfl, rfl, Nat.le_of_ble_eq_true rfl, Nat.le_of_ble_eq_true rfl⟩ (Nat.le_of_ble_eq_true rfl) dX3_fill_53 ⟨Nat.le_of_ble_eq_true rfl, Nat.le_of_ble_eq_true rfl⟩) hS (fun H2 locs hp hS => ?_)
        have hM9 := hp
        have hM : MW G B0 o H H2 (enc S) sp (p_sv sv (enc S) n) (fun j => nI (t j)) (nI (p_sn n)) (nI tn) (nI 0) pl iw lt on ot nu di := hM.tr hM9
        refine lv_aload_n hx hb dX3_fill_56 rfl (lv_at hl 0 rfl) ?_
        refine lv_iload_n hx hb dX3_fill_57 rfl (lv_at hl 1 rfl) ?_
        refine lv_iload_n hx hb dX3_fill_58 rfl (lv_at hl 2 rfl) ?_
        refine b_ci (cs_X3_89 (rest := []) CX hl.1 (m_X3_fills l (b := jx) (n_ := b) hM hW (by omega)) rfl rfl rfl hM.o0 hS rfl ⟨rfl, rfl, Nat.le_of_ble_eq_true rfl, Nat.le_of_ble_eq_true rfl⟩ (Nat.le_of_ble_eq_true rfl) dX3_fill_59 ⟨Nat.le_of_ble_eq_true rfl, Nat.le_of_ble_eq_true rfl⟩) hS (fun r H3 locs hp hS => ?_)
        obtain ⟨rfl, hM9⟩ := hp
        have hM : MW G B0 o H H3 (enc ((s_fill S jx b))) sp (p_sv sv (enc S) n) (fun j => nI (t j)) (nI (p_sn n)) (nI tn) (nI 0) pl iw lt on ot nu di := hM.tr hM9
        have ho : o_fill (S, n, L, tn, t) (nI jx) b = (nI 0, p_full S jx b, ((s_fill S jx b), p_sn n, (p_L L S n), tn, t)) := by
          unfold o_fill
          simp only [ejx]
          repeat (first | rw [if_pos (by first | assumption | exact ⟨by assumption, by assumption⟩ | (constructor <;> omega) | omega | exact fun q => absurd q (by assumption) | exact fun q => absurd q.1 (by assumption) | exact fun q => absurd q.2 (by assumption) | exact Int32.not_lt.mpr (by assumption) | exact Int32.not_le.mp (by assumption) | exact fun q => q.2 (by assumption) | exact fun q => absurd q.1 (by omega))] | rw [if_neg (by first | assumption | exact ⟨by assumption, by assumption⟩ | (constructor <;> omega) | omega | exact fun q => absurd q (by assumption) | exact fun q => absurd q.1 (by assumption) | exact fun q => absurd q.2 (by assumption) | exact Int32.not_lt.mpr (by assumption) | exact Int32.not_le.mp (by assumption) | exact fun q => q.2 (by assumption) | exact fun q => absurd q.1 (by omega))])
          first | rfl | (unfold f_ok f_no z_save;  rfl)
        rw [← hQ]
        exact b_iret CX hr hlk hS (Nat.le_of_ble_eq_true rfl) (Nat.le_of_ble_eq_true rfl) dX3_fill_62 ((by rw [ho]; exact ⟨rfl, _, _, _, _, _, _, _, _, _, hM, (hSv.save hn _)⟩))
      · refine lv_aload_n hx hb dX3_fill_46 rfl (lv_at hl 0 rfl) ?_
        refine lv_iconst (v := nI 3) hx hb dX3_fill_47 rfl ?_
        refine b_ci (cs_X3_49 (rest := []) CX hl.1 (m_X3_fails l (code := nI 3) hM ) rfl rfl rfl hM.o0 hS rfl ⟨rfl, rfl, Nat.le_of_ble_eq_true rfl, Nat.le_of_ble_eq_true rfl⟩ (Nat.le_of_ble_eq_true rfl) dX3_fill_48 ⟨Nat.le_of_ble_eq_true rfl, Nat.le_of_ble_eq_true rfl⟩) hS (fun r H4 locs hp hS => ?_)
        obtain ⟨rfl, hM9⟩ := hp
        have hM : MW G B0 o H H4 (enc S) sp sv (fun j => nI (t j)) (nI n) (nI tn) (nI 3) pl iw lt on ot nu di := hM.tr hM9
        have ho : o_fill (S, n, L, tn, t) (nI jx) b = (nI 3, nI 0, (S, n, L, tn, t)) := by
          unfold o_fill
          simp only [ejx]
          repeat (first | rw [if_pos (by first | assumption | exact ⟨by assumption, by assumption⟩ | (constructor <;> omega) | omega | exact fun q => absurd q (by assumption) | exact fun q => absurd q.1 (by assumption) | exact fun q => absurd q.2 (by assumption) | exact Int32.not_lt.mpr (by assumption) | exact Int32.not_le.mp (by assumption) | exact fun q => q.2 (by assumption) | exact fun q => absurd q.1 (by omega))] | rw [if_neg (by first | assumption | exact ⟨by assumption, by assumption⟩ | (constructor <;> omega) | omega | exact fun q => absurd q (by assumption) | exact fun q => absurd q.1 (by assumption) | exact fun q => absurd q.2 (by assumption) | exact Int32.not_lt.mpr (by assumption) | exact Int32.not_le.mp (by assumption) | exact fun q => q.2 (by assumption) | exact fun q => absurd q.1 (by omega))])
          first | rfl | (unfold f_ok f_no z_save;  rfl)
        rw [← hQ]
        exact b_iret CX hr hlk hS (Nat.le_of_ble_eq_true rfl) (Nat.le_of_ble_eq_true rfl) dX3_fill_51 ((by rw [ho]; exact ⟨rfl, _, _, _, _, _, _, _, _, _, hM, hSv⟩))
    · refine lv_aload_n hx hb dX3_fill_30 rfl (lv_at hl 0 rfl) ?_
      refine lv_iconst (v := nI 2) hx hb dX3_fill_31 rfl ?_
      refine b_ci (cs_X3_49 (rest := []) CX hl.1 (m_X3_fails l (code := nI 2) hM ) rfl rfl rfl hM.o0 hS rfl ⟨rfl, rfl, Nat.le_of_ble_eq_true rfl, Nat.le_of_ble_eq_true rfl⟩ (Nat.le_of_ble_eq_true rfl) dX3_fill_32 ⟨Nat.le_of_ble_eq_true rfl, Nat.le_of_ble_eq_true rfl⟩) hS (fun r H5 locs hp hS => ?_)
      obtain ⟨rfl, hM9⟩ := hp
      have hM : MW G B0 o H H5 (enc S) sp sv (fun j => nI (t j)) (nI n) (nI tn) (nI 2) pl iw lt on ot nu di := hM.tr hM9
      have ho : o_fill (S, n, L, tn, t) (nI jx) b = (nI 2, nI 0, (S, n, L, tn, t)) := by
        unfold o_fill
        simp only [ejx]
        repeat (first | rw [if_pos (by first | assumption | exact ⟨by assumption, by assumption⟩ | (constructor <;> omega) | omega | exact fun q => absurd q (by assumption) | exact fun q => absurd q.1 (by assumption) | exact fun q => absurd q.2 (by assumption) | exact Int32.not_lt.mpr (by assumption) | exact Int32.not_le.mp (by assumption) | exact fun q => q.2 (by assumption) | exact fun q => absurd q.1 (by omega))] | rw [if_neg (by first | assumption | exact ⟨by assumption, by assumption⟩ | (constructor <;> omega) | omega | exact fun q => absurd q (by assumption) | exact fun q => absurd q.1 (by assumption) | exact fun q => absurd q.2 (by assumption) | exact Int32.not_lt.mpr (by assumption) | exact Int32.not_le.mp (by assumption) | exact fun q => q.2 (by assumption) | exact fun q => absurd q.1 (by omega))])
        first | rfl | (unfold f_ok f_no z_save;  rfl)
      rw [← hQ]
      exact b_iret CX hr hlk hS (Nat.le_of_ble_eq_true rfl) (Nat.le_of_ble_eq_true rfl) dX3_fill_35 ((by rw [ho]; exact ⟨rfl, _, _, _, _, _, _, _, _, _, hM, hSv⟩))
  · refine lv_aload_n hx hb dX3_fill_13 rfl (lv_at hl 0 rfl) ?_
    refine lv_iconst (v := nI 1) hx hb dX3_fill_14 rfl ?_
    refine b_ci (cs_X3_49 (rest := []) CX hl.1 (m_X3_fails l (code := nI 1) hM ) rfl rfl rfl hM.o0 hS rfl ⟨rfl, rfl, Nat.le_of_ble_eq_true rfl, Nat.le_of_ble_eq_true rfl⟩ (Nat.le_of_ble_eq_true rfl) dX3_fill_15 ⟨Nat.le_of_ble_eq_true rfl, Nat.le_of_ble_eq_true rfl⟩) hS (fun r H6 locs hp hS => ?_)
    obtain ⟨rfl, hM9⟩ := hp
    have hM : MW G B0 o H H6 (enc S) sp sv (fun j => nI (t j)) (nI n) (nI tn) (nI 1) pl iw lt on ot nu di := hM.tr hM9
    have ho : o_fill (S, n, L, tn, t) x b = (nI 1, nI 0, (S, n, L, tn, t)) := by
      unfold o_fill
      repeat (first | rw [if_pos (by first | assumption | exact ⟨by assumption, by assumption⟩ | (constructor <;> omega) | omega | exact fun q => absurd q (by assumption) | exact fun q => absurd q.1 (by assumption) | exact fun q => absurd q.2 (by assumption) | exact Int32.not_lt.mpr (by assumption) | exact Int32.not_le.mp (by assumption) | exact fun q => q.2 (by assumption) | exact fun q => absurd q.1 (by omega))] | rw [if_neg (by first | assumption | exact ⟨by assumption, by assumption⟩ | (constructor <;> omega) | omega | exact fun q => absurd q (by assumption) | exact fun q => absurd q.1 (by assumption) | exact fun q => absurd q.2 (by assumption) | exact Int32.not_lt.mpr (by assumption) | exact Int32.not_le.mp (by assumption) | exact fun q => q.2 (by assumption) | exact fun q => absurd q.1 (by omega))])
      first | rfl | (unfold f_ok f_no z_save;  rfl)
    rw [← hQ]
    exact b_iret CX hr hlk hS (Nat.le_of_ble_eq_true rfl) (Nat.le_of_ble_eq_true rfl) dX3_fill_18 ((by rw [ho]; exact ⟨rfl, _, _, _, _, _, _, _, _, _, hM, hSv⟩))
set_option maxHeartbeats 2000000 in
set_option maxRecDepth 100000 in
theorem m_X3_deliver (l : Launch) {G : b_G} {B0 : Nat} {o : Nat → Nat} {Hr H : Heap} {S : b_St} {sp sv : Nat → Int32} {L : Nat → b_St} {t : Nat → Nat} {n tn : Nat} {th pl iw lt on ot nu di : Int32} {x : Int32} {y : Int32} {c_ : Int32} (hM : MW G B0 o Hr H (enc S) sp sv (fun j => nI (t j)) (nI n) (nI tn) th pl iw lt on ot nu di) (hW : b_WF S) (hn : n ≤ 6) (ht : ∀ j, t j < 128) (htn : tn ≤ 60) (hSv : b_Sv sv n L) : Met l yX3_deliver (ws_ yX3_deliver cX3_deliver 4 (Option.some Jvm.ClassFile.FieldType.int)) ({ frames := 4, cells := 0, slots := 0, locals := 88 } : Room) (b_Pc G B0 H [.ref (o 0), .int x, .int y, .int c_]) (b_Qi B0 (fun r H1 => r = (o_deliver (S, n, L, tn, t) x y c_).2.1 ∧ MZ G B0 o H H1 (o_deliver (S, n, L, tn, t) x y c_).1 (o_deliver (S, n, L, tn, t) x y c_).2.2)) 0 0 (b_A B0) := by
  refine b_of (by decide) (Nat.le_of_ble_eq_true rfl) ?_
  intro p e s m below meth c CX hr hlk hnm hS ls hl
  have CX : b_Cx p s m _ c cX3_deliver 4 RX3 G B0 := CX
  have hx := CX.hx
  have hb := CX.hb
  have hl : lv_has ls 4 [(0, .ref (o 0)), (1, .int x), (2, .int y), (3, .int c_)] := hl
  generalize hQ : MQ below (b_Qi B0 (fun r H1 => r = (o_deliver (S, n, L, tn, t) x y c_).2.1 ∧ MZ G B0 o H H1 (o_deliver (S, n, L, tn, t) x y c_).1 (o_deliver (S, n, L, tn, t) x y c_).2.2)) ([.ref (o 0), .int x, .int y, .int c_] : List Value).toArray s 0 0 (b_A B0) = Q
  have hM := hM.re
  have hn8 := hW.nb8
  have hn6 := hW.ns6
  refine lv_aload_n hx hb dX3_deliver_0 rfl (lv_at hl 0 rfl) ?_
  refine lv_iconst (v := nI 0) hx hb dX3_deliver_1 rfl ?_
  refine pf_X3_28_8 CX hM.o0 hS (hM.B (by decide)) rfl rfl (Nat.le_of_ble_eq_true rfl) dX3_deliver_2 (fun H1 locs hat hu hS => ?_)
  have hM : MW G B0 o H H1 (enc S) sp sv (fun j => nI (t j)) (nI n) (nI tn) (nI 0) pl iw lt on ot nu di := hM.set0 hat hu
  refine lv_aload_n hx hb dX3_deliver_5 rfl (lv_at hl 0 rfl) ?_
  refine lv_iload_n hx hb dX3_deliver_6 rfl (lv_at hl 1 rfl) ?_
  refine b_ci0 (cs_X3_85 (rest := []) CX hl.1 (m_X3_isBrand l (x := x) hM hW) rfl rfl rfl hM.o0 hS rfl ⟨rfl, rfl, Nat.le_of_ble_eq_true rfl, Nat.le_of_ble_eq_true rfl⟩ (Nat.le_of_ble_eq_true rfl) dX3_deliver_7 ⟨Nat.le_of_ble_eq_true rfl, Nat.le_of_ble_eq_true rfl⟩) hS (fun locs hS => ?_)
  refine b_ifeq (tgt := 21) CX dX3_deliver_10 (by decide) (fun c_10 => ?_) (fun c_10 => ?_)
  · refine lv_aload_n hx hb dX3_deliver_21 rfl (lv_at hl 0 rfl) ?_
    refine lv_iconst (v := nI 1) hx hb dX3_deliver_22 rfl ?_
    refine b_ci (cs_X3_49 (rest := []) CX hl.1 (m_X3_fails l (code := nI 1) hM ) rfl rfl rfl hM.o0 hS rfl ⟨rfl, rfl, Nat.le_of_ble_eq_true rfl, Nat.le_of_ble_eq_true rfl⟩ (Nat.le_of_ble_eq_true rfl) dX3_deliver_23 ⟨Nat.le_of_ble_eq_true rfl, Nat.le_of_ble_eq_true rfl⟩) hS (fun r H2 locs hp hS => ?_)
    obtain ⟨rfl, hM9⟩ := hp
    have hM : MW G B0 o H H2 (enc S) sp sv (fun j => nI (t j)) (nI n) (nI tn) (nI 1) pl iw lt on ot nu di := hM.tr hM9
    have ho : o_deliver (S, n, L, tn, t) x y c_ = (nI 1, nI 0, (S, n, L, tn, t)) := by
      unfold o_deliver
      repeat (first | rw [if_pos (by first | assumption | exact ⟨by assumption, by assumption⟩ | (constructor <;> omega) | omega | exact fun q => absurd q (by assumption) | exact fun q => absurd q.1 (by assumption) | exact fun q => absurd q.2 (by assumption) | exact Int32.not_lt.mpr (by assumption) | exact Int32.not_le.mp (by assumption) | exact fun q => q.2 (by assumption) | exact fun q => absurd q.1 (by omega))] | rw [if_neg (by first | assumption | exact ⟨by assumption, by assumption⟩ | (constructor <;> omega) | omega | exact fun q => absurd q (by assumption) | exact fun q => absurd q.1 (by assumption) | exact fun q => absurd q.2 (by assumption) | exact Int32.not_lt.mpr (by assumption) | exact Int32.not_le.mp (by assumption) | exact fun q => q.2 (by assumption) | exact fun q => absurd q.1 (by omega))])
      first | rfl | (unfold f_ok f_no z_save;  rfl)
    rw [← hQ]
    exact b_iret CX hr hlk hS (Nat.le_of_ble_eq_true rfl) (Nat.le_of_ble_eq_true rfl) dX3_deliver_26 ((by rw [ho]; exact ⟨rfl, _, _, _, _, _, _, _, _, _, hM, hSv⟩))
  · obtain ⟨jx, hjx, rfl⟩ := isB_lt hW c_10
    have ejx : ix (nI jx) = jx := ix_n (by omega)
    refine lv_aload_n hx hb dX3_deliver_13 rfl (lv_at hl 0 rfl) ?_
    refine lv_iload_n hx hb dX3_deliver_14 rfl (lv_at hl 2 rfl) ?_
    refine b_ci0 (cs_X3_92 (rest := []) CX hl.1 (m_X3_isShop l (x := y) hM hW) rfl rfl rfl hM.o0 hS rfl ⟨rfl, rfl, Nat.le_of_ble_eq_true rfl, Nat.le_of_ble_eq_true rfl⟩ (Nat.le_of_ble_eq_true rfl) dX3_deliver_15 ⟨Nat.le_of_ble_eq_true rfl, Nat.le_of_ble_eq_true rfl⟩) hS (fun locs hS => ?_)
    refine b_ifne (tgt := 27) CX dX3_deliver_18 (by decide) (fun c_18 => ?_) (fun c_18 => ?_)
    · obtain ⟨jy, hjy, rfl⟩ := isS_lt hW c_18
      have ejy : ix (nI jy) = jy := ix_n (by omega)
      refine lv_iload_n hx hb dX3_deliver_27 rfl (lv_at hl 3 rfl) ?_
      refine lv_iconst (v := nI 1) hx hb dX3_deliver_28 rfl ?_
      refine lv_bipush (v := nI 50) hx hb dX3_deliver_29 rfl ?_
      refine b_ci0 (cs_X3_35 (rest := []) CX hl.1 (m_X3_in l (x := c_) (lo := nI 1) (hi := nI 50)  ) rfl hS rfl ⟨rfl, rfl, Nat.le_of_ble_eq_true rfl, Nat.le_of_ble_eq_true rfl⟩ (Nat.le_of_ble_eq_true rfl) dX3_deliver_31 ⟨Nat.le_of_ble_eq_true rfl, Nat.le_of_ble_eq_true rfl⟩) hS (fun locs hS => ?_)
      refine b_ifne (tgt := 43) CX dX3_deliver_34 (by decide) (fun c_34 => ?_) (fun c_34 => ?_)
      · refine lv_aload_n hx hb dX3_deliver_43 rfl (lv_at hl 0 rfl) ?_
        refine lv_iload_n hx hb dX3_deliver_44 rfl (lv_at hl 1 rfl) ?_
        refine lv_iload_n hx hb dX3_deliver_45 rfl (lv_at hl 2 rfl) ?_
        refine lv_iload_n hx hb dX3_deliver_46 rfl (lv_at hl 3 rfl) ?_
        refine b_ci0 (cs_X3_95 (rest := []) CX hl.1 (m_X3_againstDeliver l (b := jx) (s_ := jy) (c_ := c_) hM hW (by omega) (by omega)) rfl rfl rfl hM.o0 hS rfl ⟨rfl, rfl, Nat.le_of_ble_eq_true rfl, Nat.le_of_ble_eq_true rfl⟩ (Nat.le_of_ble_eq_true rfl) dX3_deliver_47 ⟨Nat.le_of_ble_eq_true rfl, Nat.le_of_ble_eq_true rfl⟩) hS (fun locs hS => ?_)
        refine lv_if_le (tgt := 59) hx hb dX3_deliver_50 (by decide) (fun c_50 => ?_) (fun c_50 => ?_)
        · refine lv_aload_n hx hb dX3_deliver_59 rfl (lv_at hl 0 rfl) ?_
          refine b_cv (cs_X3_53 (rest := []) CX hl.1 (m_X3_save l  hM hn) rfl rfl rfl hM.o0 hS rfl ⟨rfl, rfl, Nat.le_of_ble_eq_true rfl, Nat.le_of_ble_eq_true rfl⟩ (Nat.le_of_ble_eq_true rfl) dX3_deliver_60 ⟨Nat.le_of_ble_eq_true rfl, Nat.le_of_ble_eq_true rfl⟩) hS (fun H3 locs hp hS => ?_)
          have hM9 := hp
          have hM : MW G B0 o H H3 (enc S) sp (p_sv sv (enc S) n) (fun j => nI (t j)) (nI (p_sn n)) (nI tn) (nI 0) pl iw lt on ot nu di := hM.tr hM9
          refine lv_aload_n hx hb dX3_deliver_63 rfl (lv_at hl 0 rfl) ?_
          refine lv_iload_n hx hb dX3_deliver_64 rfl (lv_at hl 1 rfl) ?_
          refine lv_iload_n hx hb dX3_deliver_65 rfl (lv_at hl 2 rfl) ?_
          refine lv_iload_n hx hb dX3_deliver_66 rfl (lv_at hl 3 rfl) ?_
          refine b_ci (cs_X3_99 (rest := []) CX hl.1 (m_X3_delivers l (b := jx) (s_ := jy) (c_ := c_) hM hW (by omega) (by omega)) rfl rfl rfl hM.o0 hS rfl ⟨rfl, rfl, Nat.le_of_ble_eq_true rfl, Nat.le_of_ble_eq_true rfl⟩ (Nat.le_of_ble_eq_true rfl) dX3_deliver_67 ⟨Nat.le_of_ble_eq_true rfl, Nat.le_of_ble_eq_true rfl⟩) hS (fun r H4 locs hp hS => ?_)
          obtain ⟨rfl, hM9⟩ := hp
          have hM : MW G B0 o H H4 (enc ((s_deliver S jx jy c_))) sp (p_sv sv (enc S) n) (fun j => nI (t j)) (nI (p_sn n)) (nI tn) (nI 0) pl iw lt on ot nu di := hM.tr hM9
          have ho : o_deliver (S, n, L, tn, t) (nI jx) (nI jy) c_ = (nI 0, p_price S jx c_, ((s_deliver S jx jy c_), p_sn n, (p_L L S n), tn, t)) := by
            unfold o_deliver
            simp only [ejx, ejy]
            repeat (first | rw [if_pos (by first | assumption | exact ⟨by assumption, by assumption⟩ | (constructor <;> omega) | omega | exact fun q => absurd q (by assumption) | exact fun q => absurd q.1 (by assumption) | exact fun q => absurd q.2 (by assumption) | exact Int32.not_lt.mpr (by assumption) | exact Int32.not_le.mp (by assumption) | exact fun q => q.2 (by assumption) | exact fun q => absurd q.1 (by omega))] | rw [if_neg (by first | assumption | exact ⟨by assumption, by assumption⟩ | (constructor <;> omega) | omega | exact fun q => absurd q (by assumption) | exact fun q => absurd q.1 (by assumption) | exact fun q => absurd q.2 (by assumption) | exact Int32.not_lt.mpr (by assumption) | exact Int32.not_le.mp (by assumption) | exact fun q => q.2 (by assumption) | exact fun q => absurd q.1 (by omega))])
            first | rfl | (unfold f_ok f_no z_save;  rfl)
          rw [← hQ]
          exact b_iret CX hr hlk hS (Nat.le_of_ble_eq_true rfl) (Nat.le_of_ble_eq_true rfl) dX3_deliver_70 ((by rw [ho]; exact ⟨rfl, _, _, _, _, _, _, _, _, _, hM, (hSv.save hn _)⟩))
        · refine lv_aload_n hx hb dX3_deliver_53 rfl (lv_at hl 0 rfl) ?_
          refine lv_iconst (v := nI 3) hx hb dX3_deliver_54 rfl ?_
          refine b_ci (cs_X3_49 (rest := []) CX hl.1 (m_X3_fails l (code := nI 3) hM ) rfl rfl rfl hM.o0 hS rfl ⟨rfl, rfl, Nat.le_of_ble_eq_true rfl, Nat.le_of_ble_eq_true rfl⟩ (Nat.le_of_ble_eq_true rfl) dX3_deliver_55 ⟨Nat.le_of_ble_eq_true rfl, Nat.le_of_ble_eq_true rfl⟩) hS (fun r H5 locs hp hS => ?_)
          obtain ⟨rfl, hM9⟩ := hp
          have hM : MW G B0 o H H5 (enc S) sp sv (fun j => nI (t j)) (nI n) (nI tn) (nI 3) pl iw lt on ot nu di := hM.tr hM9
          have ho : o_deliver (S, n, L, tn, t) (nI jx) (nI jy) c_ = (nI 3, nI 0, (S, n, L, tn, t)) := by
            unfold o_deliver
            simp only [ejx, ejy]
            repeat (first | rw [if_pos (by first | assumption | exact ⟨by assumption, by assumption⟩ | (constructor <;> omega) | omega | exact fun q => absurd q (by assumption) | exact fun q => absurd q.1 (by assumption) | exact fun q => absurd q.2 (by assumption) | exact Int32.not_lt.mpr (by assumption) | exact Int32.not_le.mp (by assumption) | exact fun q => q.2 (by assumption) | exact fun q => absurd q.1 (by omega))] | rw [if_neg (by first | assumption | exact ⟨by assumption, by assumption⟩ | (constructor <;> omega) | omega | exact fun q => absurd q (by assumption) | exact fun q => absurd q.1 (by assumption) | exact fun q => absurd q.2 (by assumption) | exact Int32.not_lt.mpr (by assumption) | exact Int32.not_le.mp (by assumption) | exact fun q => q.2 (by assumption) | exact fun q => absurd q.1 (by omega))])
            first | rfl | (unfold f_ok f_no z_save;  rfl)
          rw [← hQ]
          exact b_iret CX hr hlk hS (Nat.le_of_ble_eq_true rfl) (Nat.le_of_ble_eq_true rfl) dX3_deliver_58 ((by rw [ho]; exact ⟨rfl, _, _, _, _, _, _, _, _, _, hM, hSv⟩))
      · refine lv_aload_n hx hb dX3_deliver_37 rfl (lv_at hl 0 rfl) ?_
        refine lv_iconst (v := nI 2) hx hb dX3_deliver_38 rfl ?_
        refine b_ci (cs_X3_49 (rest := []) CX hl.1 (m_X3_fails l (code := nI 2) hM ) rfl rfl rfl hM.o0 hS rfl ⟨rfl, rfl, Nat.le_of_ble_eq_true rfl, Nat.le_of_ble_eq_true rfl⟩ (Nat.le_of_ble_eq_true rfl) dX3_deliver_39 ⟨Nat.le_of_ble_eq_true rfl, Nat.le_of_ble_eq_true rfl⟩) hS (fun r H6 locs hp hS => ?_)
        obtain ⟨rfl, hM9⟩ := hp
        have hM : MW G B0 o H H6 (enc S) sp sv (fun j => nI (t j)) (nI n) (nI tn) (nI 2) pl iw lt on ot nu di := hM.tr hM9
        have ho : o_deliver (S, n, L, tn, t) (nI jx) (nI jy) c_ = (nI 2, nI 0, (S, n, L, tn, t)) := by
          unfold o_deliver
          simp only [ejx, ejy]
          repeat (first | rw [if_pos (by first | assumption | exact ⟨by assumption, by assumption⟩ | (constructor <;> omega) | omega | exact fun q => absurd q (by assumption) | exact fun q => absurd q.1 (by assumption) | exact fun q => absurd q.2 (by assumption) | exact Int32.not_lt.mpr (by assumption) | exact Int32.not_le.mp (by assumption) | exact fun q => q.2 (by assumption) | exact fun q => absurd q.1 (by omega))] | rw [if_neg (by first | assumption | exact ⟨by assumption, by assumption⟩ | (constructor <;> omega) | omega | exact fun q => absurd q (by assumption) | exact fun q => absurd q.1 (by assumption) | exact fun q => absurd q.2 (by assumption) | exact Int32.not_lt.mpr (by assumption) | exact Int32.not_le.mp (by assumption) | exact fun q => q.2 (by assumption) | exact fun q => absurd q.1 (by omega))])
          first | rfl | (unfold f_ok f_no z_save;  rfl)
        rw [← hQ]
        exact b_iret CX hr hlk hS (Nat.le_of_ble_eq_true rfl) (Nat.le_of_ble_eq_true rfl) dX3_deliver_42 ((by rw [ho]; exact ⟨rfl, _, _, _, _, _, _, _, _, _, hM, hSv⟩))
    · refine lv_aload_n hx hb dX3_deliver_21 rfl (lv_at hl 0 rfl) ?_
      refine lv_iconst (v := nI 1) hx hb dX3_deliver_22 rfl ?_
      refine b_ci (cs_X3_49 (rest := []) CX hl.1 (m_X3_fails l (code := nI 1) hM ) rfl rfl rfl hM.o0 hS rfl ⟨rfl, rfl, Nat.le_of_ble_eq_true rfl, Nat.le_of_ble_eq_true rfl⟩ (Nat.le_of_ble_eq_true rfl) dX3_deliver_23 ⟨Nat.le_of_ble_eq_true rfl, Nat.le_of_ble_eq_true rfl⟩) hS (fun r H7 locs hp hS => ?_)
      obtain ⟨rfl, hM9⟩ := hp
      have hM : MW G B0 o H H7 (enc S) sp sv (fun j => nI (t j)) (nI n) (nI tn) (nI 1) pl iw lt on ot nu di := hM.tr hM9
      have ho : o_deliver (S, n, L, tn, t) (nI jx) y c_ = (nI 1, nI 0, (S, n, L, tn, t)) := by
        unfold o_deliver
        simp only [ejx]
        repeat (first | rw [if_pos (by first | assumption | exact ⟨by assumption, by assumption⟩ | (constructor <;> omega) | omega | exact fun q => absurd q (by assumption) | exact fun q => absurd q.1 (by assumption) | exact fun q => absurd q.2 (by assumption) | exact Int32.not_lt.mpr (by assumption) | exact Int32.not_le.mp (by assumption) | exact fun q => q.2 (by assumption) | exact fun q => absurd q.1 (by omega))] | rw [if_neg (by first | assumption | exact ⟨by assumption, by assumption⟩ | (constructor <;> omega) | omega | exact fun q => absurd q (by assumption) | exact fun q => absurd q.1 (by assumption) | exact fun q => absurd q.2 (by assumption) | exact Int32.not_lt.mpr (by assumption) | exact Int32.not_le.mp (by assumption) | exact fun q => q.2 (by assumption) | exact fun q => absurd q.1 (by omega))])
        first | rfl | (unfold f_ok f_no z_save;  rfl)
      rw [← hQ]
      exact b_iret CX hr hlk hS (Nat.le_of_ble_eq_true rfl) (Nat.le_of_ble_eq_true rfl) dX3_deliver_26 ((by rw [ho]; exact ⟨rfl, _, _, _, _, _, _, _, _, _, hM, hSv⟩))
set_option maxHeartbeats 2000000 in
set_option maxRecDepth 100000 in
theorem m_X3_sell (l : Launch) {G : b_G} {B0 : Nat} {o : Nat → Nat} {Hr H : Heap} {S : b_St} {sp sv : Nat → Int32} {L : Nat → b_St} {t : Nat → Nat} {n tn : Nat} {th pl iw lt on ot nu di : Int32} {x : Int32} {y : Int32} {c_ : Int32} (hM : MW G B0 o Hr H (enc S) sp sv (fun j => nI (t j)) (nI n) (nI tn) th pl iw lt on ot nu di) (hW : b_WF S) (hn : n ≤ 6) (ht : ∀ j, t j < 128) (htn : tn ≤ 60) (hSv : b_Sv sv n L) : Met l yX3_sell (ws_ yX3_sell cX3_sell 4 (Option.some Jvm.ClassFile.FieldType.int)) ({ frames := 4, cells := 0, slots := 0, locals := 87 } : Room) (b_Pc G B0 H [.ref (o 0), .int x, .int y, .int c_]) (b_Qi B0 (fun r H1 => r = (o_sell (S, n, L, tn, t) x y c_).2.1 ∧ MZ G B0 o H H1 (o_sell (S, n, L, tn, t) x y c_).1 (o_sell (S, n, L, tn, t) x y c_).2.2)) 0 0 (b_A B0) := by
  refine b_of (by decide) (Nat.le_of_ble_eq_true rfl) ?_
  intro p e s m below meth c CX hr hlk hnm hS ls hl
  have CX : b_Cx p s m _ c cX3_sell 4 RX3 G B0 := CX
  have hx := CX.hx
  have hb := CX.hb
  have hl : lv_has ls 4 [(0, .ref (o 0)), (1, .int x), (2, .int y), (3, .int c_)] := hl
  generalize hQ : MQ below (b_Qi B0 (fun r H1 => r = (o_sell (S, n, L, tn, t) x y c_).2.1 ∧ MZ G B0 o H H1 (o_sell (S, n, L, tn, t) x y c_).1 (o_sell (S, n, L, tn, t) x y c_).2.2)) ([.ref (o 0), .int x, .int y, .int c_] : List Value).toArray s 0 0 (b_A B0) = Q
  have hM := hM.re
  have hn8 := hW.nb8
  have hn6 := hW.ns6
  refine lv_aload_n hx hb dX3_sell_0 rfl (lv_at hl 0 rfl) ?_
  refine lv_iconst (v := nI 0) hx hb dX3_sell_1 rfl ?_
  refine pf_X3_28_8 CX hM.o0 hS (hM.B (by decide)) rfl rfl (Nat.le_of_ble_eq_true rfl) dX3_sell_2 (fun H1 locs hat hu hS => ?_)
  have hM : MW G B0 o H H1 (enc S) sp sv (fun j => nI (t j)) (nI n) (nI tn) (nI 0) pl iw lt on ot nu di := hM.set0 hat hu
  refine lv_aload_n hx hb dX3_sell_5 rfl (lv_at hl 0 rfl) ?_
  refine lv_iload_n hx hb dX3_sell_6 rfl (lv_at hl 1 rfl) ?_
  refine b_ci0 (cs_X3_92 (rest := []) CX hl.1 (m_X3_isShop l (x := x) hM hW) rfl rfl rfl hM.o0 hS rfl ⟨rfl, rfl, Nat.le_of_ble_eq_true rfl, Nat.le_of_ble_eq_true rfl⟩ (Nat.le_of_ble_eq_true rfl) dX3_sell_7 ⟨Nat.le_of_ble_eq_true rfl, Nat.le_of_ble_eq_true rfl⟩) hS (fun locs hS => ?_)
  refine b_ifeq (tgt := 21) CX dX3_sell_10 (by decide) (fun c_10 => ?_) (fun c_10 => ?_)
  · refine lv_aload_n hx hb dX3_sell_21 rfl (lv_at hl 0 rfl) ?_
    refine lv_iconst (v := nI 1) hx hb dX3_sell_22 rfl ?_
    refine b_ci (cs_X3_49 (rest := []) CX hl.1 (m_X3_fails l (code := nI 1) hM ) rfl rfl rfl hM.o0 hS rfl ⟨rfl, rfl, Nat.le_of_ble_eq_true rfl, Nat.le_of_ble_eq_true rfl⟩ (Nat.le_of_ble_eq_true rfl) dX3_sell_23 ⟨Nat.le_of_ble_eq_true rfl, Nat.le_of_ble_eq_true rfl⟩) hS (fun r H2 locs hp hS => ?_)
    obtain ⟨rfl, hM9⟩ := hp
    have hM : MW G B0 o H H2 (enc S) sp sv (fun j => nI (t j)) (nI n) (nI tn) (nI 1) pl iw lt on ot nu di := hM.tr hM9
    have ho : o_sell (S, n, L, tn, t) x y c_ = (nI 1, nI 0, (S, n, L, tn, t)) := by
      unfold o_sell
      repeat (first | rw [if_pos (by first | assumption | exact ⟨by assumption, by assumption⟩ | (constructor <;> omega) | omega | exact fun q => absurd q (by assumption) | exact fun q => absurd q.1 (by assumption) | exact fun q => absurd q.2 (by assumption) | exact Int32.not_lt.mpr (by assumption) | exact Int32.not_le.mp (by assumption) | exact fun q => q.2 (by assumption) | exact fun q => absurd q.1 (by omega))] | rw [if_neg (by first | assumption | exact ⟨by assumption, by assumption⟩ | (constructor <;> omega) | omega | exact fun q => absurd q (by assumption) | exact fun q => absurd q.1 (by assumption) | exact fun q => absurd q.2 (by assumption) | exact Int32.not_lt.mpr (by assumption) | exact Int32.not_le.mp (by assumption) | exact fun q => q.2 (by assumption) | exact fun q => absurd q.1 (by omega))])
      first | rfl | (unfold f_ok f_no z_save;  rfl)
    rw [← hQ]
    exact b_iret CX hr hlk hS (Nat.le_of_ble_eq_true rfl) (Nat.le_of_ble_eq_true rfl) dX3_sell_26 ((by rw [ho]; exact ⟨rfl, _, _, _, _, _, _, _, _, _, hM, hSv⟩))
  · obtain ⟨jx, hjx, rfl⟩ := isS_lt hW c_10
    have ejx : ix (nI jx) = jx := ix_n (by omega)
    refine lv_aload_n hx hb dX3_sell_13 rfl (lv_at hl 0 rfl) ?_
    refine lv_iload_n hx hb dX3_sell_14 rfl (lv_at hl 2 rfl) ?_
    refine b_ci0 (cs_X3_85 (rest := []) CX hl.1 (m_X3_isBrand l (x := y) hM hW) rfl rfl rfl hM.o0 hS rfl ⟨rfl, rfl, Nat.le_of_ble_eq_true rfl, Nat.le_of_ble_eq_true rfl⟩ (Nat.le_of_ble_eq_true rfl) dX3_sell_15 ⟨Nat.le_of_ble_eq_true rfl, Nat.le_of_ble_eq_true rfl⟩) hS (fun locs hS => ?_)
    refine b_ifne (tgt := 27) CX dX3_sell_18 (by decide) (fun c_18 => ?_) (fun c_18 => ?_)
    · obtain ⟨jy, hjy, rfl⟩ := isB_lt hW c_18
      have ejy : ix (nI jy) = jy := ix_n (by omega)
      refine lv_iload_n hx hb dX3_sell_27 rfl (lv_at hl 3 rfl) ?_
      refine lv_iconst (v := nI 1) hx hb dX3_sell_28 rfl ?_
      refine lv_sipush (v := nI 500) hx hb dX3_sell_29 rfl ?_
      refine b_ci0 (cs_X3_35 (rest := []) CX hl.1 (m_X3_in l (x := c_) (lo := nI 1) (hi := nI 500)  ) rfl hS rfl ⟨rfl, rfl, Nat.le_of_ble_eq_true rfl, Nat.le_of_ble_eq_true rfl⟩ (Nat.le_of_ble_eq_true rfl) dX3_sell_32 ⟨Nat.le_of_ble_eq_true rfl, Nat.le_of_ble_eq_true rfl⟩) hS (fun locs hS => ?_)
      refine b_ifne (tgt := 44) CX dX3_sell_35 (by decide) (fun c_35 => ?_) (fun c_35 => ?_)
      · refine lv_aload_n hx hb dX3_sell_44 rfl (lv_at hl 0 rfl) ?_
        refine lv_iload_n hx hb dX3_sell_45 rfl (lv_at hl 1 rfl) ?_
        refine lv_iload_n hx hb dX3_sell_46 rfl (lv_at hl 2 rfl) ?_
        refine lv_iload_n hx hb dX3_sell_47 rfl (lv_at hl 3 rfl) ?_
        refine b_ci0 (cs_X3_102 (rest := []) CX hl.1 (m_X3_againstSell l (s_ := jx) (b := jy) (n_ := c_) hM (by omega) (by omega)) rfl rfl rfl hM.o0 hS rfl ⟨rfl, rfl, Nat.le_of_ble_eq_true rfl, Nat.le_of_ble_eq_true rfl⟩ (Nat.le_of_ble_eq_true rfl) dX3_sell_48 ⟨Nat.le_of_ble_eq_true rfl, Nat.le_of_ble_eq_true rfl⟩) hS (fun locs hS => ?_)
        refine lv_if_le (tgt := 60) hx hb dX3_sell_51 (by decide) (fun c_51 => ?_) (fun c_51 => ?_)
        · refine lv_aload_n hx hb dX3_sell_60 rfl (lv_at hl 0 rfl) ?_
          refine b_cv (cs_X3_53 (rest := []) CX hl.1 (m_X3_save l  hM hn) rfl rfl rfl hM.o0 hS rfl ⟨rfl, rfl, Nat.le_of_ble_eq_true rfl, Nat.le_of_ble_eq_true rfl⟩ (Nat.le_of_ble_eq_true rfl) dX3_sell_61 ⟨Nat.le_of_ble_eq_true rfl, Nat.le_of_ble_eq_true rfl⟩) hS (fun H3 locs hp hS => ?_)
          have hM9 := hp
          have hM : MW G B0 o H H3 (enc S) sp (p_sv sv (enc S) n) (fun j => nI (t j)) (nI (p_sn n)) (nI tn) (nI 0) pl iw lt on ot nu di := hM.tr hM9
          refine lv_aload_n hx hb dX3_sell_64 rfl (lv_at hl 0 rfl) ?_
          refine lv_iload_n hx hb dX3_sell_65 rfl (lv_at hl 1 rfl) ?_
          refine lv_iload_n hx hb dX3_sell_66 rfl (lv_at hl 2 rfl) ?_
          refine lv_iload_n hx hb dX3_sell_67 rfl (lv_at hl 3 rfl) ?_
          refine b_ci (cs_X3_105 (rest := []) CX hl.1 (m_X3_sells l (s_ := jx) (b := jy) (n_ := c_) hM hW (by omega) (by omega)) rfl rfl rfl hM.o0 hS rfl ⟨rfl, rfl, Nat.le_of_ble_eq_true rfl, Nat.le_of_ble_eq_true rfl⟩ (Nat.le_of_ble_eq_true rfl) dX3_sell_68 ⟨Nat.le_of_ble_eq_true rfl, Nat.le_of_ble_eq_true rfl⟩) hS (fun r H4 locs hp hS => ?_)
          obtain ⟨rfl, hM9⟩ := hp
          have hM : MW G B0 o H H4 (enc ((s_sell S jx jy c_))) sp (p_sv sv (enc S) n) (fun j => nI (t j)) (nI (p_sn n)) (nI tn) (nI 0) pl iw lt on ot nu di := hM.tr hM9
          have ho : o_sell (S, n, L, tn, t) (nI jx) (nI jy) c_ = (nI 0, S 2 jx 0 + c_ * p_dep S jy, ((s_sell S jx jy c_), p_sn n, (p_L L S n), tn, t)) := by
            unfold o_sell
            simp only [ejx, ejy]
            repeat (first | rw [if_pos (by first | assumption | exact ⟨by assumption, by assumption⟩ | (constructor <;> omega) | omega | exact fun q => absurd q (by assumption) | exact fun q => absurd q.1 (by assumption) | exact fun q => absurd q.2 (by assumption) | exact Int32.not_lt.mpr (by assumption) | exact Int32.not_le.mp (by assumption) | exact fun q => q.2 (by assumption) | exact fun q => absurd q.1 (by omega))] | rw [if_neg (by first | assumption | exact ⟨by assumption, by assumption⟩ | (constructor <;> omega) | omega | exact fun q => absurd q (by assumption) | exact fun q => absurd q.1 (by assumption) | exact fun q => absurd q.2 (by assumption) | exact Int32.not_lt.mpr (by assumption) | exact Int32.not_le.mp (by assumption) | exact fun q => q.2 (by assumption) | exact fun q => absurd q.1 (by omega))])
            first | rfl | (unfold f_ok f_no z_save;  rfl)
          rw [← hQ]
          exact b_iret CX hr hlk hS (Nat.le_of_ble_eq_true rfl) (Nat.le_of_ble_eq_true rfl) dX3_sell_71 ((by rw [ho]; exact ⟨rfl, _, _, _, _, _, _, _, _, _, hM, (hSv.save hn _)⟩))
        · refine lv_aload_n hx hb dX3_sell_54 rfl (lv_at hl 0 rfl) ?_
          refine lv_iconst (v := nI 3) hx hb dX3_sell_55 rfl ?_
          refine b_ci (cs_X3_49 (rest := []) CX hl.1 (m_X3_fails l (code := nI 3) hM ) rfl rfl rfl hM.o0 hS rfl ⟨rfl, rfl, Nat.le_of_ble_eq_true rfl, Nat.le_of_ble_eq_true rfl⟩ (Nat.le_of_ble_eq_true rfl) dX3_sell_56 ⟨Nat.le_of_ble_eq_true rfl, Nat.le_of_ble_eq_true rfl⟩) hS (fun r H5 locs hp hS => ?_)
          obtain ⟨rfl, hM9⟩ := hp
          have hM : MW G B0 o H H5 (enc S) sp sv (fun j => nI (t j)) (nI n) (nI tn) (nI 3) pl iw lt on ot nu di := hM.tr hM9
          have ho : o_sell (S, n, L, tn, t) (nI jx) (nI jy) c_ = (nI 3, nI 0, (S, n, L, tn, t)) := by
            unfold o_sell
            simp only [ejx, ejy]
            repeat (first | rw [if_pos (by first | assumption | exact ⟨by assumption, by assumption⟩ | (constructor <;> omega) | omega | exact fun q => absurd q (by assumption) | exact fun q => absurd q.1 (by assumption) | exact fun q => absurd q.2 (by assumption) | exact Int32.not_lt.mpr (by assumption) | exact Int32.not_le.mp (by assumption) | exact fun q => q.2 (by assumption) | exact fun q => absurd q.1 (by omega))] | rw [if_neg (by first | assumption | exact ⟨by assumption, by assumption⟩ | (constructor <;> omega) | omega | exact fun q => absurd q (by assumption) | exact fun q => absurd q.1 (by assumption) | exact fun q => absurd q.2 (by assumption) | exact Int32.not_lt.mpr (by assumption) | exact Int32.not_le.mp (by assumption) | exact fun q => q.2 (by assumption) | exact fun q => absurd q.1 (by omega))])
            first | rfl | (unfold f_ok f_no z_save;  rfl)
          rw [← hQ]
          exact b_iret CX hr hlk hS (Nat.le_of_ble_eq_true rfl) (Nat.le_of_ble_eq_true rfl) dX3_sell_59 ((by rw [ho]; exact ⟨rfl, _, _, _, _, _, _, _, _, _, hM, hSv⟩))
      · refine lv_aload_n hx hb dX3_sell_38 rfl (lv_at hl 0 rfl) ?_
        refine lv_iconst (v := nI 2) hx hb dX3_sell_39 rfl ?_
        refine b_ci (cs_X3_49 (rest := []) CX hl.1 (m_X3_fails l (code := nI 2) hM ) rfl rfl rfl hM.o0 hS rfl ⟨rfl, rfl, Nat.le_of_ble_eq_true rfl, Nat.le_of_ble_eq_true rfl⟩ (Nat.le_of_ble_eq_true rfl) dX3_sell_40 ⟨Nat.le_of_ble_eq_true rfl, Nat.le_of_ble_eq_true rfl⟩) hS (fun r H6 locs hp hS => ?_)
        obtain ⟨rfl, hM9⟩ := hp
        have hM : MW G B0 o H H6 (enc S) sp sv (fun j => nI (t j)) (nI n) (nI tn) (nI 2) pl iw lt on ot nu di := hM.tr hM9
        have ho : o_sell (S, n, L, tn, t) (nI jx) (nI jy) c_ = (nI 2, nI 0, (S, n, L, tn, t)) := by
          unfold o_sell
          simp only [ejx, ejy]
          repeat (first | rw [if_pos (by first | assumption | exact ⟨by assumption, by assumption⟩ | (constructor <;> omega) | omega | exact fun q => absurd q (by assumption) | exact fun q => absurd q.1 (by assumption) | exact fun q => absurd q.2 (by assumption) | exact Int32.not_lt.mpr (by assumption) | exact Int32.not_le.mp (by assumption) | exact fun q => q.2 (by assumption) | exact fun q => absurd q.1 (by omega))] | rw [if_neg (by first | assumption | exact ⟨by assumption, by assumption⟩ | (constructor <;> omega) | omega | exact fun q => absurd q (by assumption) | exact fun q => absurd q.1 (by assumption) | exact fun q => absurd q.2 (by assumption) | exact Int32.not_lt.mpr (by assumption) | exact Int32.not_le.mp (by assumption) | exact fun q => q.2 (by assumption) | exact fun q => absurd q.1 (by omega))])
          first | rfl | (unfold f_ok f_no z_save;  rfl)
        rw [← hQ]
        exact b_iret CX hr hlk hS (Nat.le_of_ble_eq_true rfl) (Nat.le_of_ble_eq_true rfl) dX3_sell_43 ((by rw [ho]; exact ⟨rfl, _, _, _, _, _, _, _, _, _, hM, hSv⟩))
    · refine lv_aload_n hx hb dX3_sell_21 rfl (lv_at hl 0 rfl) ?_
      refine lv_iconst (v := nI 1) hx hb dX3_sell_22 rfl ?_
      refine b_ci (cs_X3_49 (rest := []) CX hl.1 (m_X3_fails l (code := nI 1) hM ) rfl rfl rfl hM.o0 hS rfl ⟨rfl, rfl, Nat.le_of_ble_eq_true rfl, Nat.le_of_ble_eq_true rfl⟩ (Nat.le_of_ble_eq_true rfl) dX3_sell_23 ⟨Nat.le_of_ble_eq_true rfl, Nat.le_of_ble_eq_true rfl⟩) hS (fun r H7 locs hp hS => ?_)
      obtain ⟨rfl, hM9⟩ := hp
      have hM : MW G B0 o H H7 (enc S) sp sv (fun j => nI (t j)) (nI n) (nI tn) (nI 1) pl iw lt on ot nu di := hM.tr hM9
      have ho : o_sell (S, n, L, tn, t) (nI jx) y c_ = (nI 1, nI 0, (S, n, L, tn, t)) := by
        unfold o_sell
        simp only [ejx]
        repeat (first | rw [if_pos (by first | assumption | exact ⟨by assumption, by assumption⟩ | (constructor <;> omega) | omega | exact fun q => absurd q (by assumption) | exact fun q => absurd q.1 (by assumption) | exact fun q => absurd q.2 (by assumption) | exact Int32.not_lt.mpr (by assumption) | exact Int32.not_le.mp (by assumption) | exact fun q => q.2 (by assumption) | exact fun q => absurd q.1 (by omega))] | rw [if_neg (by first | assumption | exact ⟨by assumption, by assumption⟩ | (constructor <;> omega) | omega | exact fun q => absurd q (by assumption) | exact fun q => absurd q.1 (by assumption) | exact fun q => absurd q.2 (by assumption) | exact Int32.not_lt.mpr (by assumption) | exact Int32.not_le.mp (by assumption) | exact fun q => q.2 (by assumption) | exact fun q => absurd q.1 (by omega))])
        first | rfl | (unfold f_ok f_no z_save;  rfl)
      rw [← hQ]
      exact b_iret CX hr hlk hS (Nat.le_of_ble_eq_true rfl) (Nat.le_of_ble_eq_true rfl) dX3_sell_26 ((by rw [ho]; exact ⟨rfl, _, _, _, _, _, _, _, _, _, hM, hSv⟩))
set_option maxHeartbeats 2000000 in
set_option maxRecDepth 100000 in
theorem m_X3_takeBack (l : Launch) {G : b_G} {B0 : Nat} {o : Nat → Nat} {Hr H : Heap} {S : b_St} {sp sv : Nat → Int32} {L : Nat → b_St} {t : Nat → Nat} {n tn : Nat} {th pl iw lt on ot nu di : Int32} {x : Int32} {y : Int32} {c_ : Int32} (hM : MW G B0 o Hr H (enc S) sp sv (fun j => nI (t j)) (nI n) (nI tn) th pl iw lt on ot nu di) (hW : b_WF S) (hn : n ≤ 6) (ht : ∀ j, t j < 128) (htn : tn ≤ 60) (hSv : b_Sv sv n L) : Met l yX3_takeBack (ws_ yX3_takeBack cX3_takeBack 4 (Option.some Jvm.ClassFile.FieldType.int)) ({ frames := 4, cells := 0, slots := 0, locals := 87 } : Room) (b_Pc G B0 H [.ref (o 0), .int x, .int y, .int c_]) (b_Qi B0 (fun r H1 => r = (o_take (S, n, L, tn, t) x y c_).2.1 ∧ MZ G B0 o H H1 (o_take (S, n, L, tn, t) x y c_).1 (o_take (S, n, L, tn, t) x y c_).2.2)) 0 0 (b_A B0) := by
  refine b_of (by decide) (Nat.le_of_ble_eq_true rfl) ?_
  intro p e s m below meth c CX hr hlk hnm hS ls hl
  have CX : b_Cx p s m _ c cX3_takeBack 4 RX3 G B0 := CX
  have hx := CX.hx
  have hb := CX.hb
  have hl : lv_has ls 4 [(0, .ref (o 0)), (1, .int x), (2, .int y), (3, .int c_)] := hl
  generalize hQ : MQ below (b_Qi B0 (fun r H1 => r = (o_take (S, n, L, tn, t) x y c_).2.1 ∧ MZ G B0 o H H1 (o_take (S, n, L, tn, t) x y c_).1 (o_take (S, n, L, tn, t) x y c_).2.2)) ([.ref (o 0), .int x, .int y, .int c_] : List Value).toArray s 0 0 (b_A B0) = Q
  have hM := hM.re
  have hn8 := hW.nb8
  have hn6 := hW.ns6
  refine lv_aload_n hx hb dX3_takeBack_0 rfl (lv_at hl 0 rfl) ?_
  refine lv_iconst (v := nI 0) hx hb dX3_takeBack_1 rfl ?_
  refine pf_X3_28_8 CX hM.o0 hS (hM.B (by decide)) rfl rfl (Nat.le_of_ble_eq_true rfl) dX3_takeBack_2 (fun H1 locs hat hu hS => ?_)
  have hM : MW G B0 o H H1 (enc S) sp sv (fun j => nI (t j)) (nI n) (nI tn) (nI 0) pl iw lt on ot nu di := hM.set0 hat hu
  refine lv_aload_n hx hb dX3_takeBack_5 rfl (lv_at hl 0 rfl) ?_
  refine lv_iload_n hx hb dX3_takeBack_6 rfl (lv_at hl 1 rfl) ?_
  refine b_ci0 (cs_X3_92 (rest := []) CX hl.1 (m_X3_isShop l (x := x) hM hW) rfl rfl rfl hM.o0 hS rfl ⟨rfl, rfl, Nat.le_of_ble_eq_true rfl, Nat.le_of_ble_eq_true rfl⟩ (Nat.le_of_ble_eq_true rfl) dX3_takeBack_7 ⟨Nat.le_of_ble_eq_true rfl, Nat.le_of_ble_eq_true rfl⟩) hS (fun locs hS => ?_)
  refine b_ifeq (tgt := 21) CX dX3_takeBack_10 (by decide) (fun c_10 => ?_) (fun c_10 => ?_)
  · refine lv_aload_n hx hb dX3_takeBack_21 rfl (lv_at hl 0 rfl) ?_
    refine lv_iconst (v := nI 1) hx hb dX3_takeBack_22 rfl ?_
    refine b_ci (cs_X3_49 (rest := []) CX hl.1 (m_X3_fails l (code := nI 1) hM ) rfl rfl rfl hM.o0 hS rfl ⟨rfl, rfl, Nat.le_of_ble_eq_true rfl, Nat.le_of_ble_eq_true rfl⟩ (Nat.le_of_ble_eq_true rfl) dX3_takeBack_23 ⟨Nat.le_of_ble_eq_true rfl, Nat.le_of_ble_eq_true rfl⟩) hS (fun r H2 locs hp hS => ?_)
    obtain ⟨rfl, hM9⟩ := hp
    have hM : MW G B0 o H H2 (enc S) sp sv (fun j => nI (t j)) (nI n) (nI tn) (nI 1) pl iw lt on ot nu di := hM.tr hM9
    have ho : o_take (S, n, L, tn, t) x y c_ = (nI 1, nI 0, (S, n, L, tn, t)) := by
      unfold o_take
      repeat (first | rw [if_pos (by first | assumption | exact ⟨by assumption, by assumption⟩ | (constructor <;> omega) | omega | exact fun q => absurd q (by assumption) | exact fun q => absurd q.1 (by assumption) | exact fun q => absurd q.2 (by assumption) | exact Int32.not_lt.mpr (by assumption) | exact Int32.not_le.mp (by assumption) | exact fun q => q.2 (by assumption) | exact fun q => absurd q.1 (by omega))] | rw [if_neg (by first | assumption | exact ⟨by assumption, by assumption⟩ | (constructor <;> omega) | omega | exact fun q => absurd q (by assumption) | exact fun q => absurd q.1 (by assumption) | exact fun q => absurd q.2 (by assumption) | exact Int32.not_lt.mpr (by assumption) | exact Int32.not_le.mp (by assumption) | exact fun q => q.2 (by assumption) | exact fun q => absurd q.1 (by omega))])
      first | rfl | (unfold f_ok f_no z_save;  rfl)
    rw [← hQ]
    exact b_iret CX hr hlk hS (Nat.le_of_ble_eq_true rfl) (Nat.le_of_ble_eq_true rfl) dX3_takeBack_26 ((by rw [ho]; exact ⟨rfl, _, _, _, _, _, _, _, _, _, hM, hSv⟩))
  · obtain ⟨jx, hjx, rfl⟩ := isS_lt hW c_10
    have ejx : ix (nI jx) = jx := ix_n (by omega)
    refine lv_aload_n hx hb dX3_takeBack_13 rfl (lv_at hl 0 rfl) ?_
    refine lv_iload_n hx hb dX3_takeBack_14 rfl (lv_at hl 2 rfl) ?_
    refine b_ci0 (cs_X3_85 (rest := []) CX hl.1 (m_X3_isBrand l (x := y) hM hW) rfl rfl rfl hM.o0 hS rfl ⟨rfl, rfl, Nat.le_of_ble_eq_true rfl, Nat.le_of_ble_eq_true rfl⟩ (Nat.le_of_ble_eq_true rfl) dX3_takeBack_15 ⟨Nat.le_of_ble_eq_true rfl, Nat.le_of_ble_eq_true rfl⟩) hS (fun locs hS => ?_)
    refine b_ifne (tgt := 27) CX dX3_takeBack_18 (by decide) (fun c_18 => ?_) (fun c_18 => ?_)
    · obtain ⟨jy, hjy, rfl⟩ := isB_lt hW c_18
      have ejy : ix (nI jy) = jy := ix_n (by omega)
      refine lv_iload_n hx hb dX3_takeBack_27 rfl (lv_at hl 3 rfl) ?_
      refine lv_iconst (v := nI 1) hx hb dX3_takeBack_28 rfl ?_
      refine lv_sipush (v := nI 500) hx hb dX3_takeBack_29 rfl ?_
      refine b_ci0 (cs_X3_35 (rest := []) CX hl.1 (m_X3_in l (x := c_) (lo := nI 1) (hi := nI 500)  ) rfl hS rfl ⟨rfl, rfl, Nat.le_of_ble_eq_true rfl, Nat.le_of_ble_eq_true rfl⟩ (Nat.le_of_ble_eq_true rfl) dX3_takeBack_32 ⟨Nat.le_of_ble_eq_true rfl, Nat.le_of_ble_eq_true rfl⟩) hS (fun locs hS => ?_)
      refine b_ifne (tgt := 44) CX dX3_takeBack_35 (by decide) (fun c_35 => ?_) (fun c_35 => ?_)
      · refine lv_aload_n hx hb dX3_takeBack_44 rfl (lv_at hl 0 rfl) ?_
        refine lv_iload_n hx hb dX3_takeBack_45 rfl (lv_at hl 1 rfl) ?_
        refine lv_iload_n hx hb dX3_takeBack_46 rfl (lv_at hl 2 rfl) ?_
        refine lv_iload_n hx hb dX3_takeBack_47 rfl (lv_at hl 3 rfl) ?_
        refine b_ci0 (cs_X3_108 (rest := []) CX hl.1 (m_X3_againstTakeBack l (s_ := jx) (b := jy) (n_ := c_) hM hW (by omega) (by omega)) rfl rfl rfl hM.o0 hS rfl ⟨rfl, rfl, Nat.le_of_ble_eq_true rfl, Nat.le_of_ble_eq_true rfl⟩ (Nat.le_of_ble_eq_true rfl) dX3_takeBack_48 ⟨Nat.le_of_ble_eq_true rfl, Nat.le_of_ble_eq_true rfl⟩) hS (fun locs hS => ?_)
        refine lv_if_le (tgt := 60) hx hb dX3_takeBack_51 (by decide) (fun c_51 => ?_) (fun c_51 => ?_)
        · refine lv_aload_n hx hb dX3_takeBack_60 rfl (lv_at hl 0 rfl) ?_
          refine b_cv (cs_X3_53 (rest := []) CX hl.1 (m_X3_save l  hM hn) rfl rfl rfl hM.o0 hS rfl ⟨rfl, rfl, Nat.le_of_ble_eq_true rfl, Nat.le_of_ble_eq_true rfl⟩ (Nat.le_of_ble_eq_true rfl) dX3_takeBack_61 ⟨Nat.le_of_ble_eq_true rfl, Nat.le_of_ble_eq_true rfl⟩) hS (fun H3 locs hp hS => ?_)
          have hM9 := hp
          have hM : MW G B0 o H H3 (enc S) sp (p_sv sv (enc S) n) (fun j => nI (t j)) (nI (p_sn n)) (nI tn) (nI 0) pl iw lt on ot nu di := hM.tr hM9
          refine lv_aload_n hx hb dX3_takeBack_64 rfl (lv_at hl 0 rfl) ?_
          refine lv_iload_n hx hb dX3_takeBack_65 rfl (lv_at hl 1 rfl) ?_
          refine lv_iload_n hx hb dX3_takeBack_66 rfl (lv_at hl 2 rfl) ?_
          refine lv_iload_n hx hb dX3_takeBack_67 rfl (lv_at hl 3 rfl) ?_
          refine b_ci (cs_X3_111 (rest := []) CX hl.1 (m_X3_takesBack l (s_ := jx) (b := jy) (n_ := c_) hM hW (by omega) (by omega)) rfl rfl rfl hM.o0 hS rfl ⟨rfl, rfl, Nat.le_of_ble_eq_true rfl, Nat.le_of_ble_eq_true rfl⟩ (Nat.le_of_ble_eq_true rfl) dX3_takeBack_68 ⟨Nat.le_of_ble_eq_true rfl, Nat.le_of_ble_eq_true rfl⟩) hS (fun r H4 locs hp hS => ?_)
          obtain ⟨rfl, hM9⟩ := hp
          have hM : MW G B0 o H H4 (enc ((s_take S jx jy c_))) sp (p_sv sv (enc S) n) (fun j => nI (t j)) (nI (p_sn n)) (nI tn) (nI 0) pl iw lt on ot nu di := hM.tr hM9
          have ho : o_take (S, n, L, tn, t) (nI jx) (nI jy) c_ = (nI 0, S 2 jx 0 - c_ * p_dep S jy, ((s_take S jx jy c_), p_sn n, (p_L L S n), tn, t)) := by
            unfold o_take
            simp only [ejx, ejy]
            repeat (first | rw [if_pos (by first | assumption | exact ⟨by assumption, by assumption⟩ | (constructor <;> omega) | omega | exact fun q => absurd q (by assumption) | exact fun q => absurd q.1 (by assumption) | exact fun q => absurd q.2 (by assumption) | exact Int32.not_lt.mpr (by assumption) | exact Int32.not_le.mp (by assumption) | exact fun q => q.2 (by assumption) | exact fun q => absurd q.1 (by omega))] | rw [if_neg (by first | assumption | exact ⟨by assumption, by assumption⟩ | (constructor <;> omega) | omega | exact fun q => absurd q (by assumption) | exact fun q => absurd q.1 (by assumption) | exact fun q => absurd q.2 (by assumption) | exact Int32.not_lt.mpr (by assumption) | exact Int32.not_le.mp (by assumption) | exact fun q => q.2 (by assumption) | exact fun q => absurd q.1 (by omega))])
            first | rfl | (unfold f_ok f_no z_save;  rfl)
          rw [← hQ]
          exact b_iret CX hr hlk hS (Nat.le_of_ble_eq_true rfl) (Nat.le_of_ble_eq_true rfl) dX3_takeBack_71 ((by rw [ho]; exact ⟨rfl, _, _, _, _, _, _, _, _, _, hM, (hSv.save hn _)⟩))
        · refine lv_aload_n hx hb dX3_takeBack_54 rfl (lv_at hl 0 rfl) ?_
          refine lv_iconst (v := nI 3) hx hb dX3_takeBack_55 rfl ?_
          refine b_ci (cs_X3_49 (rest := []) CX hl.1 (m_X3_fails l (code := nI 3) hM ) rfl rfl rfl hM.o0 hS rfl ⟨rfl, rfl, Nat.le_of_ble_eq_true rfl, Nat.le_of_ble_eq_true rfl⟩ (Nat.le_of_ble_eq_true rfl) dX3_takeBack_56 ⟨Nat.le_of_ble_eq_true rfl, Nat.le_of_ble_eq_true rfl⟩) hS (fun r H5 locs hp hS => ?_)
          obtain ⟨rfl, hM9⟩ := hp
          have hM : MW G B0 o H H5 (enc S) sp sv (fun j => nI (t j)) (nI n) (nI tn) (nI 3) pl iw lt on ot nu di := hM.tr hM9
          have ho : o_take (S, n, L, tn, t) (nI jx) (nI jy) c_ = (nI 3, nI 0, (S, n, L, tn, t)) := by
            unfold o_take
            simp only [ejx, ejy]
            repeat (first | rw [if_pos (by first | assumption | exact ⟨by assumption, by assumption⟩ | (constructor <;> omega) | omega | exact fun q => absurd q (by assumption) | exact fun q => absurd q.1 (by assumption) | exact fun q => absurd q.2 (by assumption) | exact Int32.not_lt.mpr (by assumption) | exact Int32.not_le.mp (by assumption) | exact fun q => q.2 (by assumption) | exact fun q => absurd q.1 (by omega))] | rw [if_neg (by first | assumption | exact ⟨by assumption, by assumption⟩ | (constructor <;> omega) | omega | exact fun q => absurd q (by assumption) | exact fun q => absurd q.1 (by assumption) | exact fun q => absurd q.2 (by assumption) | exact Int32.not_lt.mpr (by assumption) | exact Int32.not_le.mp (by assumption) | exact fun q => q.2 (by assumption) | exact fun q => absurd q.1 (by omega))])
            first | rfl | (unfold f_ok f_no z_save;  rfl)
          rw [← hQ]
          exact b_iret CX hr hlk hS (Nat.le_of_ble_eq_true rfl) (Nat.le_of_ble_eq_true rfl) dX3_takeBack_59 ((by rw [ho]; exact ⟨rfl, _, _, _, _, _, _, _, _, _, hM, hSv⟩))
      · refine lv_aload_n hx hb dX3_takeBack_38 rfl (lv_at hl 0 rfl) ?_
        refine lv_iconst (v := nI 2) hx hb dX3_takeBack_39 rfl ?_
        refine b_ci (cs_X3_49 (rest := []) CX hl.1 (m_X3_fails l (code := nI 2) hM ) rfl rfl rfl hM.o0 hS rfl ⟨rfl, rfl, Nat.le_of_ble_eq_true rfl, Nat.le_of_ble_eq_true rfl⟩ (Nat.le_of_ble_eq_true rfl) dX3_takeBack_40 ⟨Nat.le_of_ble_eq_true rfl, Nat.le_of_ble_eq_true rfl⟩) hS (fun r H6 locs hp hS => ?_)
        obtain ⟨rfl, hM9⟩ := hp
        have hM : MW G B0 o H H6 (enc S) sp sv (fun j => nI (t j)) (nI n) (nI tn) (nI 2) pl iw lt on ot nu di := hM.tr hM9
        have ho : o_take (S, n, L, tn, t) (nI jx) (nI jy) c_ = (nI 2, nI 0, (S, n, L, tn, t)) := by
          unfold o_take
          simp only [ejx, ejy]
          repeat (first | rw [if_pos (by first | assumption | exact ⟨by assumption, by assumption⟩ | (constructor <;> omega) | omega | exact fun q => absurd q (by assumption) | exact fun q => absurd q.1 (by assumption) | exact fun q => absurd q.2 (by assumption) | exact Int32.not_lt.mpr (by assumption) | exact Int32.not_le.mp (by assumption) | exact fun q => q.2 (by assumption) | exact fun q => absurd q.1 (by omega))] | rw [if_neg (by first | assumption | exact ⟨by assumption, by assumption⟩ | (constructor <;> omega) | omega | exact fun q => absurd q (by assumption) | exact fun q => absurd q.1 (by assumption) | exact fun q => absurd q.2 (by assumption) | exact Int32.not_lt.mpr (by assumption) | exact Int32.not_le.mp (by assumption) | exact fun q => q.2 (by assumption) | exact fun q => absurd q.1 (by omega))])
          first | rfl | (unfold f_ok f_no z_save;  rfl)
        rw [← hQ]
        exact b_iret CX hr hlk hS (Nat.le_of_ble_eq_true rfl) (Nat.le_of_ble_eq_true rfl) dX3_takeBack_43 ((by rw [ho]; exact ⟨rfl, _, _, _, _, _, _, _, _, _, hM, hSv⟩))
    · refine lv_aload_n hx hb dX3_takeBack_21 rfl (lv_at hl 0 rfl) ?_
      refine lv_iconst (v := nI 1) hx hb dX3_takeBack_22 rfl ?_
      refine b_ci (cs_X3_49 (rest := []) CX hl.1 (m_X3_fails l (code := nI 1) hM ) rfl rfl rfl hM.o0 hS rfl ⟨rfl, rfl, Nat.le_of_ble_eq_true rfl, Nat.le_of_ble_eq_true rfl⟩ (Nat.le_of_ble_eq_true rfl) dX3_takeBack_23 ⟨Nat.le_of_ble_eq_true rfl, Nat.le_of_ble_eq_true rfl⟩) hS (fun r H7 locs hp hS => ?_)
      obtain ⟨rfl, hM9⟩ := hp
      have hM : MW G B0 o H H7 (enc S) sp sv (fun j => nI (t j)) (nI n) (nI tn) (nI 1) pl iw lt on ot nu di := hM.tr hM9
      have ho : o_take (S, n, L, tn, t) (nI jx) y c_ = (nI 1, nI 0, (S, n, L, tn, t)) := by
        unfold o_take
        simp only [ejx]
        repeat (first | rw [if_pos (by first | assumption | exact ⟨by assumption, by assumption⟩ | (constructor <;> omega) | omega | exact fun q => absurd q (by assumption) | exact fun q => absurd q.1 (by assumption) | exact fun q => absurd q.2 (by assumption) | exact Int32.not_lt.mpr (by assumption) | exact Int32.not_le.mp (by assumption) | exact fun q => q.2 (by assumption) | exact fun q => absurd q.1 (by omega))] | rw [if_neg (by first | assumption | exact ⟨by assumption, by assumption⟩ | (constructor <;> omega) | omega | exact fun q => absurd q (by assumption) | exact fun q => absurd q.1 (by assumption) | exact fun q => absurd q.2 (by assumption) | exact Int32.not_lt.mpr (by assumption) | exact Int32.not_le.mp (by assumption) | exact fun q => q.2 (by assumption) | exact fun q => absurd q.1 (by omega))])
        first | rfl | (unfold f_ok f_no z_save;  rfl)
      rw [← hQ]
      exact b_iret CX hr hlk hS (Nat.le_of_ble_eq_true rfl) (Nat.le_of_ble_eq_true rfl) dX3_takeBack_26 ((by rw [ho]; exact ⟨rfl, _, _, _, _, _, _, _, _, _, hM, hSv⟩))
set_option maxHeartbeats 2000000 in
set_option maxRecDepth 100000 in
theorem m_X3_breaks (l : Launch) {G : b_G} {B0 : Nat} {o : Nat → Nat} {Hr H : Heap} {S : b_St} {sp sv : Nat → Int32} {L : Nat → b_St} {t : Nat → Nat} {n tn : Nat} {th pl iw lt on ot nu di : Int32} {x : Int32} {y : Int32} {c_ : Int32} (hM : MW G B0 o Hr H (enc S) sp sv (fun j => nI (t j)) (nI n) (nI tn) th pl iw lt on ot nu di) (hW : b_WF S) (hn : n ≤ 6) (ht : ∀ j, t j < 128) (htn : tn ≤ 60) (hSv : b_Sv sv n L) : Met l yX3_breaks (ws_ yX3_breaks cX3_breaks 4 (Option.some Jvm.ClassFile.FieldType.int)) ({ frames := 4, cells := 0, slots := 0, locals := 89 } : Room) (b_Pc G B0 H [.ref (o 0), .int x, .int y, .int c_]) (b_Qi B0 (fun r H1 => r = (o_break (S, n, L, tn, t) x y c_).2.1 ∧ MZ G B0 o H H1 (o_break (S, n, L, tn, t) x y c_).1 (o_break (S, n, L, tn, t) x y c_).2.2)) 0 0 (b_A B0) := by
  refine b_of (by decide) (Nat.le_of_ble_eq_true rfl) ?_
  intro p e s m below meth c CX hr hlk hnm hS ls hl
  have CX : b_Cx p s m _ c cX3_breaks 4 RX3 G B0 := CX
  have hx := CX.hx
  have hb := CX.hb
  have hl : lv_has ls 4 [(0, .ref (o 0)), (1, .int x), (2, .int y), (3, .int c_)] := hl
  generalize hQ : MQ below (b_Qi B0 (fun r H1 => r = (o_break (S, n, L, tn, t) x y c_).2.1 ∧ MZ G B0 o H H1 (o_break (S, n, L, tn, t) x y c_).1 (o_break (S, n, L, tn, t) x y c_).2.2)) ([.ref (o 0), .int x, .int y, .int c_] : List Value).toArray s 0 0 (b_A B0) = Q
  have hM := hM.re
  have hn8 := hW.nb8
  have hn6 := hW.ns6
  refine lv_aload_n hx hb dX3_breaks_0 rfl (lv_at hl 0 rfl) ?_
  refine lv_iconst (v := nI 0) hx hb dX3_breaks_1 rfl ?_
  refine pf_X3_28_8 CX hM.o0 hS (hM.B (by decide)) rfl rfl (Nat.le_of_ble_eq_true rfl) dX3_breaks_2 (fun H1 locs hat hu hS => ?_)
  have hM : MW G B0 o H H1 (enc S) sp sv (fun j => nI (t j)) (nI n) (nI tn) (nI 0) pl iw lt on ot nu di := hM.set0 hat hu
  refine lv_aload_n hx hb dX3_breaks_5 rfl (lv_at hl 0 rfl) ?_
  refine lv_iload_n hx hb dX3_breaks_6 rfl (lv_at hl 1 rfl) ?_
  refine b_ci0 (cs_X3_92 (rest := []) CX hl.1 (m_X3_isShop l (x := x) hM hW) rfl rfl rfl hM.o0 hS rfl ⟨rfl, rfl, Nat.le_of_ble_eq_true rfl, Nat.le_of_ble_eq_true rfl⟩ (Nat.le_of_ble_eq_true rfl) dX3_breaks_7 ⟨Nat.le_of_ble_eq_true rfl, Nat.le_of_ble_eq_true rfl⟩) hS (fun locs hS => ?_)
  refine b_ifeq (tgt := 21) CX dX3_breaks_10 (by decide) (fun c_10 => ?_) (fun c_10 => ?_)
  · refine lv_aload_n hx hb dX3_breaks_21 rfl (lv_at hl 0 rfl) ?_
    refine lv_iconst (v := nI 1) hx hb dX3_breaks_22 rfl ?_
    refine b_ci (cs_X3_49 (rest := []) CX hl.1 (m_X3_fails l (code := nI 1) hM ) rfl rfl rfl hM.o0 hS rfl ⟨rfl, rfl, Nat.le_of_ble_eq_true rfl, Nat.le_of_ble_eq_true rfl⟩ (Nat.le_of_ble_eq_true rfl) dX3_breaks_23 ⟨Nat.le_of_ble_eq_true rfl, Nat.le_of_ble_eq_true rfl⟩) hS (fun r H2 locs hp hS => ?_)
    obtain ⟨rfl, hM9⟩ := hp
    have hM : MW G B0 o H H2 (enc S) sp sv (fun j => nI (t j)) (nI n) (nI tn) (nI 1) pl iw lt on ot nu di := hM.tr hM9
    have ho : o_break (S, n, L, tn, t) x y c_ = (nI 1, nI 0, (S, n, L, tn, t)) := by
      unfold o_break
      repeat (first | rw [if_pos (by first | assumption | exact ⟨by assumption, by assumption⟩ | (constructor <;> omega) | omega | exact fun q => absurd q (by assumption) | exact fun q => absurd q.1 (by assumption) | exact fun q => absurd q.2 (by assumption) | exact Int32.not_lt.mpr (by assumption) | exact Int32.not_le.mp (by assumption) | exact fun q => q.2 (by assumption) | exact fun q => absurd q.1 (by omega))] | rw [if_neg (by first | assumption | exact ⟨by assumption, by assumption⟩ | (constructor <;> omega) | omega | exact fun q => absurd q (by assumption) | exact fun q => absurd q.1 (by assumption) | exact fun q => absurd q.2 (by assumption) | exact Int32.not_lt.mpr (by assumption) | exact Int32.not_le.mp (by assumption) | exact fun q => q.2 (by assumption) | exact fun q => absurd q.1 (by omega))])
      first | rfl | (unfold f_ok f_no z_save;  rfl)
    rw [← hQ]
    exact b_iret CX hr hlk hS (Nat.le_of_ble_eq_true rfl) (Nat.le_of_ble_eq_true rfl) dX3_breaks_26 ((by rw [ho]; exact ⟨rfl, _, _, _, _, _, _, _, _, _, hM, hSv⟩))
  · obtain ⟨jx, hjx, rfl⟩ := isS_lt hW c_10
    have ejx : ix (nI jx) = jx := ix_n (by omega)
    refine lv_aload_n hx hb dX3_breaks_13 rfl (lv_at hl 0 rfl) ?_
    refine lv_iload_n hx hb dX3_breaks_14 rfl (lv_at hl 2 rfl) ?_
    refine b_ci0 (cs_X3_85 (rest := []) CX hl.1 (m_X3_isBrand l (x := y) hM hW) rfl rfl rfl hM.o0 hS rfl ⟨rfl, rfl, Nat.le_of_ble_eq_true rfl, Nat.le_of_ble_eq_true rfl⟩ (Nat.le_of_ble_eq_true rfl) dX3_breaks_15 ⟨Nat.le_of_ble_eq_true rfl, Nat.le_of_ble_eq_true rfl⟩) hS (fun locs hS => ?_)
    refine b_ifne (tgt := 27) CX dX3_breaks_18 (by decide) (fun c_18 => ?_) (fun c_18 => ?_)
    · obtain ⟨jy, hjy, rfl⟩ := isB_lt hW c_18
      have ejy : ix (nI jy) = jy := ix_n (by omega)
      refine lv_iload_n hx hb dX3_breaks_27 rfl (lv_at hl 3 rfl) ?_
      refine lv_iconst (v := nI 1) hx hb dX3_breaks_28 rfl ?_
      refine lv_sipush (v := nI 500) hx hb dX3_breaks_29 rfl ?_
      refine b_ci0 (cs_X3_35 (rest := []) CX hl.1 (m_X3_in l (x := c_) (lo := nI 1) (hi := nI 500)  ) rfl hS rfl ⟨rfl, rfl, Nat.le_of_ble_eq_true rfl, Nat.le_of_ble_eq_true rfl⟩ (Nat.le_of_ble_eq_true rfl) dX3_breaks_32 ⟨Nat.le_of_ble_eq_true rfl, Nat.le_of_ble_eq_true rfl⟩) hS (fun locs hS => ?_)
      refine b_ifne (tgt := 44) CX dX3_breaks_35 (by decide) (fun c_35 => ?_) (fun c_35 => ?_)
      · refine lv_aload_n hx hb dX3_breaks_44 rfl (lv_at hl 0 rfl) ?_
        refine lv_iload_n hx hb dX3_breaks_45 rfl (lv_at hl 1 rfl) ?_
        refine lv_iload_n hx hb dX3_breaks_46 rfl (lv_at hl 2 rfl) ?_
        refine lv_iload_n hx hb dX3_breaks_47 rfl (lv_at hl 3 rfl) ?_
        refine b_ci0 (cs_X3_114 (rest := []) CX hl.1 (m_X3_againstBreak l (s_ := jx) (b := jy) (n_ := c_) hM (by omega) (by omega)) rfl rfl rfl hM.o0 hS rfl ⟨rfl, rfl, Nat.le_of_ble_eq_true rfl, Nat.le_of_ble_eq_true rfl⟩ (Nat.le_of_ble_eq_true rfl) dX3_breaks_48 ⟨Nat.le_of_ble_eq_true rfl, Nat.le_of_ble_eq_true rfl⟩) hS (fun locs hS => ?_)
        refine lv_if_le (tgt := 60) hx hb dX3_breaks_51 (by decide) (fun c_51 => ?_) (fun c_51 => ?_)
        · refine lv_aload_n hx hb dX3_breaks_60 rfl (lv_at hl 0 rfl) ?_
          refine b_cv (cs_X3_53 (rest := []) CX hl.1 (m_X3_save l  hM hn) rfl rfl rfl hM.o0 hS rfl ⟨rfl, rfl, Nat.le_of_ble_eq_true rfl, Nat.le_of_ble_eq_true rfl⟩ (Nat.le_of_ble_eq_true rfl) dX3_breaks_61 ⟨Nat.le_of_ble_eq_true rfl, Nat.le_of_ble_eq_true rfl⟩) hS (fun H3 locs hp hS => ?_)
          have hM9 := hp
          have hM : MW G B0 o H H3 (enc S) sp (p_sv sv (enc S) n) (fun j => nI (t j)) (nI (p_sn n)) (nI tn) (nI 0) pl iw lt on ot nu di := hM.tr hM9
          refine lv_aload_n hx hb dX3_breaks_64 rfl (lv_at hl 0 rfl) ?_
          refine lv_iload_n hx hb dX3_breaks_65 rfl (lv_at hl 1 rfl) ?_
          refine lv_iload_n hx hb dX3_breaks_66 rfl (lv_at hl 2 rfl) ?_
          refine lv_iload_n hx hb dX3_breaks_67 rfl (lv_at hl 3 rfl) ?_
          refine b_ci (cs_X3_117 (rest := []) CX hl.1 (m_X3_breaksThem l (s_ := jx) (b := jy) (n_ := c_) hM hW (by omega) (by omega)) rfl rfl rfl hM.o0 hS rfl ⟨rfl, rfl, Nat.le_of_ble_eq_true rfl, Nat.le_of_ble_eq_true rfl⟩ (Nat.le_of_ble_eq_true rfl) dX3_breaks_68 ⟨Nat.le_of_ble_eq_true rfl, Nat.le_of_ble_eq_true rfl⟩) hS (fun r H4 locs hp hS => ?_)
          obtain ⟨rfl, hM9⟩ := hp
          have hM : MW G B0 o H H4 (enc ((s_break S jx jy c_))) sp (p_sv sv (enc S) n) (fun j => nI (t j)) (nI (p_sn n)) (nI tn) (nI 0) pl iw lt on ot nu di := hM.tr hM9
          have ho : o_break (S, n, L, tn, t) (nI jx) (nI jy) c_ = (nI 0, p_paid S jy c_, ((s_break S jx jy c_), p_sn n, (p_L L S n), tn, t)) := by
            unfold o_break
            simp only [ejx, ejy]
            repeat (first | rw [if_pos (by first | assumption | exact ⟨by assumption, by assumption⟩ | (constructor <;> omega) | omega | exact fun q => absurd q (by assumption) | exact fun q => absurd q.1 (by assumption) | exact fun q => absurd q.2 (by assumption) | exact Int32.not_lt.mpr (by assumption) | exact Int32.not_le.mp (by assumption) | exact fun q => q.2 (by assumption) | exact fun q => absurd q.1 (by omega))] | rw [if_neg (by first | assumption | exact ⟨by assumption, by assumption⟩ | (constructor <;> omega) | omega | exact fun q => absurd q (by assumption) | exact fun q => absurd q.1 (by assumption) | exact fun q => absurd q.2 (by assumption) | exact Int32.not_lt.mpr (by assumption) | exact Int32.not_le.mp (by assumption) | exact fun q => q.2 (by assumption) | exact fun q => absurd q.1 (by omega))])
            first | rfl | (unfold f_ok f_no z_save;  rfl)
          rw [← hQ]
          exact b_iret CX hr hlk hS (Nat.le_of_ble_eq_true rfl) (Nat.le_of_ble_eq_true rfl) dX3_breaks_71 ((by rw [ho]; exact ⟨rfl, _, _, _, _, _, _, _, _, _, hM, (hSv.save hn _)⟩))
        · refine lv_aload_n hx hb dX3_breaks_54 rfl (lv_at hl 0 rfl) ?_
          refine lv_iconst (v := nI 3) hx hb dX3_breaks_55 rfl ?_
          refine b_ci (cs_X3_49 (rest := []) CX hl.1 (m_X3_fails l (code := nI 3) hM ) rfl rfl rfl hM.o0 hS rfl ⟨rfl, rfl, Nat.le_of_ble_eq_true rfl, Nat.le_of_ble_eq_true rfl⟩ (Nat.le_of_ble_eq_true rfl) dX3_breaks_56 ⟨Nat.le_of_ble_eq_true rfl, Nat.le_of_ble_eq_true rfl⟩) hS (fun r H5 locs hp hS => ?_)
          obtain ⟨rfl, hM9⟩ := hp
          have hM : MW G B0 o H H5 (enc S) sp sv (fun j => nI (t j)) (nI n) (nI tn) (nI 3) pl iw lt on ot nu di := hM.tr hM9
          have ho : o_break (S, n, L, tn, t) (nI jx) (nI jy) c_ = (nI 3, nI 0, (S, n, L, tn, t)) := by
            unfold o_break
            simp only [ejx, ejy]
            repeat (first | rw [if_pos (by first | assumption | exact ⟨by assumption, by assumption⟩ | (constructor <;> omega) | omega | exact fun q => absurd q (by assumption) | exact fun q => absurd q.1 (by assumption) | exact fun q => absurd q.2 (by assumption) | exact Int32.not_lt.mpr (by assumption) | exact Int32.not_le.mp (by assumption) | exact fun q => q.2 (by assumption) | exact fun q => absurd q.1 (by omega))] | rw [if_neg (by first | assumption | exact ⟨by assumption, by assumption⟩ | (constructor <;> omega) | omega | exact fun q => absurd q (by assumption) | exact fun q => absurd q.1 (by assumption) | exact fun q => absurd q.2 (by assumption) | exact Int32.not_lt.mpr (by assumption) | exact Int32.not_le.mp (by assumption) | exact fun q => q.2 (by assumption) | exact fun q => absurd q.1 (by omega))])
            first | rfl | (unfold f_ok f_no z_save;  rfl)
          rw [← hQ]
          exact b_iret CX hr hlk hS (Nat.le_of_ble_eq_true rfl) (Nat.le_of_ble_eq_true rfl) dX3_breaks_59 ((by rw [ho]; exact ⟨rfl, _, _, _, _, _, _, _, _, _, hM, hSv⟩))
      · refine lv_aload_n hx hb dX3_breaks_38 rfl (lv_at hl 0 rfl) ?_
        refine lv_iconst (v := nI 2) hx hb dX3_breaks_39 rfl ?_
        refine b_ci (cs_X3_49 (rest := []) CX hl.1 (m_X3_fails l (code := nI 2) hM ) rfl rfl rfl hM.o0 hS rfl ⟨rfl, rfl, Nat.le_of_ble_eq_true rfl, Nat.le_of_ble_eq_true rfl⟩ (Nat.le_of_ble_eq_true rfl) dX3_breaks_40 ⟨Nat.le_of_ble_eq_true rfl, Nat.le_of_ble_eq_true rfl⟩) hS (fun r H6 locs hp hS => ?_)
        obtain ⟨rfl, hM9⟩ := hp
        have hM : MW G B0 o H H6 (enc S) sp sv (fun j => nI (t j)) (nI n) (nI tn) (nI 2) pl iw lt on ot nu di := hM.tr hM9
        have ho : o_break (S, n, L, tn, t) (nI jx) (nI jy) c_ = (nI 2, nI 0, (S, n, L, tn, t)) := by
          unfold o_break
          simp only [ejx, ejy]
          repeat (first | rw [if_pos (by first | assumption | exact ⟨by assumption, by assumption⟩ | (constructor <;> omega) | omega | exact fun q => absurd q (by assumption) | exact fun q => absurd q.1 (by assumption) | exact fun q => absurd q.2 (by assumption) | exact Int32.not_lt.mpr (by assumption) | exact Int32.not_le.mp (by assumption) | exact fun q => q.2 (by assumption) | exact fun q => absurd q.1 (by omega))] | rw [if_neg (by first | assumption | exact ⟨by assumption, by assumption⟩ | (constructor <;> omega) | omega | exact fun q => absurd q (by assumption) | exact fun q => absurd q.1 (by assumption) | exact fun q => absurd q.2 (by assumption) | exact Int32.not_lt.mpr (by assumption) | exact Int32.not_le.mp (by assumption) | exact fun q => q.2 (by assumption) | exact fun q => absurd q.1 (by omega))])
          first | rfl | (unfold f_ok f_no z_save;  rfl)
        rw [← hQ]
        exact b_iret CX hr hlk hS (Nat.le_of_ble_eq_true rfl) (Nat.le_of_ble_eq_true rfl) dX3_breaks_43 ((by rw [ho]; exact ⟨rfl, _, _, _, _, _, _, _, _, _, hM, hSv⟩))
    · refine lv_aload_n hx hb dX3_breaks_21 rfl (lv_at hl 0 rfl) ?_
      refine lv_iconst (v := nI 1) hx hb dX3_breaks_22 rfl ?_
      refine b_ci (cs_X3_49 (rest := []) CX hl.1 (m_X3_fails l (code := nI 1) hM ) rfl rfl rfl hM.o0 hS rfl ⟨rfl, rfl, Nat.le_of_ble_eq_true rfl, Nat.le_of_ble_eq_true rfl⟩ (Nat.le_of_ble_eq_true rfl) dX3_breaks_23 ⟨Nat.le_of_ble_eq_true rfl, Nat.le_of_ble_eq_true rfl⟩) hS (fun r H7 locs hp hS => ?_)
      obtain ⟨rfl, hM9⟩ := hp
      have hM : MW G B0 o H H7 (enc S) sp sv (fun j => nI (t j)) (nI n) (nI tn) (nI 1) pl iw lt on ot nu di := hM.tr hM9
      have ho : o_break (S, n, L, tn, t) (nI jx) y c_ = (nI 1, nI 0, (S, n, L, tn, t)) := by
        unfold o_break
        simp only [ejx]
        repeat (first | rw [if_pos (by first | assumption | exact ⟨by assumption, by assumption⟩ | (constructor <;> omega) | omega | exact fun q => absurd q (by assumption) | exact fun q => absurd q.1 (by assumption) | exact fun q => absurd q.2 (by assumption) | exact Int32.not_lt.mpr (by assumption) | exact Int32.not_le.mp (by assumption) | exact fun q => q.2 (by assumption) | exact fun q => absurd q.1 (by omega))] | rw [if_neg (by first | assumption | exact ⟨by assumption, by assumption⟩ | (constructor <;> omega) | omega | exact fun q => absurd q (by assumption) | exact fun q => absurd q.1 (by assumption) | exact fun q => absurd q.2 (by assumption) | exact Int32.not_lt.mpr (by assumption) | exact Int32.not_le.mp (by assumption) | exact fun q => q.2 (by assumption) | exact fun q => absurd q.1 (by omega))])
        first | rfl | (unfold f_ok f_no z_save;  rfl)
      rw [← hQ]
      exact b_iret CX hr hlk hS (Nat.le_of_ble_eq_true rfl) (Nat.le_of_ble_eq_true rfl) dX3_breaks_26 ((by rw [ho]; exact ⟨rfl, _, _, _, _, _, _, _, _, _, hM, hSv⟩))
set_option maxHeartbeats 2000000 in
set_option maxRecDepth 100000 in
theorem m_X3_lose (l : Launch) {G : b_G} {B0 : Nat} {o : Nat → Nat} {Hr H : Heap} {S : b_St} {sp sv : Nat → Int32} {L : Nat → b_St} {t : Nat → Nat} {n tn : Nat} {th pl iw lt on ot nu di : Int32} {x : Int32} {b : Int32} (hM : MW G B0 o Hr H (enc S) sp sv (fun j => nI (t j)) (nI n) (nI tn) th pl iw lt on ot nu di) (hW : b_WF S) (hn : n ≤ 6) (ht : ∀ j, t j < 128) (htn : tn ≤ 60) (hSv : b_Sv sv n L) : Met l yX3_lose (ws_ yX3_lose cX3_lose 3 (Option.some Jvm.ClassFile.FieldType.int)) ({ frames := 3, cells := 0, slots := 0, locals := 64 } : Room) (b_Pc G B0 H [.ref (o 0), .int x, .int b]) (b_Qi B0 (fun r H1 => r = (o_lose (S, n, L, tn, t) x b).2.1 ∧ MZ G B0 o H H1 (o_lose (S, n, L, tn, t) x b).1 (o_lose (S, n, L, tn, t) x b).2.2)) 0 0 (b_A B0) := by
  refine b_of (by decide) (Nat.le_of_ble_eq_true rfl) ?_
  intro p e s m below meth c CX hr hlk hnm hS ls hl
  have CX : b_Cx p s m _ c cX3_lose 3 RX3 G B0 := CX
  have hx := CX.hx
  have hb := CX.hb
  have hl : lv_has ls 3 [(0, .ref (o 0)), (1, .int x), (2, .int b)] := hl
  generalize hQ : MQ below (b_Qi B0 (fun r H1 => r = (o_lose (S, n, L, tn, t) x b).2.1 ∧ MZ G B0 o H H1 (o_lose (S, n, L, tn, t) x b).1 (o_lose (S, n, L, tn, t) x b).2.2)) ([.ref (o 0), .int x, .int b] : List Value).toArray s 0 0 (b_A B0) = Q
  have hM := hM.re
  have hn8 := hW.nb8
  have hn6 := hW.ns6
  refine lv_aload_n hx hb dX3_lose_0 rfl (lv_at hl 0 rfl) ?_
  refine lv_iconst (v := nI 0) hx hb dX3_lose_1 rfl ?_
  refine pf_X3_28_8 CX hM.o0 hS (hM.B (by decide)) rfl rfl (Nat.le_of_ble_eq_true rfl) dX3_lose_2 (fun H1 locs hat hu hS => ?_)
  have hM : MW G B0 o H H1 (enc S) sp sv (fun j => nI (t j)) (nI n) (nI tn) (nI 0) pl iw lt on ot nu di := hM.set0 hat hu
  refine lv_aload_n hx hb dX3_lose_5 rfl (lv_at hl 0 rfl) ?_
  refine lv_iload_n hx hb dX3_lose_6 rfl (lv_at hl 1 rfl) ?_
  refine b_ci0 (cs_X3_85 (rest := []) CX hl.1 (m_X3_isBrand l (x := x) hM hW) rfl rfl rfl hM.o0 hS rfl ⟨rfl, rfl, Nat.le_of_ble_eq_true rfl, Nat.le_of_ble_eq_true rfl⟩ (Nat.le_of_ble_eq_true rfl) dX3_lose_7 ⟨Nat.le_of_ble_eq_true rfl, Nat.le_of_ble_eq_true rfl⟩) hS (fun locs hS => ?_)
  refine b_ifne (tgt := 19) CX dX3_lose_10 (by decide) (fun c_10 => ?_) (fun c_10 => ?_)
  · obtain ⟨jx, hjx, rfl⟩ := isB_lt hW c_10
    have ejx : ix (nI jx) = jx := ix_n (by omega)
    refine lv_iload_n hx hb dX3_lose_19 rfl (lv_at hl 2 rfl) ?_
    refine lv_iconst (v := nI 1) hx hb dX3_lose_20 rfl ?_
    refine lv_sipush (v := nI 5000) hx hb dX3_lose_21 rfl ?_
    refine b_ci0 (cs_X3_35 (rest := []) CX hl.1 (m_X3_in l (x := b) (lo := nI 1) (hi := nI 5000)  ) rfl hS rfl ⟨rfl, rfl, Nat.le_of_ble_eq_true rfl, Nat.le_of_ble_eq_true rfl⟩ (Nat.le_of_ble_eq_true rfl) dX3_lose_24 ⟨Nat.le_of_ble_eq_true rfl, Nat.le_of_ble_eq_true rfl⟩) hS (fun locs hS => ?_)
    refine b_ifne (tgt := 36) CX dX3_lose_27 (by decide) (fun c_27 => ?_) (fun c_27 => ?_)
    · refine lv_aload_n hx hb dX3_lose_36 rfl (lv_at hl 0 rfl) ?_
      refine lv_iload_n hx hb dX3_lose_37 rfl (lv_at hl 1 rfl) ?_
      refine lv_iconst (v := nI 3) hx hb dX3_lose_38 rfl ?_
      refine b_ci0 (cs_X3_46 (rest := []) CX hl.1 (m_X3_of l (b := jx) (w := 3) hM (by omega) (by omega)) rfl rfl rfl hM.o0 hS rfl ⟨rfl, rfl, Nat.le_of_ble_eq_true rfl, Nat.le_of_ble_eq_true rfl⟩ (Nat.le_of_ble_eq_true rfl) dX3_lose_39 ⟨Nat.le_of_ble_eq_true rfl, Nat.le_of_ble_eq_true rfl⟩) hS (fun locs hS => ?_)
      refine lv_iload_n hx hb dX3_lose_42 rfl (lv_at hl 2 rfl) ?_
      refine lv_icmp_ge (tgt := 52) hx hb dX3_lose_43 (by decide) (fun c_43 => ?_) (fun c_43 => ?_)
      · refine lv_aload_n hx hb dX3_lose_52 rfl (lv_at hl 0 rfl) ?_
        refine b_cv (cs_X3_53 (rest := []) CX hl.1 (m_X3_save l  hM hn) rfl rfl rfl hM.o0 hS rfl ⟨rfl, rfl, Nat.le_of_ble_eq_true rfl, Nat.le_of_ble_eq_true rfl⟩ (Nat.le_of_ble_eq_true rfl) dX3_lose_53 ⟨Nat.le_of_ble_eq_true rfl, Nat.le_of_ble_eq_true rfl⟩) hS (fun H2 locs hp hS => ?_)
        have hM9 := hp
        have hM : MW G B0 o H H2 (enc S) sp (p_sv sv (enc S) n) (fun j => nI (t j)) (nI (p_sn n)) (nI tn) (nI 0) pl iw lt on ot nu di := hM.tr hM9
        refine lv_aload_n hx hb dX3_lose_56 rfl (lv_at hl 0 rfl) ?_
        refine gf_X3_7_8 CX hM.o0 rfl dX3_lose_57 ?_
        refine lv_iload_n hx hb dX3_lose_60 rfl (lv_at hl 1 rfl) ?_
        refine lv_iconst (v := nI 3) hx hb dX3_lose_61 rfl ?_
        refine b_ci0 (cs_X3_39 (rest := [.ref (o 1)]) CX hl.1 (m_X3_brandAt l (b := jx) (w := 3)  ) rfl hS rfl ⟨rfl, rfl, Nat.le_of_ble_eq_true rfl, Nat.le_of_ble_eq_true rfl⟩ (Nat.le_of_ble_eq_true rfl) dX3_lose_62 ⟨Nat.le_of_ble_eq_true rfl, Nat.le_of_ble_eq_true rfl⟩) hS (fun locs hS => ?_)
        refine lv_dup2_11 hx hb dX3_lose_65 rfl rfl ?_
        refine b_ild CX hM.o1 (x := S 1 jx 3) (vp_in_nI (by omega) (by omega)) (b_at_nI (by omega) ((enc_1 _ (by omega) (by omega)))) dX3_lose_66 ?_
        refine lv_iload_n hx hb dX3_lose_67 rfl (lv_at hl 2 rfl) ?_
        refine lv_isub hx hb dX3_lose_68 ?_
        refine b_ist CX hM.o1 hS (hM.B (by decide)) (vp_in_nI (by omega) (by omega)) dX3_lose_69 (fun H3 locs hat hu hS => ?_)
        have hM : MW G B0 o H H3 (enc ((u3 S 1 jx 3 ((S 1 jx 3) - b)))) sp (p_sv sv (enc S) n) (fun j => nI (t j)) (nI (p_sn n)) (nI tn) (nI 0) pl iw lt on ot nu di := hM.set1 (b_up_nI (by omega) (enc_u1 _ (by omega) (by omega) _)) hat hu
        refine lv_aload_n hx hb dX3_lose_70 rfl (lv_at hl 0 rfl) ?_
        refine gf_X3_7_8 CX hM.o0 rfl dX3_lose_71 ?_
        refine lv_iload_n hx hb dX3_lose_74 rfl (lv_at hl 1 rfl) ?_
        refine lv_bipush (v := nI 6) hx hb dX3_lose_75 rfl ?_
        refine b_ci0 (cs_X3_39 (rest := [.ref (o 1)]) CX hl.1 (m_X3_brandAt l (b := jx) (w := 6)  ) rfl hS rfl ⟨rfl, rfl, Nat.le_of_ble_eq_true rfl, Nat.le_of_ble_eq_true rfl⟩ (Nat.le_of_ble_eq_true rfl) dX3_lose_77 ⟨Nat.le_of_ble_eq_true rfl, Nat.le_of_ble_eq_true rfl⟩) hS (fun locs hS => ?_)
        refine lv_dup2_11 hx hb dX3_lose_80 rfl rfl ?_
        refine b_ild CX hM.o1 (x := S 1 jx 6) (vp_in_nI (by omega) (by omega)) (b_at_nI (by omega) ((enc_1 _ (by omega) (by omega)).trans (by simp [u3]))) dX3_lose_81 ?_
        refine lv_iload_n hx hb dX3_lose_82 rfl (lv_at hl 2 rfl) ?_
        refine lv_iadd hx hb dX3_lose_83 ?_
        refine b_ist CX hM.o1 hS (hM.B (by decide)) (vp_in_nI (by omega) (by omega)) dX3_lose_84 (fun H4 locs hat hu hS => ?_)
        have hM : MW G B0 o H H4 (enc ((u3 (u3 S 1 jx 3 ((S 1 jx 3) - b)) 1 jx 6 ((S 1 jx 6) + b)))) sp (p_sv sv (enc S) n) (fun j => nI (t j)) (nI (p_sn n)) (nI tn) (nI 0) pl iw lt on ot nu di := hM.set1 (b_up_nI (by omega) (enc_u1 _ (by omega) (by omega) _)) hat hu
        refine lv_aload_n hx hb dX3_lose_85 rfl (lv_at hl 0 rfl) ?_
        refine gf_X3_7_8 CX hM.o0 rfl dX3_lose_86 ?_
        refine lv_iconst (v := nI 4) hx hb dX3_lose_89 rfl ?_
        refine lv_dup2_11 hx hb dX3_lose_90 rfl rfl ?_
        refine b_ild CX hM.o1 (x := S 0 0 4) (vp_in_nI (by omega) (by omega)) (b_at_nI (by omega) ((enc_0 _ (by decide)).trans (by simp [u3]))) dX3_lose_91 ?_
        refine lv_iload_n hx hb dX3_lose_92 rfl (lv_at hl 2 rfl) ?_
        refine lv_aload_n hx hb dX3_lose_93 rfl (lv_at hl 0 rfl) ?_
        refine lv_iload_n hx hb dX3_lose_94 rfl (lv_at hl 1 rfl) ?_
        refine b_ci0 (cs_X3_73 (rest := [.int b, .int (S 0 0 4), .int (nI 4), .ref (o 1)]) CX hl.1 (m_X3_deposit l (b := jx) hM ((hW.up (by omega) (by omega)).up (by omega) (by omega)) (by omega)) rfl rfl rfl hM.o0 hS rfl ⟨rfl, rfl, Nat.le_of_ble_eq_true rfl, Nat.le_of_ble_eq_true rfl⟩ (Nat.le_of_ble_eq_true rfl) dX3_lose_95 ⟨Nat.le_of_ble_eq_true rfl, Nat.le_of_ble_eq_true rfl⟩) hS (fun locs hS => ?_)
        refine b_top (x := ((u3 (u3 S 1 jx 3 ((S 1 jx 3) - b)) 1 jx 6 ((S 1 jx 6) + b))) 0 0 (7 + kd ((u3 (u3 S 1 jx 3 ((S 1 jx 3) - b)) 1 jx 6 ((S 1 jx 6) + b))) jx)) (y := p_dep S jx) (by simp [u3, p_dep, kd]) ?_
        refine lv_imul hx hb dX3_lose_98 ?_
        refine lv_iadd hx hb dX3_lose_99 ?_
        refine b_ist CX hM.o1 hS (hM.B (by decide)) (vp_in_nI (by omega) (by omega)) dX3_lose_100 (fun H5 locs hat hu hS => ?_)
        have hM : MW G B0 o H H5 (enc ((u3 (u3 (u3 S 1 jx 3 ((S 1 jx 3) - b)) 1 jx 6 ((S 1 jx 6) + b)) 0 0 4 ((S 0 0 4) + (b * (p_dep S jx)))))) sp (p_sv sv (enc S) n) (fun j => nI (t j)) (nI (p_sn n)) (nI tn) (nI 0) pl iw lt on ot nu di := hM.set1 (b_up_nI (by omega) (enc_u0 _ (by decide) _)) hat hu
        refine lv_aload_n hx hb dX3_lose_101 rfl (lv_at hl 0 rfl) ?_
        refine lv_iload_n hx hb dX3_lose_102 rfl (lv_at hl 1 rfl) ?_
        refine lv_iconst (v := nI 3) hx hb dX3_lose_103 rfl ?_
        refine b_ci0 (cs_X3_46 (rest := []) CX hl.1 (m_X3_of l (b := jx) (w := 3) hM (by omega) (by omega)) rfl rfl rfl hM.o0 hS rfl ⟨rfl, rfl, Nat.le_of_ble_eq_true rfl, Nat.le_of_ble_eq_true rfl⟩ (Nat.le_of_ble_eq_true rfl) dX3_lose_104 ⟨Nat.le_of_ble_eq_true rfl, Nat.le_of_ble_eq_true rfl⟩) hS (fun locs hS => ?_)
        refine b_top (x := ((u3 (u3 (u3 S 1 jx 3 ((S 1 jx 3) - b)) 1 jx 6 ((S 1 jx 6) + b)) 0 0 4 ((S 0 0 4) + (b * (p_dep S jx))))) 1 jx 3) (y := S 1 jx 3 - b) (by simp [u3]) ?_
        have ho : o_lose (S, n, L, tn, t) (nI jx) b = (nI 0, S 1 jx 3 - b, ((u3 (u3 (u3 S 1 jx 3 ((S 1 jx 3) - b)) 1 jx 6 ((S 1 jx 6) + b)) 0 0 4 ((S 0 0 4) + (b * (p_dep S jx)))), p_sn n, (p_L L S n), tn, t)) := by
          unfold o_lose
          simp only [ejx]
          repeat (first | rw [if_pos (by first | assumption | exact ⟨by assumption, by assumption⟩ | (constructor <;> omega) | omega | exact fun q => absurd q (by assumption) | exact fun q => absurd q.1 (by assumption) | exact fun q => absurd q.2 (by assumption) | exact Int32.not_lt.mpr (by assumption) | exact Int32.not_le.mp (by assumption) | exact fun q => q.2 (by assumption) | exact fun q => absurd q.1 (by omega))] | rw [if_neg (by first | assumption | exact ⟨by assumption, by assumption⟩ | (constructor <;> omega) | omega | exact fun q => absurd q (by assumption) | exact fun q => absurd q.1 (by assumption) | exact fun q => absurd q.2 (by assumption) | exact Int32.not_lt.mpr (by assumption) | exact Int32.not_le.mp (by assumption) | exact fun q => q.2 (by assumption) | exact fun q => absurd q.1 (by omega))])
          first | rfl | (unfold f_ok f_no z_save;  rfl)
        rw [← hQ]
        exact b_iret CX hr hlk hS (Nat.le_of_ble_eq_true rfl) (Nat.le_of_ble_eq_true rfl) dX3_lose_107 ((by rw [ho]; exact ⟨rfl, _, _, _, _, _, _, _, _, _, hM, (hSv.save hn _)⟩))
      · refine lv_aload_n hx hb dX3_lose_46 rfl (lv_at hl 0 rfl) ?_
        refine lv_iconst (v := nI 3) hx hb dX3_lose_47 rfl ?_
        refine b_ci (cs_X3_49 (rest := []) CX hl.1 (m_X3_fails l (code := nI 3) hM ) rfl rfl rfl hM.o0 hS rfl ⟨rfl, rfl, Nat.le_of_ble_eq_true rfl, Nat.le_of_ble_eq_true rfl⟩ (Nat.le_of_ble_eq_true rfl) dX3_lose_48 ⟨Nat.le_of_ble_eq_true rfl, Nat.le_of_ble_eq_true rfl⟩) hS (fun r H6 locs hp hS => ?_)
        obtain ⟨rfl, hM9⟩ := hp
        have hM : MW G B0 o H H6 (enc S) sp sv (fun j => nI (t j)) (nI n) (nI tn) (nI 3) pl iw lt on ot nu di := hM.tr hM9
        have ho : o_lose (S, n, L, tn, t) (nI jx) b = (nI 3, nI 0, (S, n, L, tn, t)) := by
          unfold o_lose
          simp only [ejx]
          repeat (first | rw [if_pos (by first | assumption | exact ⟨by assumption, by assumption⟩ | (constructor <;> omega) | omega | exact fun q => absurd q (by assumption) | exact fun q => absurd q.1 (by assumption) | exact fun q => absurd q.2 (by assumption) | exact Int32.not_lt.mpr (by assumption) | exact Int32.not_le.mp (by assumption) | exact fun q => q.2 (by assumption) | exact fun q => absurd q.1 (by omega))] | rw [if_neg (by first | assumption | exact ⟨by assumption, by assumption⟩ | (constructor <;> omega) | omega | exact fun q => absurd q (by assumption) | exact fun q => absurd q.1 (by assumption) | exact fun q => absurd q.2 (by assumption) | exact Int32.not_lt.mpr (by assumption) | exact Int32.not_le.mp (by assumption) | exact fun q => q.2 (by assumption) | exact fun q => absurd q.1 (by omega))])
          first | rfl | (unfold f_ok f_no z_save;  rfl)
        rw [← hQ]
        exact b_iret CX hr hlk hS (Nat.le_of_ble_eq_true rfl) (Nat.le_of_ble_eq_true rfl) dX3_lose_51 ((by rw [ho]; exact ⟨rfl, _, _, _, _, _, _, _, _, _, hM, hSv⟩))
    · refine lv_aload_n hx hb dX3_lose_30 rfl (lv_at hl 0 rfl) ?_
      refine lv_iconst (v := nI 2) hx hb dX3_lose_31 rfl ?_
      refine b_ci (cs_X3_49 (rest := []) CX hl.1 (m_X3_fails l (code := nI 2) hM ) rfl rfl rfl hM.o0 hS rfl ⟨rfl, rfl, Nat.le_of_ble_eq_true rfl, Nat.le_of_ble_eq_true rfl⟩ (Nat.le_of_ble_eq_true rfl) dX3_lose_32 ⟨Nat.le_of_ble_eq_true rfl, Nat.le_of_ble_eq_true rfl⟩) hS (fun r H7 locs hp hS => ?_)
      obtain ⟨rfl, hM9⟩ := hp
      have hM : MW G B0 o H H7 (enc S) sp sv (fun j => nI (t j)) (nI n) (nI tn) (nI 2) pl iw lt on ot nu di := hM.tr hM9
      have ho : o_lose (S, n, L, tn, t) (nI jx) b = (nI 2, nI 0, (S, n, L, tn, t)) := by
        unfold o_lose
        simp only [ejx]
        repeat (first | rw [if_pos (by first | assumption | exact ⟨by assumption, by assumption⟩ | (constructor <;> omega) | omega | exact fun q => absurd q (by assumption) | exact fun q => absurd q.1 (by assumption) | exact fun q => absurd q.2 (by assumption) | exact Int32.not_lt.mpr (by assumption) | exact Int32.not_le.mp (by assumption) | exact fun q => q.2 (by assumption) | exact fun q => absurd q.1 (by omega))] | rw [if_neg (by first | assumption | exact ⟨by assumption, by assumption⟩ | (constructor <;> omega) | omega | exact fun q => absurd q (by assumption) | exact fun q => absurd q.1 (by assumption) | exact fun q => absurd q.2 (by assumption) | exact Int32.not_lt.mpr (by assumption) | exact Int32.not_le.mp (by assumption) | exact fun q => q.2 (by assumption) | exact fun q => absurd q.1 (by omega))])
        first | rfl | (unfold f_ok f_no z_save;  rfl)
      rw [← hQ]
      exact b_iret CX hr hlk hS (Nat.le_of_ble_eq_true rfl) (Nat.le_of_ble_eq_true rfl) dX3_lose_35 ((by rw [ho]; exact ⟨rfl, _, _, _, _, _, _, _, _, _, hM, hSv⟩))
  · refine lv_aload_n hx hb dX3_lose_13 rfl (lv_at hl 0 rfl) ?_
    refine lv_iconst (v := nI 1) hx hb dX3_lose_14 rfl ?_
    refine b_ci (cs_X3_49 (rest := []) CX hl.1 (m_X3_fails l (code := nI 1) hM ) rfl rfl rfl hM.o0 hS rfl ⟨rfl, rfl, Nat.le_of_ble_eq_true rfl, Nat.le_of_ble_eq_true rfl⟩ (Nat.le_of_ble_eq_true rfl) dX3_lose_15 ⟨Nat.le_of_ble_eq_true rfl, Nat.le_of_ble_eq_true rfl⟩) hS (fun r H8 locs hp hS => ?_)
    obtain ⟨rfl, hM9⟩ := hp
    have hM : MW G B0 o H H8 (enc S) sp sv (fun j => nI (t j)) (nI n) (nI tn) (nI 1) pl iw lt on ot nu di := hM.tr hM9
    have ho : o_lose (S, n, L, tn, t) x b = (nI 1, nI 0, (S, n, L, tn, t)) := by
      unfold o_lose
      repeat (first | rw [if_pos (by first | assumption | exact ⟨by assumption, by assumption⟩ | (constructor <;> omega) | omega | exact fun q => absurd q (by assumption) | exact fun q => absurd q.1 (by assumption) | exact fun q => absurd q.2 (by assumption) | exact Int32.not_lt.mpr (by assumption) | exact Int32.not_le.mp (by assumption) | exact fun q => q.2 (by assumption) | exact fun q => absurd q.1 (by omega))] | rw [if_neg (by first | assumption | exact ⟨by assumption, by assumption⟩ | (constructor <;> omega) | omega | exact fun q => absurd q (by assumption) | exact fun q => absurd q.1 (by assumption) | exact fun q => absurd q.2 (by assumption) | exact Int32.not_lt.mpr (by assumption) | exact Int32.not_le.mp (by assumption) | exact fun q => q.2 (by assumption) | exact fun q => absurd q.1 (by omega))])
      first | rfl | (unfold f_ok f_no z_save;  rfl)
    rw [← hQ]
    exact b_iret CX hr hlk hS (Nat.le_of_ble_eq_true rfl) (Nat.le_of_ble_eq_true rfl) dX3_lose_18 ((by rw [ho]; exact ⟨rfl, _, _, _, _, _, _, _, _, _, hM, hSv⟩))
theorem pf_X3_129_8 {p : Program} {l : Launch} {e : Env} {R : Room} {s : State} {m : MethodId} {args : Array Value} {below : List Frame} {meth : Method} {c : Code} {H : Heap} {locs : List Loc} {cells slots : Nat} {Q : State → Prop} {cc : ByteArray} {pc nL a : Nat} {ls : Array Slot} {rest : List Value} {G : b_G} {B0 : Nat} (CX : b_Cx p s m args c cc nL RX3 G B0) {fs : List Value} (hP : b_at G a (.inr (8, fs)) H) (hS : va_S (b_A B0) s.heap H locs) (ha : B0 ≤ a) {v : Value} (hn : narrow (tyX3 5) v = v) (hfit : fits (tyX3 5) v = true) (hl : 5 < fs.length) (hdg : decode cc pc = .ok (.putfield 129, 3)) (kk : ∀ (H1 : Heap) (locs1 : List Loc), b_at G a (.inr (8, fs.set 5 v)) H1 → b_Up a H H1 → va_S (b_A B0) s.heap H1 locs1 → W p l e R s m args below meth c H1 locs1 cells slots Q (F0 m (pc + 3) ls rest)) : W p l e R s m args below meth c H locs cells slots Q (F0 m pc ls (v :: .ref a :: rest)) := b_put CX in_X3 tyX3 tyX3_ok rfl 5 (by decide) (by decide +kernel) q1851 (Or.inl rfl) rfl hP hS ha hn hfit hl hdg kk
set_option maxHeartbeats 2000000 in
set_option maxRecDepth 100000 in
theorem m_X3_append (l : Launch) {G : b_G} {B0 : Nat} {o : Nat → Nat} {Hr H : Heap} {S : b_St} {sp sv : Nat → Int32} {L : Nat → b_St} {t : Nat → Nat} {n tn : Nat} {th pl iw lt on ot nu di : Int32} {b : Int32} (hM : MW G B0 o Hr H (enc S) sp sv (fun j => nI (t j)) (nI n) (nI tn) th pl iw lt on ot nu di) (hW : b_WF S) (hn : n ≤ 6) (ht : ∀ j, t j < 128) (htn : tn ≤ 60) (hSv : b_Sv sv n L) : Met l yX3_append (ws_ yX3_append cX3_append 2 (Option.some Jvm.ClassFile.FieldType.int)) ({ frames := 1, cells := 0, slots := 0, locals := 22 } : Room) (b_Pc G B0 H [.ref (o 0), .int b]) (b_Qi B0 (fun r H1 => r = (o_append (S, n, L, tn, t) b).2.1 ∧ MZ G B0 o H H1 (o_append (S, n, L, tn, t) b).1 (o_append (S, n, L, tn, t) b).2.2)) 0 0 (b_A B0) := by
  refine b_of (by decide) (Nat.le_of_ble_eq_true rfl) ?_
  intro p e s m below meth c CX hr hlk hnm hS ls hl
  have CX : b_Cx p s m _ c cX3_append 2 RX3 G B0 := CX
  have hx := CX.hx
  have hb := CX.hb
  have hl : lv_has ls 2 [(0, .ref (o 0)), (1, .int b)] := hl
  generalize hQ : MQ below (b_Qi B0 (fun r H1 => r = (o_append (S, n, L, tn, t) b).2.1 ∧ MZ G B0 o H H1 (o_append (S, n, L, tn, t) b).1 (o_append (S, n, L, tn, t) b).2.2)) ([.ref (o 0), .int b] : List Value).toArray s 0 0 (b_A B0) = Q
  have hM := hM.re
  have hn8 := hW.nb8
  have hn6 := hW.ns6
  refine lv_aload_n hx hb dX3_append_0 rfl (lv_at hl 0 rfl) ?_
  refine lv_iconst (v := nI 0) hx hb dX3_append_1 rfl ?_
  refine pf_X3_28_8 CX hM.o0 hS (hM.B (by decide)) rfl rfl (Nat.le_of_ble_eq_true rfl) dX3_append_2 (fun H1 locs hat hu hS => ?_)
  have hM : MW G B0 o H H1 (enc S) sp sv (fun j => nI (t j)) (nI n) (nI tn) (nI 0) pl iw lt on ot nu di := hM.set0 hat hu
  refine lv_iload_n hx hb dX3_append_5 rfl (lv_at hl 1 rfl) ?_
  refine lv_bipush (v := nI 33) hx hb dX3_append_6 rfl ?_
  refine lv_bipush (v := nI 126) hx hb dX3_append_8 rfl ?_
  refine b_ci0 (cs_X3_35 (rest := []) CX hl.1 (m_X3_in l (x := b) (lo := nI 33) (hi := nI 126)  ) rfl hS rfl ⟨rfl, rfl, Nat.le_of_ble_eq_true rfl, Nat.le_of_ble_eq_true rfl⟩ (Nat.le_of_ble_eq_true rfl) dX3_append_10 ⟨Nat.le_of_ble_eq_true rfl, Nat.le_of_ble_eq_true rfl⟩) hS (fun locs hS => ?_)
  refine b_ifne (tgt := 22) CX dX3_append_13 (by decide) (fun c_13 => ?_) (fun c_13 => ?_)
  · obtain ⟨jb, hjba, hjbb, rfl⟩ := p_rg (by decide) c_13 (by decide)
    have ejb : ix (nI jb) = jb := ix_n (by omega)
    refine lv_aload_n hx hb dX3_append_22 rfl (lv_at hl 0 rfl) ?_
    refine gf_X3_129_8 CX hM.o0 rfl dX3_append_23 ?_
    refine lv_bipush (v := nI 60) hx hb dX3_append_26 rfl ?_
    refine b_icmp_neN (tgt := 37) CX (by omega) (by omega) dX3_append_28 (by decide) (fun c_28 => ?_) (fun c_28 => ?_)
    · refine lv_aload_n hx hb dX3_append_37 rfl (lv_at hl 0 rfl) ?_
      refine gf_X3_19_8 CX hM.o0 rfl dX3_append_38 ?_
      refine lv_aload_n hx hb dX3_append_41 rfl (lv_at hl 0 rfl) ?_
      refine gf_X3_129_8 CX hM.o0 rfl dX3_append_42 ?_
      refine lv_iload_n hx hb dX3_append_45 rfl (lv_at hl 1 rfl) ?_
      refine b_ist CX hM.o4 hS (hM.B (by decide)) (vp_in_nI (by omega) (by omega)) dX3_append_46 (fun H2 locs hat hu hS => ?_)
      have hM : MW G B0 o H H2 (enc S) sp sv (fun j => nI (updT t tn jb j)) (nI n) (nI tn) (nI 0) pl iw lt on ot nu di := hM.set4 (b_up_nI (by omega) (updT_e _ _ _)) hat hu
      refine lv_aload_n hx hb dX3_append_47 rfl (lv_at hl 0 rfl) ?_
      refine lv_dup hx hb dX3_append_48 rfl ?_
      refine gf_X3_129_8 CX hM.o0 rfl dX3_append_49 ?_
      refine lv_iconst (v := nI 1) hx hb dX3_append_52 rfl ?_
      refine b_iaddN CX dX3_append_53 ?_
      refine pf_X3_129_8 CX hM.o0 hS (hM.B (by decide)) rfl rfl (Nat.le_of_ble_eq_true rfl) dX3_append_54 (fun H3 locs hat hu hS => ?_)
      have hM : MW G B0 o H H3 (enc S) sp sv (fun j => nI (updT t tn jb j)) (nI n) (nI (tn + 1)) (nI 0) pl iw lt on ot nu di := hM.set0 hat hu
      refine lv_aload_n hx hb dX3_append_57 rfl (lv_at hl 0 rfl) ?_
      refine gf_X3_129_8 CX hM.o0 rfl dX3_append_58 ?_
      have ho : o_append (S, n, L, tn, t) (nI jb) = (nI 0, nI (tn + 1), (S, n, L, tn + 1, (updT t tn jb))) := by
        unfold o_append
        simp only [ejb]
        repeat (first | rw [if_pos (by first | assumption | exact ⟨by assumption, by assumption⟩ | (constructor <;> omega) | omega | exact fun q => absurd q (by assumption) | exact fun q => absurd q.1 (by assumption) | exact fun q => absurd q.2 (by assumption) | exact Int32.not_lt.mpr (by assumption) | exact Int32.not_le.mp (by assumption) | exact fun q => q.2 (by assumption) | exact fun q => absurd q.1 (by omega))] | rw [if_neg (by first | assumption | exact ⟨by assumption, by assumption⟩ | (constructor <;> omega) | omega | exact fun q => absurd q (by assumption) | exact fun q => absurd q.1 (by assumption) | exact fun q => absurd q.2 (by assumption) | exact Int32.not_lt.mpr (by assumption) | exact Int32.not_le.mp (by assumption) | exact fun q => q.2 (by assumption) | exact fun q => absurd q.1 (by omega))])
        first | rfl | (unfold f_ok f_no z_save;  rfl)
      rw [← hQ]
      exact b_iret CX hr hlk hS (Nat.le_of_ble_eq_true rfl) (Nat.le_of_ble_eq_true rfl) dX3_append_61 ((by rw [ho]; exact ⟨rfl, _, _, _, _, _, _, _, _, _, hM, hSv⟩))
    · refine lv_aload_n hx hb dX3_append_31 rfl (lv_at hl 0 rfl) ?_
      refine lv_iconst (v := nI 2) hx hb dX3_append_32 rfl ?_
      refine b_ci (cs_X3_49 (rest := []) CX hl.1 (m_X3_fails l (code := nI 2) hM ) rfl rfl rfl hM.o0 hS rfl ⟨rfl, rfl, Nat.le_of_ble_eq_true rfl, Nat.le_of_ble_eq_true rfl⟩ (Nat.le_of_ble_eq_true rfl) dX3_append_33 ⟨Nat.le_of_ble_eq_true rfl, Nat.le_of_ble_eq_true rfl⟩) hS (fun r H4 locs hp hS => ?_)
      obtain ⟨rfl, hM9⟩ := hp
      have hM : MW G B0 o H H4 (enc S) sp sv (fun j => nI (t j)) (nI n) (nI tn) (nI 2) pl iw lt on ot nu di := hM.tr hM9
      have ho : o_append (S, n, L, tn, t) (nI jb) = (nI 2, nI 0, (S, n, L, tn, t)) := by
        unfold o_append
        simp only [ejb]
        repeat (first | rw [if_pos (by first | assumption | exact ⟨by assumption, by assumption⟩ | (constructor <;> omega) | omega | exact fun q => absurd q (by assumption) | exact fun q => absurd q.1 (by assumption) | exact fun q => absurd q.2 (by assumption) | exact Int32.not_lt.mpr (by assumption) | exact Int32.not_le.mp (by assumption) | exact fun q => q.2 (by assumption) | exact fun q => absurd q.1 (by omega))] | rw [if_neg (by first | assumption | exact ⟨by assumption, by assumption⟩ | (constructor <;> omega) | omega | exact fun q => absurd q (by assumption) | exact fun q => absurd q.1 (by assumption) | exact fun q => absurd q.2 (by assumption) | exact Int32.not_lt.mpr (by assumption) | exact Int32.not_le.mp (by assumption) | exact fun q => q.2 (by assumption) | exact fun q => absurd q.1 (by omega))])
        first | rfl | (unfold f_ok f_no z_save;  rfl)
      rw [← hQ]
      exact b_iret CX hr hlk hS (Nat.le_of_ble_eq_true rfl) (Nat.le_of_ble_eq_true rfl) dX3_append_36 ((by rw [ho]; exact ⟨rfl, _, _, _, _, _, _, _, _, _, hM, hSv⟩))
  · refine lv_aload_n hx hb dX3_append_16 rfl (lv_at hl 0 rfl) ?_
    refine lv_iconst (v := nI 1) hx hb dX3_append_17 rfl ?_
    refine b_ci (cs_X3_49 (rest := []) CX hl.1 (m_X3_fails l (code := nI 1) hM ) rfl rfl rfl hM.o0 hS rfl ⟨rfl, rfl, Nat.le_of_ble_eq_true rfl, Nat.le_of_ble_eq_true rfl⟩ (Nat.le_of_ble_eq_true rfl) dX3_append_18 ⟨Nat.le_of_ble_eq_true rfl, Nat.le_of_ble_eq_true rfl⟩) hS (fun r H5 locs hp hS => ?_)
    obtain ⟨rfl, hM9⟩ := hp
    have hM : MW G B0 o H H5 (enc S) sp sv (fun j => nI (t j)) (nI n) (nI tn) (nI 1) pl iw lt on ot nu di := hM.tr hM9
    have ho : o_append (S, n, L, tn, t) b = (nI 1, nI 0, (S, n, L, tn, t)) := by
      unfold o_append
      repeat (first | rw [if_pos (by first | assumption | exact ⟨by assumption, by assumption⟩ | (constructor <;> omega) | omega | exact fun q => absurd q (by assumption) | exact fun q => absurd q.1 (by assumption) | exact fun q => absurd q.2 (by assumption) | exact Int32.not_lt.mpr (by assumption) | exact Int32.not_le.mp (by assumption) | exact fun q => q.2 (by assumption) | exact fun q => absurd q.1 (by omega))] | rw [if_neg (by first | assumption | exact ⟨by assumption, by assumption⟩ | (constructor <;> omega) | omega | exact fun q => absurd q (by assumption) | exact fun q => absurd q.1 (by assumption) | exact fun q => absurd q.2 (by assumption) | exact Int32.not_lt.mpr (by assumption) | exact Int32.not_le.mp (by assumption) | exact fun q => q.2 (by assumption) | exact fun q => absurd q.1 (by omega))])
      first | rfl | (unfold f_ok f_no z_save;  rfl)
    rw [← hQ]
    exact b_iret CX hr hlk hS (Nat.le_of_ble_eq_true rfl) (Nat.le_of_ble_eq_true rfl) dX3_append_21 ((by rw [ho]; exact ⟨rfl, _, _, _, _, _, _, _, _, _, hM, hSv⟩))
set_option maxHeartbeats 2000000 in
set_option maxRecDepth 100000 in
theorem m_X3_clearBuffer (l : Launch) {G : b_G} {B0 : Nat} {o : Nat → Nat} {Hr H : Heap} {S : b_St} {sp sv : Nat → Int32} {L : Nat → b_St} {t : Nat → Nat} {n tn : Nat} {th pl iw lt on ot nu di : Int32} (hM : MW G B0 o Hr H (enc S) sp sv (fun j => nI (t j)) (nI n) (nI tn) th pl iw lt on ot nu di) (hW : b_WF S) (hn : n ≤ 6) (ht : ∀ j, t j < 128) (htn : tn ≤ 60) (hSv : b_Sv sv n L) : Met l yX3_clearBuffer (ws_ yX3_clearBuffer cX3_clearBuffer 2 (Option.some Jvm.ClassFile.FieldType.int)) ({ frames := 0, cells := 0, slots := 0, locals := 0 } : Room) (b_Pc G B0 H [.ref (o 0)]) (b_Qi B0 (fun r H1 => r = (o_clear (S, n, L, tn, t) ).2.1 ∧ MZ G B0 o H H1 (o_clear (S, n, L, tn, t) ).1 (o_clear (S, n, L, tn, t) ).2.2)) 0 0 (b_A B0) := by
  refine b_of (by decide) (Nat.le_of_ble_eq_true rfl) ?_
  intro p e s m below meth c CX hr hlk hnm hS ls hl
  have CX : b_Cx p s m _ c cX3_clearBuffer 2 RX3 G B0 := CX
  have hx := CX.hx
  have hb := CX.hb
  have hl : lv_has ls 2 [(0, .ref (o 0))] := hl
  generalize hQ : MQ below (b_Qi B0 (fun r H1 => r = (o_clear (S, n, L, tn, t) ).2.1 ∧ MZ G B0 o H H1 (o_clear (S, n, L, tn, t) ).1 (o_clear (S, n, L, tn, t) ).2.2)) ([.ref (o 0)] : List Value).toArray s 0 0 (b_A B0) = Q
  have hM := hM.re
  have hn8 := hW.nb8
  have hn6 := hW.ns6
  refine lv_aload_n hx hb dX3_clearBuffer_0 rfl (lv_at hl 0 rfl) ?_
  refine lv_iconst (v := nI 0) hx hb dX3_clearBuffer_1 rfl ?_
  refine pf_X3_28_8 CX hM.o0 hS (hM.B (by decide)) rfl rfl (Nat.le_of_ble_eq_true rfl) dX3_clearBuffer_2 (fun H1 locs hat hu hS => ?_)
  have hM : MW G B0 o H H1 (enc S) sp sv (fun j => nI (t j)) (nI n) (nI tn) (nI 0) pl iw lt on ot nu di := hM.set0 hat hu
  refine lv_aload_n hx hb dX3_clearBuffer_5 rfl (lv_at hl 0 rfl) ?_
  refine gf_X3_129_8 CX hM.o0 rfl dX3_clearBuffer_6 ?_
  refine lv_istore_n (lv' := [(1, .int (nI tn)), (0, .ref (o 0))]) hx hb dX3_clearBuffer_9 rfl hl (Nat.le_of_ble_eq_true rfl) rfl (fun ls hl => ?_)
  refine lv_aload_n hx hb dX3_clearBuffer_10 rfl (lv_at hl 1 rfl) ?_
  refine lv_iconst (v := nI 0) hx hb dX3_clearBuffer_11 rfl ?_
  refine pf_X3_129_8 CX hM.o0 hS (hM.B (by decide)) rfl rfl (Nat.le_of_ble_eq_true rfl) dX3_clearBuffer_12 (fun H2 locs hat hu hS => ?_)
  have hM : MW G B0 o H H2 (enc S) sp sv (fun j => nI (t j)) (nI n) (nI 0) (nI 0) pl iw lt on ot nu di := hM.set0 hat hu
  refine lv_iload_n hx hb dX3_clearBuffer_15 rfl (lv_at hl 0 rfl) ?_
  have ho : o_clear (S, n, L, tn, t)  = (nI 0, nI tn, (S, n, L, 0, t)) := by
    unfold o_clear
    repeat (first | rw [if_pos (by first | assumption | exact ⟨by assumption, by assumption⟩ | (constructor <;> omega) | omega | exact fun q => absurd q (by assumption) | exact fun q => absurd q.1 (by assumption) | exact fun q => absurd q.2 (by assumption) | exact Int32.not_lt.mpr (by assumption) | exact Int32.not_le.mp (by assumption) | exact fun q => q.2 (by assumption) | exact fun q => absurd q.1 (by omega))] | rw [if_neg (by first | assumption | exact ⟨by assumption, by assumption⟩ | (constructor <;> omega) | omega | exact fun q => absurd q (by assumption) | exact fun q => absurd q.1 (by assumption) | exact fun q => absurd q.2 (by assumption) | exact Int32.not_lt.mpr (by assumption) | exact Int32.not_le.mp (by assumption) | exact fun q => q.2 (by assumption) | exact fun q => absurd q.1 (by omega))])
    first | rfl | (unfold f_ok f_no z_save;  rfl)
  rw [← hQ]
  exact b_iret CX hr hlk hS (Nat.le_of_ble_eq_true rfl) (Nat.le_of_ble_eq_true rfl) dX3_clearBuffer_16 ((by rw [ho]; exact ⟨rfl, _, _, _, _, _, _, _, _, _, hM, hSv⟩))
set_option maxHeartbeats 2000000 in
set_option maxRecDepth 100000 in
theorem m_X3_brand (l : Launch) {G : b_G} {B0 : Nat} {o : Nat → Nat} {Hr H : Heap} {S : b_St} {sp sv : Nat → Int32} {L : Nat → b_St} {t : Nat → Nat} {n tn : Nat} {th pl iw lt on ot nu di : Int32} {x : Int32} {k : Int32} (hM : MW G B0 o Hr H (enc S) sp sv (fun j => nI (t j)) (nI n) (nI tn) th pl iw lt on ot nu di) (hW : b_WF S) (hn : n ≤ 6) (ht : ∀ j, t j < 128) (htn : tn ≤ 60) (hSv : b_Sv sv n L) : Met l yX3_brand (ws_ yX3_brand cX3_brand 3 (Option.some Jvm.ClassFile.FieldType.int)) ({ frames := 4, cells := 0, slots := 0, locals := 89 } : Room) (b_Pc G B0 H [.ref (o 0), .int x, .int k]) (b_Qi B0 (fun r H1 => r = (o_brand (S, n, L, tn, t) x k).2.1 ∧ MZ G B0 o H H1 (o_brand (S, n, L, tn, t) x k).1 (o_brand (S, n, L, tn, t) x k).2.2)) 0 0 (b_A B0) := by
  refine b_of (by decide) (Nat.le_of_ble_eq_true rfl) ?_
  intro p e s m below meth c CX hr hlk hnm hS ls hl
  have CX : b_Cx p s m _ c cX3_brand 3 RX3 G B0 := CX
  have hx := CX.hx
  have hb := CX.hb
  have hl : lv_has ls 3 [(0, .ref (o 0)), (1, .int x), (2, .int k)] := hl
  generalize hQ : MQ below (b_Qi B0 (fun r H1 => r = (o_brand (S, n, L, tn, t) x k).2.1 ∧ MZ G B0 o H H1 (o_brand (S, n, L, tn, t) x k).1 (o_brand (S, n, L, tn, t) x k).2.2)) ([.ref (o 0), .int x, .int k] : List Value).toArray s 0 0 (b_A B0) = Q
  have hM := hM.re
  have hn8 := hW.nb8
  have hn6 := hW.ns6
  refine lv_aload_n hx hb dX3_brand_0 rfl (lv_at hl 0 rfl) ?_
  refine lv_iconst (v := nI 0) hx hb dX3_brand_1 rfl ?_
  refine pf_X3_28_8 CX hM.o0 hS (hM.B (by decide)) rfl rfl (Nat.le_of_ble_eq_true rfl) dX3_brand_2 (fun H1 locs hat hu hS => ?_)
  have hM : MW G B0 o H H1 (enc S) sp sv (fun j => nI (t j)) (nI n) (nI tn) (nI 0) pl iw lt on ot nu di := hM.set0 hat hu
  refine lv_aload_n hx hb dX3_brand_5 rfl (lv_at hl 0 rfl) ?_
  refine lv_iload_n hx hb dX3_brand_6 rfl (lv_at hl 1 rfl) ?_
  refine b_ci0 (cs_X3_85 (rest := []) CX hl.1 (m_X3_isBrand l (x := x) hM hW) rfl rfl rfl hM.o0 hS rfl ⟨rfl, rfl, Nat.le_of_ble_eq_true rfl, Nat.le_of_ble_eq_true rfl⟩ (Nat.le_of_ble_eq_true rfl) dX3_brand_7 ⟨Nat.le_of_ble_eq_true rfl, Nat.le_of_ble_eq_true rfl⟩) hS (fun locs hS => ?_)
  refine b_ifne (tgt := 19) CX dX3_brand_10 (by decide) (fun c_10 => ?_) (fun c_10 => ?_)
  · obtain ⟨jx, hjx, rfl⟩ := isB_lt hW c_10
    have ejx : ix (nI jx) = jx := ix_n (by omega)
    refine lv_iload_n hx hb dX3_brand_19 rfl (lv_at hl 2 rfl) ?_
    refine lv_iconst (v := nI 0) hx hb dX3_brand_20 rfl ?_
    refine lv_bipush (v := nI 11) hx hb dX3_brand_21 rfl ?_
    refine b_ci0 (cs_X3_35 (rest := []) CX hl.1 (m_X3_in l (x := k) (lo := nI 0) (hi := nI 11)  ) rfl hS rfl ⟨rfl, rfl, Nat.le_of_ble_eq_true rfl, Nat.le_of_ble_eq_true rfl⟩ (Nat.le_of_ble_eq_true rfl) dX3_brand_23 ⟨Nat.le_of_ble_eq_true rfl, Nat.le_of_ble_eq_true rfl⟩) hS (fun locs hS => ?_)
    refine b_ifeq (tgt := 38) CX dX3_brand_26 (by decide) (fun c_26 => ?_) (fun c_26 => ?_)
    · refine lv_aload_n hx hb dX3_brand_38 rfl (lv_at hl 0 rfl) ?_
      refine lv_iconst (v := nI 2) hx hb dX3_brand_39 rfl ?_
      refine b_ci (cs_X3_49 (rest := []) CX hl.1 (m_X3_fails l (code := nI 2) hM ) rfl rfl rfl hM.o0 hS rfl ⟨rfl, rfl, Nat.le_of_ble_eq_true rfl, Nat.le_of_ble_eq_true rfl⟩ (Nat.le_of_ble_eq_true rfl) dX3_brand_40 ⟨Nat.le_of_ble_eq_true rfl, Nat.le_of_ble_eq_true rfl⟩) hS (fun r H2 locs hp hS => ?_)
      obtain ⟨rfl, hM9⟩ := hp
      have hM : MW G B0 o H H2 (enc S) sp sv (fun j => nI (t j)) (nI n) (nI tn) (nI 2) pl iw lt on ot nu di := hM.tr hM9
      have ho : o_brand (S, n, L, tn, t) (nI jx) k = (nI 2, nI 0, (S, n, L, tn, t)) := by
        unfold o_brand
        simp only [ejx]
        repeat (first | rw [if_pos (by first | assumption | exact ⟨by assumption, by assumption⟩ | (constructor <;> omega) | omega | exact fun q => absurd q (by assumption) | exact fun q => absurd q.1 (by assumption) | exact fun q => absurd q.2 (by assumption) | exact Int32.not_lt.mpr (by assumption) | exact Int32.not_le.mp (by assumption) | exact fun q => q.2 (by assumption) | exact fun q => absurd q.1 (by omega))] | rw [if_neg (by first | assumption | exact ⟨by assumption, by assumption⟩ | (constructor <;> omega) | omega | exact fun q => absurd q (by assumption) | exact fun q => absurd q.1 (by assumption) | exact fun q => absurd q.2 (by assumption) | exact Int32.not_lt.mpr (by assumption) | exact Int32.not_le.mp (by assumption) | exact fun q => q.2 (by assumption) | exact fun q => absurd q.1 (by omega))])
        first | rfl | (unfold f_ok f_no z_save;  rfl)
      rw [← hQ]
      exact b_iret CX hr hlk hS (Nat.le_of_ble_eq_true rfl) (Nat.le_of_ble_eq_true rfl) dX3_brand_43 ((by rw [ho]; exact ⟨rfl, _, _, _, _, _, _, _, _, _, hM, hSv⟩))
    · obtain ⟨jk, hjka, hjkb, rfl⟩ := p_rg (by decide) c_26 (by decide)
      have ejk : ix (nI jk) = jk := ix_n (by omega)
      refine lv_aload_n hx hb dX3_brand_29 rfl (lv_at hl 0 rfl) ?_
      refine lv_iload_n hx hb dX3_brand_30 rfl (lv_at hl 1 rfl) ?_
      refine lv_iload_n hx hb dX3_brand_31 rfl (lv_at hl 2 rfl) ?_
      refine b_ci0 (cs_X3_179 (rest := []) CX hl.1 (m_X3_aboutBrand l (b := jx) (k := jk) hM hW (by omega) (by omega)) rfl rfl rfl hM.o0 hS rfl ⟨rfl, rfl, Nat.le_of_ble_eq_true rfl, Nat.le_of_ble_eq_true rfl⟩ (Nat.le_of_ble_eq_true rfl) dX3_brand_32 ⟨Nat.le_of_ble_eq_true rfl, Nat.le_of_ble_eq_true rfl⟩) hS (fun locs hS => ?_)
      refine lv_goto (tgt := 43) hx hb dX3_brand_35 (by decide) ?_
      have ho : o_brand (S, n, L, tn, t) (nI jx) (nI jk) = (nI 0, p_about S jx jk, (S, n, L, tn, t)) := by
        unfold o_brand
        simp only [ejx, ejk]
        repeat (first | rw [if_pos (by first | assumption | exact ⟨by assumption, by assumption⟩ | (constructor <;> omega) | omega | exact fun q => absurd q (by assumption) | exact fun q => absurd q.1 (by assumption) | exact fun q => absurd q.2 (by assumption) | exact Int32.not_lt.mpr (by assumption) | exact Int32.not_le.mp (by assumption) | exact fun q => q.2 (by assumption) | exact fun q => absurd q.1 (by omega))] | rw [if_neg (by first | assumption | exact ⟨by assumption, by assumption⟩ | (constructor <;> omega) | omega | exact fun q => absurd q (by assumption) | exact fun q => absurd q.1 (by assumption) | exact fun q => absurd q.2 (by assumption) | exact Int32.not_lt.mpr (by assumption) | exact Int32.not_le.mp (by assumption) | exact fun q => q.2 (by assumption) | exact fun q => absurd q.1 (by omega))])
        first | rfl | (unfold f_ok f_no z_save;  rfl)
      rw [← hQ]
      exact b_iret CX hr hlk hS (Nat.le_of_ble_eq_true rfl) (Nat.le_of_ble_eq_true rfl) dX3_brand_43 ((by rw [ho]; exact ⟨rfl, _, _, _, _, _, _, _, _, _, hM, hSv⟩))
  · refine lv_aload_n hx hb dX3_brand_13 rfl (lv_at hl 0 rfl) ?_
    refine lv_iconst (v := nI 1) hx hb dX3_brand_14 rfl ?_
    refine b_ci (cs_X3_49 (rest := []) CX hl.1 (m_X3_fails l (code := nI 1) hM ) rfl rfl rfl hM.o0 hS rfl ⟨rfl, rfl, Nat.le_of_ble_eq_true rfl, Nat.le_of_ble_eq_true rfl⟩ (Nat.le_of_ble_eq_true rfl) dX3_brand_15 ⟨Nat.le_of_ble_eq_true rfl, Nat.le_of_ble_eq_true rfl⟩) hS (fun r H3 locs hp hS => ?_)
    obtain ⟨rfl, hM9⟩ := hp
    have hM : MW G B0 o H H3 (enc S) sp sv (fun j => nI (t j)) (nI n) (nI tn) (nI 1) pl iw lt on ot nu di := hM.tr hM9
    have ho : o_brand (S, n, L, tn, t) x k = (nI 1, nI 0, (S, n, L, tn, t)) := by
      unfold o_brand
      repeat (first | rw [if_pos (by first | assumption | exact ⟨by assumption, by assumption⟩ | (constructor <;> omega) | omega | exact fun q => absurd q (by assumption) | exact fun q => absurd q.1 (by assumption) | exact fun q => absurd q.2 (by assumption) | exact Int32.not_lt.mpr (by assumption) | exact Int32.not_le.mp (by assumption) | exact fun q => q.2 (by assumption) | exact fun q => absurd q.1 (by omega))] | rw [if_neg (by first | assumption | exact ⟨by assumption, by assumption⟩ | (constructor <;> omega) | omega | exact fun q => absurd q (by assumption) | exact fun q => absurd q.1 (by assumption) | exact fun q => absurd q.2 (by assumption) | exact Int32.not_lt.mpr (by assumption) | exact Int32.not_le.mp (by assumption) | exact fun q => q.2 (by assumption) | exact fun q => absurd q.1 (by omega))])
      first | rfl | (unfold f_ok f_no z_save;  rfl)
    rw [← hQ]
    exact b_iret CX hr hlk hS (Nat.le_of_ble_eq_true rfl) (Nat.le_of_ble_eq_true rfl) dX3_brand_18 ((by rw [ho]; exact ⟨rfl, _, _, _, _, _, _, _, _, _, hM, hSv⟩))
set_option maxHeartbeats 2000000 in
set_option maxRecDepth 100000 in
theorem m_X3_setting (l : Launch) {G : b_G} {B0 : Nat} {o : Nat → Nat} {Hr H : Heap} {S : b_St} {sp sv : Nat → Int32} {L : Nat → b_St} {t : Nat → Nat} {n tn : Nat} {th pl iw lt on ot nu di : Int32} {k : Int32} (hM : MW G B0 o Hr H (enc S) sp sv (fun j => nI (t j)) (nI n) (nI tn) th pl iw lt on ot nu di) (hW : b_WF S) (hn : n ≤ 6) (ht : ∀ j, t j < 128) (htn : tn ≤ 60) (hSv : b_Sv sv n L) : Met l yX3_setting (ws_ yX3_setting cX3_setting 2 (Option.some Jvm.ClassFile.FieldType.int)) ({ frames := 1, cells := 0, slots := 0, locals := 22 } : Room) (b_Pc G B0 H [.ref (o 0), .int k]) (b_Qi B0 (fun r H1 => r = (o_setting (S, n, L, tn, t) k).2.1 ∧ MZ G B0 o H H1 (o_setting (S, n, L, tn, t) k).1 (o_setting (S, n, L, tn, t) k).2.2)) 0 0 (b_A B0) := by
  refine b_of (by decide) (Nat.le_of_ble_eq_true rfl) ?_
  intro p e s m below meth c CX hr hlk hnm hS ls hl
  have CX : b_Cx p s m _ c cX3_setting 2 RX3 G B0 := CX
  have hx := CX.hx
  have hb := CX.hb
  have hl : lv_has ls 2 [(0, .ref (o 0)), (1, .int k)] := hl
  generalize hQ : MQ below (b_Qi B0 (fun r H1 => r = (o_setting (S, n, L, tn, t) k).2.1 ∧ MZ G B0 o H H1 (o_setting (S, n, L, tn, t) k).1 (o_setting (S, n, L, tn, t) k).2.2)) ([.ref (o 0), .int k] : List Value).toArray s 0 0 (b_A B0) = Q
  have hM := hM.re
  have hn8 := hW.nb8
  have hn6 := hW.ns6
  refine lv_aload_n hx hb dX3_setting_0 rfl (lv_at hl 0 rfl) ?_
  refine lv_iconst (v := nI 0) hx hb dX3_setting_1 rfl ?_
  refine pf_X3_28_8 CX hM.o0 hS (hM.B (by decide)) rfl rfl (Nat.le_of_ble_eq_true rfl) dX3_setting_2 (fun H1 locs hat hu hS => ?_)
  have hM : MW G B0 o H H1 (enc S) sp sv (fun j => nI (t j)) (nI n) (nI tn) (nI 0) pl iw lt on ot nu di := hM.set0 hat hu
  refine lv_iload_n hx hb dX3_setting_5 rfl (lv_at hl 1 rfl) ?_
  refine lv_iconst (v := nI 0) hx hb dX3_setting_6 rfl ?_
  refine lv_iconst (v := nI 5) hx hb dX3_setting_7 rfl ?_
  refine b_ci0 (cs_X3_35 (rest := []) CX hl.1 (m_X3_in l (x := k) (lo := nI 0) (hi := nI 5)  ) rfl hS rfl ⟨rfl, rfl, Nat.le_of_ble_eq_true rfl, Nat.le_of_ble_eq_true rfl⟩ (Nat.le_of_ble_eq_true rfl) dX3_setting_8 ⟨Nat.le_of_ble_eq_true rfl, Nat.le_of_ble_eq_true rfl⟩) hS (fun locs hS => ?_)
  refine b_ifeq (tgt := 26) CX dX3_setting_11 (by decide) (fun c_11 => ?_) (fun c_11 => ?_)
  · refine lv_aload_n hx hb dX3_setting_26 rfl (lv_at hl 0 rfl) ?_
    refine lv_iconst (v := nI 1) hx hb dX3_setting_27 rfl ?_
    refine b_ci (cs_X3_49 (rest := []) CX hl.1 (m_X3_fails l (code := nI 1) hM ) rfl rfl rfl hM.o0 hS rfl ⟨rfl, rfl, Nat.le_of_ble_eq_true rfl, Nat.le_of_ble_eq_true rfl⟩ (Nat.le_of_ble_eq_true rfl) dX3_setting_28 ⟨Nat.le_of_ble_eq_true rfl, Nat.le_of_ble_eq_true rfl⟩) hS (fun r H2 locs hp hS => ?_)
    obtain ⟨rfl, hM9⟩ := hp
    have hM : MW G B0 o H H2 (enc S) sp sv (fun j => nI (t j)) (nI n) (nI tn) (nI 1) pl iw lt on ot nu di := hM.tr hM9
    have ho : o_setting (S, n, L, tn, t) k = (nI 1, nI 0, (S, n, L, tn, t)) := by
      unfold o_setting
      repeat (first | rw [if_pos (by first | assumption | exact ⟨by assumption, by assumption⟩ | (constructor <;> omega) | omega | exact fun q => absurd q (by assumption) | exact fun q => absurd q.1 (by assumption) | exact fun q => absurd q.2 (by assumption) | exact Int32.not_lt.mpr (by assumption) | exact Int32.not_le.mp (by assumption) | exact fun q => q.2 (by assumption) | exact fun q => absurd q.1 (by omega))] | rw [if_neg (by first | assumption | exact ⟨by assumption, by assumption⟩ | (constructor <;> omega) | omega | exact fun q => absurd q (by assumption) | exact fun q => absurd q.1 (by assumption) | exact fun q => absurd q.2 (by assumption) | exact Int32.not_lt.mpr (by assumption) | exact Int32.not_le.mp (by assumption) | exact fun q => q.2 (by assumption) | exact fun q => absurd q.1 (by omega))])
      first | rfl | (unfold f_ok f_no z_save;  rfl)
    rw [← hQ]
    exact b_iret CX hr hlk hS (Nat.le_of_ble_eq_true rfl) (Nat.le_of_ble_eq_true rfl) dX3_setting_31 ((by rw [ho]; exact ⟨rfl, _, _, _, _, _, _, _, _, _, hM, hSv⟩))
  · obtain ⟨jk, hjka, hjkb, rfl⟩ := p_rg (by decide) c_11 (by decide)
    have ejk : ix (nI jk) = jk := ix_n (by omega)
    refine lv_aload_n hx hb dX3_setting_14 rfl (lv_at hl 0 rfl) ?_
    refine gf_X3_7_8 CX hM.o0 rfl dX3_setting_15 ?_
    refine lv_bipush (v := nI 7) hx hb dX3_setting_18 rfl ?_
    refine lv_iload_n hx hb dX3_setting_20 rfl (lv_at hl 1 rfl) ?_
    refine b_iaddN CX dX3_setting_21 ?_
    refine b_ild CX hM.o1 (x := S 0 0 (7 + jk)) (vp_in_nI (by omega) (by omega)) (b_at_nI (by omega) ((enc_0 _ (by omega)))) dX3_setting_22 ?_
    refine lv_goto (tgt := 31) hx hb dX3_setting_23 (by decide) ?_
    have ho : o_setting (S, n, L, tn, t) (nI jk) = (nI 0, S 0 0 (7 + jk), (S, n, L, tn, t)) := by
      unfold o_setting
      simp only [ejk]
      repeat (first | rw [if_pos (by first | assumption | exact ⟨by assumption, by assumption⟩ | (constructor <;> omega) | omega | exact fun q => absurd q (by assumption) | exact fun q => absurd q.1 (by assumption) | exact fun q => absurd q.2 (by assumption) | exact Int32.not_lt.mpr (by assumption) | exact Int32.not_le.mp (by assumption) | exact fun q => q.2 (by assumption) | exact fun q => absurd q.1 (by omega))] | rw [if_neg (by first | assumption | exact ⟨by assumption, by assumption⟩ | (constructor <;> omega) | omega | exact fun q => absurd q (by assumption) | exact fun q => absurd q.1 (by assumption) | exact fun q => absurd q.2 (by assumption) | exact Int32.not_lt.mpr (by assumption) | exact Int32.not_le.mp (by assumption) | exact fun q => q.2 (by assumption) | exact fun q => absurd q.1 (by omega))])
      first | rfl | (unfold f_ok f_no z_save;  rfl)
    rw [← hQ]
    exact b_iret CX hr hlk hS (Nat.le_of_ble_eq_true rfl) (Nat.le_of_ble_eq_true rfl) dX3_setting_31 ((by rw [ho]; exact ⟨rfl, _, _, _, _, _, _, _, _, _, hM, hSv⟩))
theorem cs_X3_188 {p : Program} {l : Launch} {e : Env} {R : Room} {s : State} {m : MethodId} {args : Array Value} {below : List Frame} {meth : Method} {c : Code} {H : Heap} {locs : List Loc} {cells slots : Nat} {cc : ByteArray} {pc nL a : Nat} {ls : Array Slot} {rest : List Value} {G : b_G} {B0 : Nat} (CX : b_Cx p s m args c cc nL RX3 G B0) (hls : ls.size = nL) {rm : Room} {mc ms : Nat} {As st0 : List Value} {Qc : Array Value → State → Outcome → State → Prop} (hM : Met l yX3_number (ws_ yX3_number cX3_number 5 (Option.some Jvm.ClassFile.FieldType.int)) rm (b_Pc G B0 H (.ref a :: As)) Qc mc ms (b_A B0)) (hn : As.length = 1) {fs : List Value} {ci : Nat} {qc : vw_C} (hc : b_cl[ci]? = some qc) (hq : qc.1 = RX3) (hP : b_at G a (.inr (ci, fs)) H) (hS : va_S (b_A B0) s.heap H locs) (hst : st0 = As.reverse ++ .ref a :: rest) (hr : rm.cells = mc ∧ rm.slots = ms ∧ rm.frames + 1 ≤ R.frames ∧ 8 + (5 + 11) + rm.locals ≤ R.locals) (hw : (rest.map fun v => v.category).sum ≤ 8) (hdg : decode cc pc = .ok (.invokevirtual 188, 3)) (hf : cells + mc ≤ R.cells ∧ slots + ms ≤ R.slots) : va_Run p l e R s m args below meth c H locs cells slots mc ms (F0 m pc ls st0) rest (Qc (Value.ref a :: As).toArray) (b_A B0) := va_runV CX.fix hM (cwV 1 CX.ts (lw_V q2140 q2142 qs73 q88 q2143) rfl hr.1 hr.2.1 (by decide +kernel) ⟨hr.2.2.1, hr.2.2.2⟩) ⟨b_blind G B0 H _, by have h9 := b_recv CX.K hc hP; rw [hq] at h9; exact h9, b_pre _ CX.K hS⟩ rfl hn hls hst (lv_room hw) hdg hf
set_option maxHeartbeats 2000000 in
set_option maxRecDepth 100000 in
theorem m_X3_count (l : Launch) {G : b_G} {B0 : Nat} {o : Nat → Nat} {Hr H : Heap} {S : b_St} {sp sv : Nat → Int32} {L : Nat → b_St} {t : Nat → Nat} {n tn : Nat} {th pl iw lt on ot nu di : Int32} {k : Int32} (hM : MW G B0 o Hr H (enc S) sp sv (fun j => nI (t j)) (nI n) (nI tn) th pl iw lt on ot nu di) (hW : b_WF S) (hn : n ≤ 6) (ht : ∀ j, t j < 128) (htn : tn ≤ 60) (hSv : b_Sv sv n L) : Met l yX3_count (ws_ yX3_count cX3_count 2 (Option.some Jvm.ClassFile.FieldType.int)) ({ frames := 4, cells := 0, slots := 0, locals := 89 } : Room) (b_Pc G B0 H [.ref (o 0), .int k]) (b_Qi B0 (fun r H1 => r = (o_count (S, n, L, tn, t) k).2.1 ∧ MZ G B0 o H H1 (o_count (S, n, L, tn, t) k).1 (o_count (S, n, L, tn, t) k).2.2)) 0 0 (b_A B0) := by
  refine b_of (by decide) (Nat.le_of_ble_eq_true rfl) ?_
  intro p e s m below meth c CX hr hlk hnm hS ls hl
  have CX : b_Cx p s m _ c cX3_count 2 RX3 G B0 := CX
  have hx := CX.hx
  have hb := CX.hb
  have hl : lv_has ls 2 [(0, .ref (o 0)), (1, .int k)] := hl
  generalize hQ : MQ below (b_Qi B0 (fun r H1 => r = (o_count (S, n, L, tn, t) k).2.1 ∧ MZ G B0 o H H1 (o_count (S, n, L, tn, t) k).1 (o_count (S, n, L, tn, t) k).2.2)) ([.ref (o 0), .int k] : List Value).toArray s 0 0 (b_A B0) = Q
  have hM := hM.re
  have hn8 := hW.nb8
  have hn6 := hW.ns6
  refine lv_aload_n hx hb dX3_count_0 rfl (lv_at hl 0 rfl) ?_
  refine lv_iconst (v := nI 0) hx hb dX3_count_1 rfl ?_
  refine pf_X3_28_8 CX hM.o0 hS (hM.B (by decide)) rfl rfl (Nat.le_of_ble_eq_true rfl) dX3_count_2 (fun H1 locs hat hu hS => ?_)
  have hM : MW G B0 o H H1 (enc S) sp sv (fun j => nI (t j)) (nI n) (nI tn) (nI 0) pl iw lt on ot nu di := hM.set0 hat hu
  refine lv_iload_n hx hb dX3_count_5 rfl (lv_at hl 1 rfl) ?_
  refine lv_iconst (v := nI 0) hx hb dX3_count_6 rfl ?_
  refine lv_bipush (v := nI 10) hx hb dX3_count_7 rfl ?_
  refine b_ci0 (cs_X3_35 (rest := []) CX hl.1 (m_X3_in l (x := k) (lo := nI 0) (hi := nI 10)  ) rfl hS rfl ⟨rfl, rfl, Nat.le_of_ble_eq_true rfl, Nat.le_of_ble_eq_true rfl⟩ (Nat.le_of_ble_eq_true rfl) dX3_count_9 ⟨Nat.le_of_ble_eq_true rfl, Nat.le_of_ble_eq_true rfl⟩) hS (fun locs hS => ?_)
  refine b_ifeq (tgt := 23) CX dX3_count_12 (by decide) (fun c_12 => ?_) (fun c_12 => ?_)
  · refine lv_aload_n hx hb dX3_count_23 rfl (lv_at hl 0 rfl) ?_
    refine lv_iconst (v := nI 1) hx hb dX3_count_24 rfl ?_
    refine b_ci (cs_X3_49 (rest := []) CX hl.1 (m_X3_fails l (code := nI 1) hM ) rfl rfl rfl hM.o0 hS rfl ⟨rfl, rfl, Nat.le_of_ble_eq_true rfl, Nat.le_of_ble_eq_true rfl⟩ (Nat.le_of_ble_eq_true rfl) dX3_count_25 ⟨Nat.le_of_ble_eq_true rfl, Nat.le_of_ble_eq_true rfl⟩) hS (fun r H2 locs hp hS => ?_)
    obtain ⟨rfl, hM9⟩ := hp
    have hM : MW G B0 o H H2 (enc S) sp sv (fun j => nI (t j)) (nI n) (nI tn) (nI 1) pl iw lt on ot nu di := hM.tr hM9
    have ho : o_count (S, n, L, tn, t) k = (nI 1, nI 0, (S, n, L, tn, t)) := by
      unfold o_count
      repeat (first | rw [if_pos (by first | assumption | exact ⟨by assumption, by assumption⟩ | (constructor <;> omega) | omega | exact fun q => absurd q (by assumption) | exact fun q => absurd q.1 (by assumption) | exact fun q => absurd q.2 (by assumption) | exact Int32.not_lt.mpr (by assumption) | exact Int32.not_le.mp (by assumption) | exact fun q => q.2 (by assumption) | exact fun q => absurd q.1 (by omega))] | rw [if_neg (by first | assumption | exact ⟨by assumption, by assumption⟩ | (constructor <;> omega) | omega | exact fun q => absurd q (by assumption) | exact fun q => absurd q.1 (by assumption) | exact fun q => absurd q.2 (by assumption) | exact Int32.not_lt.mpr (by assumption) | exact Int32.not_le.mp (by assumption) | exact fun q => q.2 (by assumption) | exact fun q => absurd q.1 (by omega))])
      first | rfl | (unfold f_ok f_no z_save;  rfl)
    rw [← hQ]
    exact b_iret CX hr hlk hS (Nat.le_of_ble_eq_true rfl) (Nat.le_of_ble_eq_true rfl) dX3_count_28 ((by rw [ho]; exact ⟨rfl, _, _, _, _, _, _, _, _, _, hM, hSv⟩))
  · obtain ⟨jk, hjka, hjkb, rfl⟩ := p_rg (by decide) c_12 (by decide)
    have ejk : ix (nI jk) = jk := ix_n (by omega)
    refine lv_aload_n hx hb dX3_count_15 rfl (lv_at hl 0 rfl) ?_
    refine lv_iload_n hx hb dX3_count_16 rfl (lv_at hl 1 rfl) ?_
    refine b_ci0 (cs_X3_188 (rest := []) CX hl.1 (m_X3_number l (k := jk) hM hW (by omega)) rfl rfl rfl hM.o0 hS rfl ⟨rfl, rfl, Nat.le_of_ble_eq_true rfl, Nat.le_of_ble_eq_true rfl⟩ (Nat.le_of_ble_eq_true rfl) dX3_count_17 ⟨Nat.le_of_ble_eq_true rfl, Nat.le_of_ble_eq_true rfl⟩) hS (fun locs hS => ?_)
    refine lv_goto (tgt := 28) hx hb dX3_count_20 (by decide) ?_
    have ho : o_count (S, n, L, tn, t) (nI jk) = (nI 0, p_number S n jk, (S, n, L, tn, t)) := by
      unfold o_count
      simp only [ejk]
      repeat (first | rw [if_pos (by first | assumption | exact ⟨by assumption, by assumption⟩ | (constructor <;> omega) | omega | exact fun q => absurd q (by assumption) | exact fun q => absurd q.1 (by assumption) | exact fun q => absurd q.2 (by assumption) | exact Int32.not_lt.mpr (by assumption) | exact Int32.not_le.mp (by assumption) | exact fun q => q.2 (by assumption) | exact fun q => absurd q.1 (by omega))] | rw [if_neg (by first | assumption | exact ⟨by assumption, by assumption⟩ | (constructor <;> omega) | omega | exact fun q => absurd q (by assumption) | exact fun q => absurd q.1 (by assumption) | exact fun q => absurd q.2 (by assumption) | exact Int32.not_lt.mpr (by assumption) | exact Int32.not_le.mp (by assumption) | exact fun q => q.2 (by assumption) | exact fun q => absurd q.1 (by omega))])
      first | rfl | (unfold f_ok f_no z_save;  rfl)
    rw [← hQ]
    exact b_iret CX hr hlk hS (Nat.le_of_ble_eq_true rfl) (Nat.le_of_ble_eq_true rfl) dX3_count_28 ((by rw [ho]; exact ⟨rfl, _, _, _, _, _, _, _, _, _, hM, hSv⟩))
set_option maxHeartbeats 2000000 in
set_option maxRecDepth 100000 in
theorem m_X3_whyNotDeliver (l : Launch) {G : b_G} {B0 : Nat} {o : Nat → Nat} {Hr H : Heap} {S : b_St} {sp sv : Nat → Int32} {L : Nat → b_St} {t : Nat → Nat} {n tn : Nat} {th pl iw lt on ot nu di : Int32} {x : Int32} {y : Int32} {c_ : Int32} (hM : MW G B0 o Hr H (enc S) sp sv (fun j => nI (t j)) (nI n) (nI tn) th pl iw lt on ot nu di) (hW : b_WF S) (hn : n ≤ 6) (ht : ∀ j, t j < 128) (htn : tn ≤ 60) (hSv : b_Sv sv n L) : Met l yX3_whyNotDeliver (ws_ yX3_whyNotDeliver cX3_whyNotDeliver 4 (Option.some Jvm.ClassFile.FieldType.int)) ({ frames := 4, cells := 0, slots := 0, locals := 88 } : Room) (b_Pc G B0 H [.ref (o 0), .int x, .int y, .int c_]) (b_Qi B0 (fun r H1 => r = (o_whyD (S, n, L, tn, t) x y c_).2.1 ∧ MZ G B0 o H H1 (o_whyD (S, n, L, tn, t) x y c_).1 (o_whyD (S, n, L, tn, t) x y c_).2.2)) 0 0 (b_A B0) := by
  refine b_of (by decide) (Nat.le_of_ble_eq_true rfl) ?_
  intro p e s m below meth c CX hr hlk hnm hS ls hl
  have CX : b_Cx p s m _ c cX3_whyNotDeliver 4 RX3 G B0 := CX
  have hx := CX.hx
  have hb := CX.hb
  have hl : lv_has ls 4 [(0, .ref (o 0)), (1, .int x), (2, .int y), (3, .int c_)] := hl
  generalize hQ : MQ below (b_Qi B0 (fun r H1 => r = (o_whyD (S, n, L, tn, t) x y c_).2.1 ∧ MZ G B0 o H H1 (o_whyD (S, n, L, tn, t) x y c_).1 (o_whyD (S, n, L, tn, t) x y c_).2.2)) ([.ref (o 0), .int x, .int y, .int c_] : List Value).toArray s 0 0 (b_A B0) = Q
  have hM := hM.re
  have hn8 := hW.nb8
  have hn6 := hW.ns6
  refine lv_aload_n hx hb dX3_whyNotDeliver_0 rfl (lv_at hl 0 rfl) ?_
  refine lv_iconst (v := nI 0) hx hb dX3_whyNotDeliver_1 rfl ?_
  refine pf_X3_28_8 CX hM.o0 hS (hM.B (by decide)) rfl rfl (Nat.le_of_ble_eq_true rfl) dX3_whyNotDeliver_2 (fun H1 locs hat hu hS => ?_)
  have hM : MW G B0 o H H1 (enc S) sp sv (fun j => nI (t j)) (nI n) (nI tn) (nI 0) pl iw lt on ot nu di := hM.set0 hat hu
  refine lv_aload_n hx hb dX3_whyNotDeliver_5 rfl (lv_at hl 0 rfl) ?_
  refine lv_iload_n hx hb dX3_whyNotDeliver_6 rfl (lv_at hl 1 rfl) ?_
  refine b_ci0 (cs_X3_85 (rest := []) CX hl.1 (m_X3_isBrand l (x := x) hM hW) rfl rfl rfl hM.o0 hS rfl ⟨rfl, rfl, Nat.le_of_ble_eq_true rfl, Nat.le_of_ble_eq_true rfl⟩ (Nat.le_of_ble_eq_true rfl) dX3_whyNotDeliver_7 ⟨Nat.le_of_ble_eq_true rfl, Nat.le_of_ble_eq_true rfl⟩) hS (fun locs hS => ?_)
  refine b_ifeq (tgt := 21) CX dX3_whyNotDeliver_10 (by decide) (fun c_10 => ?_) (fun c_10 => ?_)
  · refine lv_aload_n hx hb dX3_whyNotDeliver_21 rfl (lv_at hl 0 rfl) ?_
    refine lv_iconst (v := nI 1) hx hb dX3_whyNotDeliver_22 rfl ?_
    refine b_ci (cs_X3_49 (rest := []) CX hl.1 (m_X3_fails l (code := nI 1) hM ) rfl rfl rfl hM.o0 hS rfl ⟨rfl, rfl, Nat.le_of_ble_eq_true rfl, Nat.le_of_ble_eq_true rfl⟩ (Nat.le_of_ble_eq_true rfl) dX3_whyNotDeliver_23 ⟨Nat.le_of_ble_eq_true rfl, Nat.le_of_ble_eq_true rfl⟩) hS (fun r H2 locs hp hS => ?_)
    obtain ⟨rfl, hM9⟩ := hp
    have hM : MW G B0 o H H2 (enc S) sp sv (fun j => nI (t j)) (nI n) (nI tn) (nI 1) pl iw lt on ot nu di := hM.tr hM9
    have ho : o_whyD (S, n, L, tn, t) x y c_ = (nI 1, nI 0, (S, n, L, tn, t)) := by
      unfold o_whyD
      repeat (first | rw [if_pos (by first | assumption | exact ⟨by assumption, by assumption⟩ | (constructor <;> omega) | omega | exact fun q => absurd q (by assumption) | exact fun q => absurd q.1 (by assumption) | exact fun q => absurd q.2 (by assumption) | exact Int32.not_lt.mpr (by assumption) | exact Int32.not_le.mp (by assumption) | exact fun q => q.2 (by assumption) | exact fun q => absurd q.1 (by omega))] | rw [if_neg (by first | assumption | exact ⟨by assumption, by assumption⟩ | (constructor <;> omega) | omega | exact fun q => absurd q (by assumption) | exact fun q => absurd q.1 (by assumption) | exact fun q => absurd q.2 (by assumption) | exact Int32.not_lt.mpr (by assumption) | exact Int32.not_le.mp (by assumption) | exact fun q => q.2 (by assumption) | exact fun q => absurd q.1 (by omega))])
      first | rfl | (unfold f_ok f_no z_save;  rfl)
    rw [← hQ]
    exact b_iret CX hr hlk hS (Nat.le_of_ble_eq_true rfl) (Nat.le_of_ble_eq_true rfl) dX3_whyNotDeliver_26 ((by rw [ho]; exact ⟨rfl, _, _, _, _, _, _, _, _, _, hM, hSv⟩))
  · obtain ⟨jx, hjx, rfl⟩ := isB_lt hW c_10
    have ejx : ix (nI jx) = jx := ix_n (by omega)
    refine lv_aload_n hx hb dX3_whyNotDeliver_13 rfl (lv_at hl 0 rfl) ?_
    refine lv_iload_n hx hb dX3_whyNotDeliver_14 rfl (lv_at hl 2 rfl) ?_
    refine b_ci0 (cs_X3_92 (rest := []) CX hl.1 (m_X3_isShop l (x := y) hM hW) rfl rfl rfl hM.o0 hS rfl ⟨rfl, rfl, Nat.le_of_ble_eq_true rfl, Nat.le_of_ble_eq_true rfl⟩ (Nat.le_of_ble_eq_true rfl) dX3_whyNotDeliver_15 ⟨Nat.le_of_ble_eq_true rfl, Nat.le_of_ble_eq_true rfl⟩) hS (fun locs hS => ?_)
    refine b_ifne (tgt := 27) CX dX3_whyNotDeliver_18 (by decide) (fun c_18 => ?_) (fun c_18 => ?_)
    · obtain ⟨jy, hjy, rfl⟩ := isS_lt hW c_18
      have ejy : ix (nI jy) = jy := ix_n (by omega)
      refine lv_iload_n hx hb dX3_whyNotDeliver_27 rfl (lv_at hl 3 rfl) ?_
      refine lv_iconst (v := nI 1) hx hb dX3_whyNotDeliver_28 rfl ?_
      refine lv_bipush (v := nI 50) hx hb dX3_whyNotDeliver_29 rfl ?_
      refine b_ci0 (cs_X3_35 (rest := []) CX hl.1 (m_X3_in l (x := c_) (lo := nI 1) (hi := nI 50)  ) rfl hS rfl ⟨rfl, rfl, Nat.le_of_ble_eq_true rfl, Nat.le_of_ble_eq_true rfl⟩ (Nat.le_of_ble_eq_true rfl) dX3_whyNotDeliver_31 ⟨Nat.le_of_ble_eq_true rfl, Nat.le_of_ble_eq_true rfl⟩) hS (fun locs hS => ?_)
      refine b_ifeq (tgt := 47) CX dX3_whyNotDeliver_34 (by decide) (fun c_34 => ?_) (fun c_34 => ?_)
      · refine lv_aload_n hx hb dX3_whyNotDeliver_47 rfl (lv_at hl 0 rfl) ?_
        refine lv_iconst (v := nI 2) hx hb dX3_whyNotDeliver_48 rfl ?_
        refine b_ci (cs_X3_49 (rest := []) CX hl.1 (m_X3_fails l (code := nI 2) hM ) rfl rfl rfl hM.o0 hS rfl ⟨rfl, rfl, Nat.le_of_ble_eq_true rfl, Nat.le_of_ble_eq_true rfl⟩ (Nat.le_of_ble_eq_true rfl) dX3_whyNotDeliver_49 ⟨Nat.le_of_ble_eq_true rfl, Nat.le_of_ble_eq_true rfl⟩) hS (fun r H3 locs hp hS => ?_)
        obtain ⟨rfl, hM9⟩ := hp
        have hM : MW G B0 o H H3 (enc S) sp sv (fun j => nI (t j)) (nI n) (nI tn) (nI 2) pl iw lt on ot nu di := hM.tr hM9
        have ho : o_whyD (S, n, L, tn, t) (nI jx) (nI jy) c_ = (nI 2, nI 0, (S, n, L, tn, t)) := by
          unfold o_whyD
          simp only [ejx, ejy]
          repeat (first | rw [if_pos (by first | assumption | exact ⟨by assumption, by assumption⟩ | (constructor <;> omega) | omega | exact fun q => absurd q (by assumption) | exact fun q => absurd q.1 (by assumption) | exact fun q => absurd q.2 (by assumption) | exact Int32.not_lt.mpr (by assumption) | exact Int32.not_le.mp (by assumption) | exact fun q => q.2 (by assumption) | exact fun q => absurd q.1 (by omega))] | rw [if_neg (by first | assumption | exact ⟨by assumption, by assumption⟩ | (constructor <;> omega) | omega | exact fun q => absurd q (by assumption) | exact fun q => absurd q.1 (by assumption) | exact fun q => absurd q.2 (by assumption) | exact Int32.not_lt.mpr (by assumption) | exact Int32.not_le.mp (by assumption) | exact fun q => q.2 (by assumption) | exact fun q => absurd q.1 (by omega))])
          first | rfl | (unfold f_ok f_no z_save;  rfl)
        rw [← hQ]
        exact b_iret CX hr hlk hS (Nat.le_of_ble_eq_true rfl) (Nat.le_of_ble_eq_true rfl) dX3_whyNotDeliver_52 ((by rw [ho]; exact ⟨rfl, _, _, _, _, _, _, _, _, _, hM, hSv⟩))
      · refine lv_aload_n hx hb dX3_whyNotDeliver_37 rfl (lv_at hl 0 rfl) ?_
        refine lv_iload_n hx hb dX3_whyNotDeliver_38 rfl (lv_at hl 1 rfl) ?_
        refine lv_iload_n hx hb dX3_whyNotDeliver_39 rfl (lv_at hl 2 rfl) ?_
        refine lv_iload_n hx hb dX3_whyNotDeliver_40 rfl (lv_at hl 3 rfl) ?_
        refine b_ci0 (cs_X3_95 (rest := []) CX hl.1 (m_X3_againstDeliver l (b := jx) (s_ := jy) (c_ := c_) hM hW (by omega) (by omega)) rfl rfl rfl hM.o0 hS rfl ⟨rfl, rfl, Nat.le_of_ble_eq_true rfl, Nat.le_of_ble_eq_true rfl⟩ (Nat.le_of_ble_eq_true rfl) dX3_whyNotDeliver_41 ⟨Nat.le_of_ble_eq_true rfl, Nat.le_of_ble_eq_true rfl⟩) hS (fun locs hS => ?_)
        refine lv_goto (tgt := 52) hx hb dX3_whyNotDeliver_44 (by decide) ?_
        have ho : o_whyD (S, n, L, tn, t) (nI jx) (nI jy) c_ = (nI 0, a_deliver S jx jy c_, (S, n, L, tn, t)) := by
          unfold o_whyD
          simp only [ejx, ejy]
          repeat (first | rw [if_pos (by first | assumption | exact ⟨by assumption, by assumption⟩ | (constructor <;> omega) | omega | exact fun q => absurd q (by assumption) | exact fun q => absurd q.1 (by assumption) | exact fun q => absurd q.2 (by assumption) | exact Int32.not_lt.mpr (by assumption) | exact Int32.not_le.mp (by assumption) | exact fun q => q.2 (by assumption) | exact fun q => absurd q.1 (by omega))] | rw [if_neg (by first | assumption | exact ⟨by assumption, by assumption⟩ | (constructor <;> omega) | omega | exact fun q => absurd q (by assumption) | exact fun q => absurd q.1 (by assumption) | exact fun q => absurd q.2 (by assumption) | exact Int32.not_lt.mpr (by assumption) | exact Int32.not_le.mp (by assumption) | exact fun q => q.2 (by assumption) | exact fun q => absurd q.1 (by omega))])
          first | rfl | (unfold f_ok f_no z_save;  rfl)
        rw [← hQ]
        exact b_iret CX hr hlk hS (Nat.le_of_ble_eq_true rfl) (Nat.le_of_ble_eq_true rfl) dX3_whyNotDeliver_52 ((by rw [ho]; exact ⟨rfl, _, _, _, _, _, _, _, _, _, hM, hSv⟩))
    · refine lv_aload_n hx hb dX3_whyNotDeliver_21 rfl (lv_at hl 0 rfl) ?_
      refine lv_iconst (v := nI 1) hx hb dX3_whyNotDeliver_22 rfl ?_
      refine b_ci (cs_X3_49 (rest := []) CX hl.1 (m_X3_fails l (code := nI 1) hM ) rfl rfl rfl hM.o0 hS rfl ⟨rfl, rfl, Nat.le_of_ble_eq_true rfl, Nat.le_of_ble_eq_true rfl⟩ (Nat.le_of_ble_eq_true rfl) dX3_whyNotDeliver_23 ⟨Nat.le_of_ble_eq_true rfl, Nat.le_of_ble_eq_true rfl⟩) hS (fun r H4 locs hp hS => ?_)
      obtain ⟨rfl, hM9⟩ := hp
      have hM : MW G B0 o H H4 (enc S) sp sv (fun j => nI (t j)) (nI n) (nI tn) (nI 1) pl iw lt on ot nu di := hM.tr hM9
      have ho : o_whyD (S, n, L, tn, t) (nI jx) y c_ = (nI 1, nI 0, (S, n, L, tn, t)) := by
        unfold o_whyD
        simp only [ejx]
        repeat (first | rw [if_pos (by first | assumption | exact ⟨by assumption, by assumption⟩ | (constructor <;> omega) | omega | exact fun q => absurd q (by assumption) | exact fun q => absurd q.1 (by assumption) | exact fun q => absurd q.2 (by assumption) | exact Int32.not_lt.mpr (by assumption) | exact Int32.not_le.mp (by assumption) | exact fun q => q.2 (by assumption) | exact fun q => absurd q.1 (by omega))] | rw [if_neg (by first | assumption | exact ⟨by assumption, by assumption⟩ | (constructor <;> omega) | omega | exact fun q => absurd q (by assumption) | exact fun q => absurd q.1 (by assumption) | exact fun q => absurd q.2 (by assumption) | exact Int32.not_lt.mpr (by assumption) | exact Int32.not_le.mp (by assumption) | exact fun q => q.2 (by assumption) | exact fun q => absurd q.1 (by omega))])
        first | rfl | (unfold f_ok f_no z_save;  rfl)
      rw [← hQ]
      exact b_iret CX hr hlk hS (Nat.le_of_ble_eq_true rfl) (Nat.le_of_ble_eq_true rfl) dX3_whyNotDeliver_26 ((by rw [ho]; exact ⟨rfl, _, _, _, _, _, _, _, _, _, hM, hSv⟩))
set_option maxHeartbeats 2000000 in
set_option maxRecDepth 100000 in
theorem m_X3_whyNotCollect (l : Launch) {G : b_G} {B0 : Nat} {o : Nat → Nat} {Hr H : Heap} {S : b_St} {sp sv : Nat → Int32} {L : Nat → b_St} {t : Nat → Nat} {n tn : Nat} {th pl iw lt on ot nu di : Int32} {x : Int32} {k : Int32} {c_ : Int32} (hM : MW G B0 o Hr H (enc S) sp sv (fun j => nI (t j)) (nI n) (nI tn) th pl iw lt on ot nu di) (hW : b_WF S) (hn : n ≤ 6) (ht : ∀ j, t j < 128) (htn : tn ≤ 60) (hSv : b_Sv sv n L) : Met l yX3_whyNotCollect (ws_ yX3_whyNotCollect cX3_whyNotCollect 4 (Option.some Jvm.ClassFile.FieldType.int)) ({ frames := 4, cells := 0, slots := 0, locals := 90 } : Room) (b_Pc G B0 H [.ref (o 0), .int x, .int k, .int c_]) (b_Qi B0 (fun r H1 => r = (o_whyC (S, n, L, tn, t) x k c_).2.1 ∧ MZ G B0 o H H1 (o_whyC (S, n, L, tn, t) x k c_).1 (o_whyC (S, n, L, tn, t) x k c_).2.2)) 0 0 (b_A B0) := by
  refine b_of (by decide) (Nat.le_of_ble_eq_true rfl) ?_
  intro p e s m below meth c CX hr hlk hnm hS ls hl
  have CX : b_Cx p s m _ c cX3_whyNotCollect 4 RX3 G B0 := CX
  have hx := CX.hx
  have hb := CX.hb
  have hl : lv_has ls 4 [(0, .ref (o 0)), (1, .int x), (2, .int k), (3, .int c_)] := hl
  generalize hQ : MQ below (b_Qi B0 (fun r H1 => r = (o_whyC (S, n, L, tn, t) x k c_).2.1 ∧ MZ G B0 o H H1 (o_whyC (S, n, L, tn, t) x k c_).1 (o_whyC (S, n, L, tn, t) x k c_).2.2)) ([.ref (o 0), .int x, .int k, .int c_] : List Value).toArray s 0 0 (b_A B0) = Q
  have hM := hM.re
  have hn8 := hW.nb8
  have hn6 := hW.ns6
  refine lv_aload_n hx hb dX3_whyNotCollect_0 rfl (lv_at hl 0 rfl) ?_
  refine lv_iconst (v := nI 0) hx hb dX3_whyNotCollect_1 rfl ?_
  refine pf_X3_28_8 CX hM.o0 hS (hM.B (by decide)) rfl rfl (Nat.le_of_ble_eq_true rfl) dX3_whyNotCollect_2 (fun H1 locs hat hu hS => ?_)
  have hM : MW G B0 o H H1 (enc S) sp sv (fun j => nI (t j)) (nI n) (nI tn) (nI 0) pl iw lt on ot nu di := hM.set0 hat hu
  refine lv_aload_n hx hb dX3_whyNotCollect_5 rfl (lv_at hl 0 rfl) ?_
  refine lv_iload_n hx hb dX3_whyNotCollect_6 rfl (lv_at hl 1 rfl) ?_
  refine b_ci0 (cs_X3_92 (rest := []) CX hl.1 (m_X3_isShop l (x := x) hM hW) rfl rfl rfl hM.o0 hS rfl ⟨rfl, rfl, Nat.le_of_ble_eq_true rfl, Nat.le_of_ble_eq_true rfl⟩ (Nat.le_of_ble_eq_true rfl) dX3_whyNotCollect_7 ⟨Nat.le_of_ble_eq_true rfl, Nat.le_of_ble_eq_true rfl⟩) hS (fun locs hS => ?_)
  refine b_ifne (tgt := 19) CX dX3_whyNotCollect_10 (by decide) (fun c_10 => ?_) (fun c_10 => ?_)
  · obtain ⟨jx, hjx, rfl⟩ := isS_lt hW c_10
    have ejx : ix (nI jx) = jx := ix_n (by omega)
    refine lv_iload_n hx hb dX3_whyNotCollect_19 rfl (lv_at hl 2 rfl) ?_
    refine lv_iconst (v := nI 0) hx hb dX3_whyNotCollect_20 rfl ?_
    refine lv_iconst (v := nI 2) hx hb dX3_whyNotCollect_21 rfl ?_
    refine b_ci0 (cs_X3_35 (rest := []) CX hl.1 (m_X3_in l (x := k) (lo := nI 0) (hi := nI 2)  ) rfl hS rfl ⟨rfl, rfl, Nat.le_of_ble_eq_true rfl, Nat.le_of_ble_eq_true rfl⟩ (Nat.le_of_ble_eq_true rfl) dX3_whyNotCollect_22 ⟨Nat.le_of_ble_eq_true rfl, Nat.le_of_ble_eq_true rfl⟩) hS (fun locs hS => ?_)
    refine b_ifeq (tgt := 48) CX dX3_whyNotCollect_25 (by decide) (fun c_25 => ?_) (fun c_25 => ?_)
    · refine lv_aload_n hx hb dX3_whyNotCollect_48 rfl (lv_at hl 0 rfl) ?_
      refine lv_iconst (v := nI 2) hx hb dX3_whyNotCollect_49 rfl ?_
      refine b_ci (cs_X3_49 (rest := []) CX hl.1 (m_X3_fails l (code := nI 2) hM ) rfl rfl rfl hM.o0 hS rfl ⟨rfl, rfl, Nat.le_of_ble_eq_true rfl, Nat.le_of_ble_eq_true rfl⟩ (Nat.le_of_ble_eq_true rfl) dX3_whyNotCollect_50 ⟨Nat.le_of_ble_eq_true rfl, Nat.le_of_ble_eq_true rfl⟩) hS (fun r H2 locs hp hS => ?_)
      obtain ⟨rfl, hM9⟩ := hp
      have hM : MW G B0 o H H2 (enc S) sp sv (fun j => nI (t j)) (nI n) (nI tn) (nI 2) pl iw lt on ot nu di := hM.tr hM9
      have ho : o_whyC (S, n, L, tn, t) (nI jx) k c_ = (nI 2, nI 0, (S, n, L, tn, t)) := by
        unfold o_whyC
        simp only [ejx]
        repeat (first | rw [if_pos (by first | assumption | exact ⟨by assumption, by assumption⟩ | (constructor <;> omega) | omega | exact fun q => absurd q (by assumption) | exact fun q => absurd q.1 (by assumption) | exact fun q => absurd q.2 (by assumption) | exact Int32.not_lt.mpr (by assumption) | exact Int32.not_le.mp (by assumption) | exact fun q => q.2 (by assumption) | exact fun q => absurd q.1 (by omega))] | rw [if_neg (by first | assumption | exact ⟨by assumption, by assumption⟩ | (constructor <;> omega) | omega | exact fun q => absurd q (by assumption) | exact fun q => absurd q.1 (by assumption) | exact fun q => absurd q.2 (by assumption) | exact Int32.not_lt.mpr (by assumption) | exact Int32.not_le.mp (by assumption) | exact fun q => q.2 (by assumption) | exact fun q => absurd q.1 (by omega))])
        first | rfl | (unfold f_ok f_no z_save;  rfl)
      rw [← hQ]
      exact b_iret CX hr hlk hS (Nat.le_of_ble_eq_true rfl) (Nat.le_of_ble_eq_true rfl) dX3_whyNotCollect_53 ((by rw [ho]; exact ⟨rfl, _, _, _, _, _, _, _, _, _, hM, hSv⟩))
    · obtain ⟨jk, hjka, hjkb, rfl⟩ := p_rg (by decide) c_25 (by decide)
      have ejk : ix (nI jk) = jk := ix_n (by omega)
      refine lv_iload_n hx hb dX3_whyNotCollect_28 rfl (lv_at hl 3 rfl) ?_
      refine lv_iconst (v := nI 1) hx hb dX3_whyNotCollect_29 rfl ?_
      refine lv_bipush (v := nI 50) hx hb dX3_whyNotCollect_30 rfl ?_
      refine b_ci0 (cs_X3_35 (rest := []) CX hl.1 (m_X3_in l (x := c_) (lo := nI 1) (hi := nI 50)  ) rfl hS rfl ⟨rfl, rfl, Nat.le_of_ble_eq_true rfl, Nat.le_of_ble_eq_true rfl⟩ (Nat.le_of_ble_eq_true rfl) dX3_whyNotCollect_32 ⟨Nat.le_of_ble_eq_true rfl, Nat.le_of_ble_eq_true rfl⟩) hS (fun locs hS => ?_)
      refine b_ifeq (tgt := 48) CX dX3_whyNotCollect_35 (by decide) (fun c_35 => ?_) (fun c_35 => ?_)
      · refine lv_aload_n hx hb dX3_whyNotCollect_48 rfl (lv_at hl 0 rfl) ?_
        refine lv_iconst (v := nI 2) hx hb dX3_whyNotCollect_49 rfl ?_
        refine b_ci (cs_X3_49 (rest := []) CX hl.1 (m_X3_fails l (code := nI 2) hM ) rfl rfl rfl hM.o0 hS rfl ⟨rfl, rfl, Nat.le_of_ble_eq_true rfl, Nat.le_of_ble_eq_true rfl⟩ (Nat.le_of_ble_eq_true rfl) dX3_whyNotCollect_50 ⟨Nat.le_of_ble_eq_true rfl, Nat.le_of_ble_eq_true rfl⟩) hS (fun r H3 locs hp hS => ?_)
        obtain ⟨rfl, hM9⟩ := hp
        have hM : MW G B0 o H H3 (enc S) sp sv (fun j => nI (t j)) (nI n) (nI tn) (nI 2) pl iw lt on ot nu di := hM.tr hM9
        have ho : o_whyC (S, n, L, tn, t) (nI jx) (nI jk) c_ = (nI 2, nI 0, (S, n, L, tn, t)) := by
          unfold o_whyC
          simp only [ejx, ejk]
          repeat (first | rw [if_pos (by first | assumption | exact ⟨by assumption, by assumption⟩ | (constructor <;> omega) | omega | exact fun q => absurd q (by assumption) | exact fun q => absurd q.1 (by assumption) | exact fun q => absurd q.2 (by assumption) | exact Int32.not_lt.mpr (by assumption) | exact Int32.not_le.mp (by assumption) | exact fun q => q.2 (by assumption) | exact fun q => absurd q.1 (by omega))] | rw [if_neg (by first | assumption | exact ⟨by assumption, by assumption⟩ | (constructor <;> omega) | omega | exact fun q => absurd q (by assumption) | exact fun q => absurd q.1 (by assumption) | exact fun q => absurd q.2 (by assumption) | exact Int32.not_lt.mpr (by assumption) | exact Int32.not_le.mp (by assumption) | exact fun q => q.2 (by assumption) | exact fun q => absurd q.1 (by omega))])
          first | rfl | (unfold f_ok f_no z_save;  rfl)
        rw [← hQ]
        exact b_iret CX hr hlk hS (Nat.le_of_ble_eq_true rfl) (Nat.le_of_ble_eq_true rfl) dX3_whyNotCollect_53 ((by rw [ho]; exact ⟨rfl, _, _, _, _, _, _, _, _, _, hM, hSv⟩))
      · refine lv_aload_n hx hb dX3_whyNotCollect_38 rfl (lv_at hl 0 rfl) ?_
        refine lv_iload_n hx hb dX3_whyNotCollect_39 rfl (lv_at hl 1 rfl) ?_
        refine lv_iload_n hx hb dX3_whyNotCollect_40 rfl (lv_at hl 2 rfl) ?_
        refine lv_iload_n hx hb dX3_whyNotCollect_41 rfl (lv_at hl 3 rfl) ?_
        refine b_ci0 (cs_X3_120 (rest := []) CX hl.1 (m_X3_againstCollect l (s_ := jx) (k := jk) (c_ := c_) hM hW (by omega) (by omega)) rfl rfl rfl hM.o0 hS rfl ⟨rfl, rfl, Nat.le_of_ble_eq_true rfl, Nat.le_of_ble_eq_true rfl⟩ (Nat.le_of_ble_eq_true rfl) dX3_whyNotCollect_42 ⟨Nat.le_of_ble_eq_true rfl, Nat.le_of_ble_eq_true rfl⟩) hS (fun locs hS => ?_)
        refine lv_goto (tgt := 53) hx hb dX3_whyNotCollect_45 (by decide) ?_
        have ho : o_whyC (S, n, L, tn, t) (nI jx) (nI jk) c_ = (nI 0, a_collect S jx jk c_, (S, n, L, tn, t)) := by
          unfold o_whyC
          simp only [ejx, ejk]
          repeat (first | rw [if_pos (by first | assumption | exact ⟨by assumption, by assumption⟩ | (constructor <;> omega) | omega | exact fun q => absurd q (by assumption) | exact fun q => absurd q.1 (by assumption) | exact fun q => absurd q.2 (by assumption) | exact Int32.not_lt.mpr (by assumption) | exact Int32.not_le.mp (by assumption) | exact fun q => q.2 (by assumption) | exact fun q => absurd q.1 (by omega))] | rw [if_neg (by first | assumption | exact ⟨by assumption, by assumption⟩ | (constructor <;> omega) | omega | exact fun q => absurd q (by assumption) | exact fun q => absurd q.1 (by assumption) | exact fun q => absurd q.2 (by assumption) | exact Int32.not_lt.mpr (by assumption) | exact Int32.not_le.mp (by assumption) | exact fun q => q.2 (by assumption) | exact fun q => absurd q.1 (by omega))])
          first | rfl | (unfold f_ok f_no z_save;  rfl)
        rw [← hQ]
        exact b_iret CX hr hlk hS (Nat.le_of_ble_eq_true rfl) (Nat.le_of_ble_eq_true rfl) dX3_whyNotCollect_53 ((by rw [ho]; exact ⟨rfl, _, _, _, _, _, _, _, _, _, hM, hSv⟩))
  · refine lv_aload_n hx hb dX3_whyNotCollect_13 rfl (lv_at hl 0 rfl) ?_
    refine lv_iconst (v := nI 1) hx hb dX3_whyNotCollect_14 rfl ?_
    refine b_ci (cs_X3_49 (rest := []) CX hl.1 (m_X3_fails l (code := nI 1) hM ) rfl rfl rfl hM.o0 hS rfl ⟨rfl, rfl, Nat.le_of_ble_eq_true rfl, Nat.le_of_ble_eq_true rfl⟩ (Nat.le_of_ble_eq_true rfl) dX3_whyNotCollect_15 ⟨Nat.le_of_ble_eq_true rfl, Nat.le_of_ble_eq_true rfl⟩) hS (fun r H4 locs hp hS => ?_)
    obtain ⟨rfl, hM9⟩ := hp
    have hM : MW G B0 o H H4 (enc S) sp sv (fun j => nI (t j)) (nI n) (nI tn) (nI 1) pl iw lt on ot nu di := hM.tr hM9
    have ho : o_whyC (S, n, L, tn, t) x k c_ = (nI 1, nI 0, (S, n, L, tn, t)) := by
      unfold o_whyC
      repeat (first | rw [if_pos (by first | assumption | exact ⟨by assumption, by assumption⟩ | (constructor <;> omega) | omega | exact fun q => absurd q (by assumption) | exact fun q => absurd q.1 (by assumption) | exact fun q => absurd q.2 (by assumption) | exact Int32.not_lt.mpr (by assumption) | exact Int32.not_le.mp (by assumption) | exact fun q => q.2 (by assumption) | exact fun q => absurd q.1 (by omega))] | rw [if_neg (by first | assumption | exact ⟨by assumption, by assumption⟩ | (constructor <;> omega) | omega | exact fun q => absurd q (by assumption) | exact fun q => absurd q.1 (by assumption) | exact fun q => absurd q.2 (by assumption) | exact Int32.not_lt.mpr (by assumption) | exact Int32.not_le.mp (by assumption) | exact fun q => q.2 (by assumption) | exact fun q => absurd q.1 (by omega))])
      first | rfl | (unfold f_ok f_no z_save;  rfl)
    rw [← hQ]
    exact b_iret CX hr hlk hS (Nat.le_of_ble_eq_true rfl) (Nat.le_of_ble_eq_true rfl) dX3_whyNotCollect_18 ((by rw [ho]; exact ⟨rfl, _, _, _, _, _, _, _, _, _, hM, hSv⟩))
theorem cs_X3_190 {p : Program} {l : Launch} {e : Env} {R : Room} {s : State} {m : MethodId} {args : Array Value} {below : List Frame} {meth : Method} {c : Code} {H : Heap} {locs : List Loc} {cells slots : Nat} {cc : ByteArray} {pc nL a : Nat} {ls : Array Slot} {rest : List Value} {G : b_G} {B0 : Nat} (CX : b_Cx p s m args c cc nL RX3 G B0) (hls : ls.size = nL) {rm : Room} {mc ms : Nat} {As st0 : List Value} {Qc : Array Value → State → Outcome → State → Prop} (hM : Met l yX3_deliverable (ws_ yX3_deliverable cX3_deliverable 4 (Option.some Jvm.ClassFile.FieldType.int)) rm (b_Pc G B0 H (.ref a :: As)) Qc mc ms (b_A B0)) (hn : As.length = 2) {fs : List Value} {ci : Nat} {qc : vw_C} (hc : b_cl[ci]? = some qc) (hq : qc.1 = RX3) (hP : b_at G a (.inr (ci, fs)) H) (hS : va_S (b_A B0) s.heap H locs) (hst : st0 = As.reverse ++ .ref a :: rest) (hr : rm.cells = mc ∧ rm.slots = ms ∧ rm.frames + 1 ≤ R.frames ∧ 8 + (4 + 11) + rm.locals ≤ R.locals) (hw : (rest.map fun v => v.category).sum ≤ 8) (hdg : decode cc pc = .ok (.invokevirtual 190, 3)) (hf : cells + mc ≤ R.cells ∧ slots + ms ≤ R.slots) : va_Run p l e R s m args below meth c H locs cells slots mc ms (F0 m pc ls st0) rest (Qc (Value.ref a :: As).toArray) (b_A B0) := va_runV CX.fix hM (cwV 2 CX.ts (lw_V q2160 q2162 qs74 q88 q2163) rfl hr.1 hr.2.1 (by decide +kernel) ⟨hr.2.2.1, hr.2.2.2⟩) ⟨b_blind G B0 H _, by have h9 := b_recv CX.K hc hP; rw [hq] at h9; exact h9, b_pre _ CX.K hS⟩ rfl hn hls hst (lv_room hw) hdg hf
set_option maxHeartbeats 2000000 in
set_option maxRecDepth 100000 in
theorem m_X3_mostCrates (l : Launch) {G : b_G} {B0 : Nat} {o : Nat → Nat} {Hr H : Heap} {S : b_St} {sp sv : Nat → Int32} {L : Nat → b_St} {t : Nat → Nat} {n tn : Nat} {th pl iw lt on ot nu di : Int32} {x : Int32} {y : Int32} (hM : MW G B0 o Hr H (enc S) sp sv (fun j => nI (t j)) (nI n) (nI tn) th pl iw lt on ot nu di) (hW : b_WF S) (hn : n ≤ 6) (ht : ∀ j, t j < 128) (htn : tn ≤ 60) (hSv : b_Sv sv n L) : Met l yX3_mostCrates (ws_ yX3_mostCrates cX3_mostCrates 3 (Option.some Jvm.ClassFile.FieldType.int)) ({ frames := 5, cells := 0, slots := 0, locals := 111 } : Room) (b_Pc G B0 H [.ref (o 0), .int x, .int y]) (b_Qi B0 (fun r H1 => r = (o_most (S, n, L, tn, t) x y).2.1 ∧ MZ G B0 o H H1 (o_most (S, n, L, tn, t) x y).1 (o_most (S, n, L, tn, t) x y).2.2)) 0 0 (b_A B0) := by
  refine b_of (by decide) (Nat.le_of_ble_eq_true rfl) ?_
  intro p e s m below meth c CX hr hlk hnm hS ls hl
  have CX : b_Cx p s m _ c cX3_mostCrates 3 RX3 G B0 := CX
  have hx := CX.hx
  have hb := CX.hb
  have hl : lv_has ls 3 [(0, .ref (o 0)), (1, .int x), (2, .int y)] := hl
  generalize hQ : MQ below (b_Qi B0 (fun r H1 => r = (o_most (S, n, L, tn, t) x y).2.1 ∧ MZ G B0 o H H1 (o_most (S, n, L, tn, t) x y).1 (o_most (S, n, L, tn, t) x y).2.2)) ([.ref (o 0), .int x, .int y] : List Value).toArray s 0 0 (b_A B0) = Q
  have hM := hM.re
  have hn8 := hW.nb8
  have hn6 := hW.ns6
  refine lv_aload_n hx hb dX3_mostCrates_0 rfl (lv_at hl 0 rfl) ?_
  refine lv_iconst (v := nI 0) hx hb dX3_mostCrates_1 rfl ?_
  refine pf_X3_28_8 CX hM.o0 hS (hM.B (by decide)) rfl rfl (Nat.le_of_ble_eq_true rfl) dX3_mostCrates_2 (fun H1 locs hat hu hS => ?_)
  have hM : MW G B0 o H H1 (enc S) sp sv (fun j => nI (t j)) (nI n) (nI tn) (nI 0) pl iw lt on ot nu di := hM.set0 hat hu
  refine lv_aload_n hx hb dX3_mostCrates_5 rfl (lv_at hl 0 rfl) ?_
  refine lv_iload_n hx hb dX3_mostCrates_6 rfl (lv_at hl 1 rfl) ?_
  refine b_ci0 (cs_X3_85 (rest := []) CX hl.1 (m_X3_isBrand l (x := x) hM hW) rfl rfl rfl hM.o0 hS rfl ⟨rfl, rfl, Nat.le_of_ble_eq_true rfl, Nat.le_of_ble_eq_true rfl⟩ (Nat.le_of_ble_eq_true rfl) dX3_mostCrates_7 ⟨Nat.le_of_ble_eq_true rfl, Nat.le_of_ble_eq_true rfl⟩) hS (fun locs hS => ?_)
  refine b_ifeq (tgt := 30) CX dX3_mostCrates_10 (by decide) (fun c_10 => ?_) (fun c_10 => ?_)
  · refine lv_aload_n hx hb dX3_mostCrates_30 rfl (lv_at hl 0 rfl) ?_
    refine lv_iconst (v := nI 1) hx hb dX3_mostCrates_31 rfl ?_
    refine b_ci (cs_X3_49 (rest := []) CX hl.1 (m_X3_fails l (code := nI 1) hM ) rfl rfl rfl hM.o0 hS rfl ⟨rfl, rfl, Nat.le_of_ble_eq_true rfl, Nat.le_of_ble_eq_true rfl⟩ (Nat.le_of_ble_eq_true rfl) dX3_mostCrates_32 ⟨Nat.le_of_ble_eq_true rfl, Nat.le_of_ble_eq_true rfl⟩) hS (fun r H2 locs hp hS => ?_)
    obtain ⟨rfl, hM9⟩ := hp
    have hM : MW G B0 o H H2 (enc S) sp sv (fun j => nI (t j)) (nI n) (nI tn) (nI 1) pl iw lt on ot nu di := hM.tr hM9
    have ho : o_most (S, n, L, tn, t) x y = (nI 1, nI 0, (S, n, L, tn, t)) := by
      unfold o_most
      repeat (first | rw [if_pos (by first | assumption | exact ⟨by assumption, by assumption⟩ | (constructor <;> omega) | omega | exact fun q => absurd q (by assumption) | exact fun q => absurd q.1 (by assumption) | exact fun q => absurd q.2 (by assumption) | exact Int32.not_lt.mpr (by assumption) | exact Int32.not_le.mp (by assumption) | exact fun q => q.2 (by assumption) | exact fun q => absurd q.1 (by omega))] | rw [if_neg (by first | assumption | exact ⟨by assumption, by assumption⟩ | (constructor <;> omega) | omega | exact fun q => absurd q (by assumption) | exact fun q => absurd q.1 (by assumption) | exact fun q => absurd q.2 (by assumption) | exact Int32.not_lt.mpr (by assumption) | exact Int32.not_le.mp (by assumption) | exact fun q => q.2 (by assumption) | exact fun q => absurd q.1 (by omega))])
      first | rfl | (unfold f_ok f_no z_save;  rfl)
    rw [← hQ]
    exact b_iret CX hr hlk hS (Nat.le_of_ble_eq_true rfl) (Nat.le_of_ble_eq_true rfl) dX3_mostCrates_35 ((by rw [ho]; exact ⟨rfl, _, _, _, _, _, _, _, _, _, hM, hSv⟩))
  · obtain ⟨jx, hjx, rfl⟩ := isB_lt hW c_10
    have ejx : ix (nI jx) = jx := ix_n (by omega)
    refine lv_aload_n hx hb dX3_mostCrates_13 rfl (lv_at hl 0 rfl) ?_
    refine lv_iload_n hx hb dX3_mostCrates_14 rfl (lv_at hl 2 rfl) ?_
    refine b_ci0 (cs_X3_92 (rest := []) CX hl.1 (m_X3_isShop l (x := y) hM hW) rfl rfl rfl hM.o0 hS rfl ⟨rfl, rfl, Nat.le_of_ble_eq_true rfl, Nat.le_of_ble_eq_true rfl⟩ (Nat.le_of_ble_eq_true rfl) dX3_mostCrates_15 ⟨Nat.le_of_ble_eq_true rfl, Nat.le_of_ble_eq_true rfl⟩) hS (fun locs hS => ?_)
    refine b_ifeq (tgt := 30) CX dX3_mostCrates_18 (by decide) (fun c_18 => ?_) (fun c_18 => ?_)
    · refine lv_aload_n hx hb dX3_mostCrates_30 rfl (lv_at hl 0 rfl) ?_
      refine lv_iconst (v := nI 1) hx hb dX3_mostCrates_31 rfl ?_
      refine b_ci (cs_X3_49 (rest := []) CX hl.1 (m_X3_fails l (code := nI 1) hM ) rfl rfl rfl hM.o0 hS rfl ⟨rfl, rfl, Nat.le_of_ble_eq_true rfl, Nat.le_of_ble_eq_true rfl⟩ (Nat.le_of_ble_eq_true rfl) dX3_mostCrates_32 ⟨Nat.le_of_ble_eq_true rfl, Nat.le_of_ble_eq_true rfl⟩) hS (fun r H3 locs hp hS => ?_)
      obtain ⟨rfl, hM9⟩ := hp
      have hM : MW G B0 o H H3 (enc S) sp sv (fun j => nI (t j)) (nI n) (nI tn) (nI 1) pl iw lt on ot nu di := hM.tr hM9
      have ho : o_most (S, n, L, tn, t) (nI jx) y = (nI 1, nI 0, (S, n, L, tn, t)) := by
        unfold o_most
        simp only [ejx]
        repeat (first | rw [if_pos (by first | assumption | exact ⟨by assumption, by assumption⟩ | (constructor <;> omega) | omega | exact fun q => absurd q (by assumption) | exact fun q => absurd q.1 (by assumption) | exact fun q => absurd q.2 (by assumption) | exact Int32.not_lt.mpr (by assumption) | exact Int32.not_le.mp (by assumption) | exact fun q => q.2 (by assumption) | exact fun q => absurd q.1 (by omega))] | rw [if_neg (by first | assumption | exact ⟨by assumption, by assumption⟩ | (constructor <;> omega) | omega | exact fun q => absurd q (by assumption) | exact fun q => absurd q.1 (by assumption) | exact fun q => absurd q.2 (by assumption) | exact Int32.not_lt.mpr (by assumption) | exact Int32.not_le.mp (by assumption) | exact fun q => q.2 (by assumption) | exact fun q => absurd q.1 (by omega))])
        first | rfl | (unfold f_ok f_no z_save;  rfl)
      rw [← hQ]
      exact b_iret CX hr hlk hS (Nat.le_of_ble_eq_true rfl) (Nat.le_of_ble_eq_true rfl) dX3_mostCrates_35 ((by rw [ho]; exact ⟨rfl, _, _, _, _, _, _, _, _, _, hM, hSv⟩))
    · obtain ⟨jy, hjy, rfl⟩ := isS_lt hW c_18
      have ejy : ix (nI jy) = jy := ix_n (by omega)
      refine lv_aload_n hx hb dX3_mostCrates_21 rfl (lv_at hl 0 rfl) ?_
      refine lv_iload_n hx hb dX3_mostCrates_22 rfl (lv_at hl 1 rfl) ?_
      refine lv_iload_n hx hb dX3_mostCrates_23 rfl (lv_at hl 2 rfl) ?_
      refine b_ci0 (cs_X3_190 (rest := []) CX hl.1 (m_X3_deliverable l (b := jx) (s_ := jy) hM hW (by omega) (by omega)) rfl rfl rfl hM.o0 hS rfl ⟨rfl, rfl, Nat.le_of_ble_eq_true rfl, Nat.le_of_ble_eq_true rfl⟩ (Nat.le_of_ble_eq_true rfl) dX3_mostCrates_24 ⟨Nat.le_of_ble_eq_true rfl, Nat.le_of_ble_eq_true rfl⟩) hS (fun locs hS => ?_)
      refine lv_goto (tgt := 35) hx hb dX3_mostCrates_27 (by decide) ?_
      have ho : o_most (S, n, L, tn, t) (nI jx) (nI jy) = (nI 0, nI (p_dl S jx jy 50 0), (S, n, L, tn, t)) := by
        unfold o_most
        simp only [ejx, ejy]
        repeat (first | rw [if_pos (by first | assumption | exact ⟨by assumption, by assumption⟩ | (constructor <;> omega) | omega | exact fun q => absurd q (by assumption) | exact fun q => absurd q.1 (by assumption) | exact fun q => absurd q.2 (by assumption) | exact Int32.not_lt.mpr (by assumption) | exact Int32.not_le.mp (by assumption) | exact fun q => q.2 (by assumption) | exact fun q => absurd q.1 (by omega))] | rw [if_neg (by first | assumption | exact ⟨by assumption, by assumption⟩ | (constructor <;> omega) | omega | exact fun q => absurd q (by assumption) | exact fun q => absurd q.1 (by assumption) | exact fun q => absurd q.2 (by assumption) | exact Int32.not_lt.mpr (by assumption) | exact Int32.not_le.mp (by assumption) | exact fun q => q.2 (by assumption) | exact fun q => absurd q.1 (by omega))])
        first | rfl | (unfold f_ok f_no z_save;  rfl)
      rw [← hQ]
      exact b_iret CX hr hlk hS (Nat.le_of_ble_eq_true rfl) (Nat.le_of_ble_eq_true rfl) dX3_mostCrates_35 ((by rw [ho]; exact ⟨rfl, _, _, _, _, _, _, _, _, _, hM, hSv⟩))
set_option maxHeartbeats 2000000 in
set_option maxRecDepth 100000 in
theorem m_X3_filled (l : Launch) {G : b_G} {B0 : Nat} {o : Nat → Nat} {Hr H : Heap} {S : b_St} {sp sv : Nat → Int32} {L : Nat → b_St} {t : Nat → Nat} {n tn : Nat} {th pl iw lt on ot nu di : Int32} {x : Int32} {b : Int32} (hM : MW G B0 o Hr H (enc S) sp sv (fun j => nI (t j)) (nI n) (nI tn) th pl iw lt on ot nu di) (hW : b_WF S) (hn : n ≤ 6) (ht : ∀ j, t j < 128) (htn : tn ≤ 60) (hSv : b_Sv sv n L) : Met l yX3_filled (ws_ yX3_filled cX3_filled 3 (Option.some Jvm.ClassFile.FieldType.int)) ({ frames := 3, cells := 0, slots := 0, locals := 66 } : Room) (b_Pc G B0 H [.ref (o 0), .int x, .int b]) (b_Qi B0 (fun r H1 => r = (o_filled (S, n, L, tn, t) x b).2.1 ∧ MZ G B0 o H H1 (o_filled (S, n, L, tn, t) x b).1 (o_filled (S, n, L, tn, t) x b).2.2)) 0 0 (b_A B0) := by
  refine b_of (by decide) (Nat.le_of_ble_eq_true rfl) ?_
  intro p e s m below meth c CX hr hlk hnm hS ls hl
  have CX : b_Cx p s m _ c cX3_filled 3 RX3 G B0 := CX
  have hx := CX.hx
  have hb := CX.hb
  have hl : lv_has ls 3 [(0, .ref (o 0)), (1, .int x), (2, .int b)] := hl
  generalize hQ : MQ below (b_Qi B0 (fun r H1 => r = (o_filled (S, n, L, tn, t) x b).2.1 ∧ MZ G B0 o H H1 (o_filled (S, n, L, tn, t) x b).1 (o_filled (S, n, L, tn, t) x b).2.2)) ([.ref (o 0), .int x, .int b] : List Value).toArray s 0 0 (b_A B0) = Q
  have hM := hM.re
  have hn8 := hW.nb8
  have hn6 := hW.ns6
  refine lv_aload_n hx hb dX3_filled_0 rfl (lv_at hl 0 rfl) ?_
  refine lv_iconst (v := nI 0) hx hb dX3_filled_1 rfl ?_
  refine pf_X3_28_8 CX hM.o0 hS (hM.B (by decide)) rfl rfl (Nat.le_of_ble_eq_true rfl) dX3_filled_2 (fun H1 locs hat hu hS => ?_)
  have hM : MW G B0 o H H1 (enc S) sp sv (fun j => nI (t j)) (nI n) (nI tn) (nI 0) pl iw lt on ot nu di := hM.set0 hat hu
  refine lv_aload_n hx hb dX3_filled_5 rfl (lv_at hl 0 rfl) ?_
  refine lv_iload_n hx hb dX3_filled_6 rfl (lv_at hl 1 rfl) ?_
  refine b_ci0 (cs_X3_85 (rest := []) CX hl.1 (m_X3_isBrand l (x := x) hM hW) rfl rfl rfl hM.o0 hS rfl ⟨rfl, rfl, Nat.le_of_ble_eq_true rfl, Nat.le_of_ble_eq_true rfl⟩ (Nat.le_of_ble_eq_true rfl) dX3_filled_7 ⟨Nat.le_of_ble_eq_true rfl, Nat.le_of_ble_eq_true rfl⟩) hS (fun locs hS => ?_)
  refine b_ifne (tgt := 19) CX dX3_filled_10 (by decide) (fun c_10 => ?_) (fun c_10 => ?_)
  · obtain ⟨jx, hjx, rfl⟩ := isB_lt hW c_10
    have ejx : ix (nI jx) = jx := ix_n (by omega)
    refine lv_iload_n hx hb dX3_filled_19 rfl (lv_at hl 2 rfl) ?_
    refine lv_iconst (v := nI 1) hx hb dX3_filled_20 rfl ?_
    refine lv_sipush (v := nI 5000) hx hb dX3_filled_21 rfl ?_
    refine b_ci0 (cs_X3_35 (rest := []) CX hl.1 (m_X3_in l (x := b) (lo := nI 1) (hi := nI 5000)  ) rfl hS rfl ⟨rfl, rfl, Nat.le_of_ble_eq_true rfl, Nat.le_of_ble_eq_true rfl⟩ (Nat.le_of_ble_eq_true rfl) dX3_filled_24 ⟨Nat.le_of_ble_eq_true rfl, Nat.le_of_ble_eq_true rfl⟩) hS (fun locs hS => ?_)
    refine b_ifeq (tgt := 39) CX dX3_filled_27 (by decide) (fun c_27 => ?_) (fun c_27 => ?_)
    · refine lv_aload_n hx hb dX3_filled_39 rfl (lv_at hl 0 rfl) ?_
      refine lv_iconst (v := nI 2) hx hb dX3_filled_40 rfl ?_
      refine b_ci (cs_X3_49 (rest := []) CX hl.1 (m_X3_fails l (code := nI 2) hM ) rfl rfl rfl hM.o0 hS rfl ⟨rfl, rfl, Nat.le_of_ble_eq_true rfl, Nat.le_of_ble_eq_true rfl⟩ (Nat.le_of_ble_eq_true rfl) dX3_filled_41 ⟨Nat.le_of_ble_eq_true rfl, Nat.le_of_ble_eq_true rfl⟩) hS (fun r H2 locs hp hS => ?_)
      obtain ⟨rfl, hM9⟩ := hp
      have hM : MW G B0 o H H2 (enc S) sp sv (fun j => nI (t j)) (nI n) (nI tn) (nI 2) pl iw lt on ot nu di := hM.tr hM9
      have ho : o_filled (S, n, L, tn, t) (nI jx) b = (nI 2, nI 0, (S, n, L, tn, t)) := by
        unfold o_filled
        simp only [ejx]
        repeat (first | rw [if_pos (by first | assumption | exact ⟨by assumption, by assumption⟩ | (constructor <;> omega) | omega | exact fun q => absurd q (by assumption) | exact fun q => absurd q.1 (by assumption) | exact fun q => absurd q.2 (by assumption) | exact Int32.not_lt.mpr (by assumption) | exact Int32.not_le.mp (by assumption) | exact fun q => q.2 (by assumption) | exact fun q => absurd q.1 (by omega))] | rw [if_neg (by first | assumption | exact ⟨by assumption, by assumption⟩ | (constructor <;> omega) | omega | exact fun q => absurd q (by assumption) | exact fun q => absurd q.1 (by assumption) | exact fun q => absurd q.2 (by assumption) | exact Int32.not_lt.mpr (by assumption) | exact Int32.not_le.mp (by assumption) | exact fun q => q.2 (by assumption) | exact fun q => absurd q.1 (by omega))])
        first | rfl | (unfold f_ok f_no z_save;  rfl)
      rw [← hQ]
      exact b_iret CX hr hlk hS (Nat.le_of_ble_eq_true rfl) (Nat.le_of_ble_eq_true rfl) dX3_filled_44 ((by rw [ho]; exact ⟨rfl, _, _, _, _, _, _, _, _, _, hM, hSv⟩))
    · refine lv_aload_n hx hb dX3_filled_30 rfl (lv_at hl 0 rfl) ?_
      refine lv_iload_n hx hb dX3_filled_31 rfl (lv_at hl 1 rfl) ?_
      refine lv_iload_n hx hb dX3_filled_32 rfl (lv_at hl 2 rfl) ?_
      refine b_ci0 (cs_X3_64 (rest := []) CX hl.1 (m_X3_full l (b := jx) (n_ := b) hM hW (by omega)) rfl rfl rfl hM.o0 hS rfl ⟨rfl, rfl, Nat.le_of_ble_eq_true rfl, Nat.le_of_ble_eq_true rfl⟩ (Nat.le_of_ble_eq_true rfl) dX3_filled_33 ⟨Nat.le_of_ble_eq_true rfl, Nat.le_of_ble_eq_true rfl⟩) hS (fun locs hS => ?_)
      refine lv_goto (tgt := 44) hx hb dX3_filled_36 (by decide) ?_
      have ho : o_filled (S, n, L, tn, t) (nI jx) b = (nI 0, p_full S jx b, (S, n, L, tn, t)) := by
        unfold o_filled
        simp only [ejx]
        repeat (first | rw [if_pos (by first | assumption | exact ⟨by assumption, by assumption⟩ | (constructor <;> omega) | omega | exact fun q => absurd q (by assumption) | exact fun q => absurd q.1 (by assumption) | exact fun q => absurd q.2 (by assumption) | exact Int32.not_lt.mpr (by assumption) | exact Int32.not_le.mp (by assumption) | exact fun q => q.2 (by assumption) | exact fun q => absurd q.1 (by omega))] | rw [if_neg (by first | assumption | exact ⟨by assumption, by assumption⟩ | (constructor <;> omega) | omega | exact fun q => absurd q (by assumption) | exact fun q => absurd q.1 (by assumption) | exact fun q => absurd q.2 (by assumption) | exact Int32.not_lt.mpr (by assumption) | exact Int32.not_le.mp (by assumption) | exact fun q => q.2 (by assumption) | exact fun q => absurd q.1 (by omega))])
        first | rfl | (unfold f_ok f_no z_save;  rfl)
      rw [← hQ]
      exact b_iret CX hr hlk hS (Nat.le_of_ble_eq_true rfl) (Nat.le_of_ble_eq_true rfl) dX3_filled_44 ((by rw [ho]; exact ⟨rfl, _, _, _, _, _, _, _, _, _, hM, hSv⟩))
  · refine lv_aload_n hx hb dX3_filled_13 rfl (lv_at hl 0 rfl) ?_
    refine lv_iconst (v := nI 1) hx hb dX3_filled_14 rfl ?_
    refine b_ci (cs_X3_49 (rest := []) CX hl.1 (m_X3_fails l (code := nI 1) hM ) rfl rfl rfl hM.o0 hS rfl ⟨rfl, rfl, Nat.le_of_ble_eq_true rfl, Nat.le_of_ble_eq_true rfl⟩ (Nat.le_of_ble_eq_true rfl) dX3_filled_15 ⟨Nat.le_of_ble_eq_true rfl, Nat.le_of_ble_eq_true rfl⟩) hS (fun r H3 locs hp hS => ?_)
    obtain ⟨rfl, hM9⟩ := hp
    have hM : MW G B0 o H H3 (enc S) sp sv (fun j => nI (t j)) (nI n) (nI tn) (nI 1) pl iw lt on ot nu di := hM.tr hM9
    have ho : o_filled (S, n, L, tn, t) x b = (nI 1, nI 0, (S, n, L, tn, t)) := by
      unfold o_filled
      repeat (first | rw [if_pos (by first | assumption | exact ⟨by assumption, by assumption⟩ | (constructor <;> omega) | omega | exact fun q => absurd q (by assumption) | exact fun q => absurd q.1 (by assumption) | exact fun q => absurd q.2 (by assumption) | exact Int32.not_lt.mpr (by assumption) | exact Int32.not_le.mp (by assumption) | exact fun q => q.2 (by assumption) | exact fun q => absurd q.1 (by omega))] | rw [if_neg (by first | assumption | exact ⟨by assumption, by assumption⟩ | (constructor <;> omega) | omega | exact fun q => absurd q (by assumption) | exact fun q => absurd q.1 (by assumption) | exact fun q => absurd q.2 (by assumption) | exact Int32.not_lt.mpr (by assumption) | exact Int32.not_le.mp (by assumption) | exact fun q => q.2 (by assumption) | exact fun q => absurd q.1 (by omega))])
      first | rfl | (unfold f_ok f_no z_save;  rfl)
    rw [← hQ]
    exact b_iret CX hr hlk hS (Nat.le_of_ble_eq_true rfl) (Nat.le_of_ble_eq_true rfl) dX3_filled_18 ((by rw [ho]; exact ⟨rfl, _, _, _, _, _, _, _, _, _, hM, hSv⟩))
theorem cs_X3_196 {p : Program} {l : Launch} {e : Env} {R : Room} {s : State} {m : MethodId} {args : Array Value} {below : List Frame} {meth : Method} {c : Code} {H : Heap} {locs : List Loc} {cells slots : Nat} {cc : ByteArray} {pc nL a : Nat} {ls : Array Slot} {rest : List Value} {G : b_G} {B0 : Nat} (CX : b_Cx p s m args c cc nL RX3 G B0) (hls : ls.size = nL) {rm : Room} {mc ms : Nat} {As st0 : List Value} {Qc : Array Value → State → Outcome → State → Prop} (hM : Met l yX3_shopFor (ws_ yX3_shopFor cX3_shopFor 6 (Option.some Jvm.ClassFile.FieldType.int)) rm (b_Pc G B0 H (.ref a :: As)) Qc mc ms (b_A B0)) (hn : As.length = 1) {fs : List Value} {ci : Nat} {qc : vw_C} (hc : b_cl[ci]? = some qc) (hq : qc.1 = RX3) (hP : b_at G a (.inr (ci, fs)) H) (hS : va_S (b_A B0) s.heap H locs) (hst : st0 = As.reverse ++ .ref a :: rest) (hr : rm.cells = mc ∧ rm.slots = ms ∧ rm.frames + 1 ≤ R.frames ∧ 8 + (6 + 11) + rm.locals ≤ R.locals) (hw : (rest.map fun v => v.category).sum ≤ 8) (hdg : decode cc pc = .ok (.invokevirtual 196, 3)) (hf : cells + mc ≤ R.cells ∧ slots + ms ≤ R.slots) : va_Run p l e R s m args below meth c H locs cells slots mc ms (F0 m pc ls st0) rest (Qc (Value.ref a :: As).toArray) (b_A B0) := va_runV CX.fix hM (cwV 1 CX.ts (lw_V q2180 q2182 qs76 q88 q2183) rfl hr.1 hr.2.1 (by decide +kernel) ⟨hr.2.2.1, hr.2.2.2⟩) ⟨b_blind G B0 H _, by have h9 := b_recv CX.K hc hP; rw [hq] at h9; exact h9, b_pre _ CX.K hS⟩ rfl hn hls hst (lv_room hw) hdg hf
set_option maxHeartbeats 2000000 in
set_option maxRecDepth 100000 in
theorem m_X3_bestShop (l : Launch) {G : b_G} {B0 : Nat} {o : Nat → Nat} {Hr H : Heap} {S : b_St} {sp sv : Nat → Int32} {L : Nat → b_St} {t : Nat → Nat} {n tn : Nat} {th pl iw lt on ot nu di : Int32} {k : Int32} (hM : MW G B0 o Hr H (enc S) sp sv (fun j => nI (t j)) (nI n) (nI tn) th pl iw lt on ot nu di) (hW : b_WF S) (hn : n ≤ 6) (ht : ∀ j, t j < 128) (htn : tn ≤ 60) (hSv : b_Sv sv n L) : Met l yX3_bestShop (ws_ yX3_bestShop cX3_bestShop 2 (Option.some Jvm.ClassFile.FieldType.int)) ({ frames := 4, cells := 0, slots := 0, locals := 92 } : Room) (b_Pc G B0 H [.ref (o 0), .int k]) (b_Qi B0 (fun r H1 => r = (o_best (S, n, L, tn, t) k).2.1 ∧ MZ G B0 o H H1 (o_best (S, n, L, tn, t) k).1 (o_best (S, n, L, tn, t) k).2.2)) 0 0 (b_A B0) := by
  refine b_of (by decide) (Nat.le_of_ble_eq_true rfl) ?_
  intro p e s m below meth c CX hr hlk hnm hS ls hl
  have CX : b_Cx p s m _ c cX3_bestShop 2 RX3 G B0 := CX
  have hx := CX.hx
  have hb := CX.hb
  have hl : lv_has ls 2 [(0, .ref (o 0)), (1, .int k)] := hl
  generalize hQ : MQ below (b_Qi B0 (fun r H1 => r = (o_best (S, n, L, tn, t) k).2.1 ∧ MZ G B0 o H H1 (o_best (S, n, L, tn, t) k).1 (o_best (S, n, L, tn, t) k).2.2)) ([.ref (o 0), .int k] : List Value).toArray s 0 0 (b_A B0) = Q
  have hM := hM.re
  have hn8 := hW.nb8
  have hn6 := hW.ns6
  refine lv_aload_n hx hb dX3_bestShop_0 rfl (lv_at hl 0 rfl) ?_
  refine lv_iconst (v := nI 0) hx hb dX3_bestShop_1 rfl ?_
  refine pf_X3_28_8 CX hM.o0 hS (hM.B (by decide)) rfl rfl (Nat.le_of_ble_eq_true rfl) dX3_bestShop_2 (fun H1 locs hat hu hS => ?_)
  have hM : MW G B0 o H H1 (enc S) sp sv (fun j => nI (t j)) (nI n) (nI tn) (nI 0) pl iw lt on ot nu di := hM.set0 hat hu
  refine lv_iload_n hx hb dX3_bestShop_5 rfl (lv_at hl 1 rfl) ?_
  refine lv_iconst (v := nI 0) hx hb dX3_bestShop_6 rfl ?_
  refine lv_iconst (v := nI 2) hx hb dX3_bestShop_7 rfl ?_
  refine b_ci0 (cs_X3_35 (rest := []) CX hl.1 (m_X3_in l (x := k) (lo := nI 0) (hi := nI 2)  ) rfl hS rfl ⟨rfl, rfl, Nat.le_of_ble_eq_true rfl, Nat.le_of_ble_eq_true rfl⟩ (Nat.le_of_ble_eq_true rfl) dX3_bestShop_8 ⟨Nat.le_of_ble_eq_true rfl, Nat.le_of_ble_eq_true rfl⟩) hS (fun locs hS => ?_)
  refine b_ifeq (tgt := 22) CX dX3_bestShop_11 (by decide) (fun c_11 => ?_) (fun c_11 => ?_)
  · refine lv_aload_n hx hb dX3_bestShop_22 rfl (lv_at hl 0 rfl) ?_
    refine lv_iconst (v := nI 1) hx hb dX3_bestShop_23 rfl ?_
    refine b_ci (cs_X3_49 (rest := []) CX hl.1 (m_X3_fails l (code := nI 1) hM ) rfl rfl rfl hM.o0 hS rfl ⟨rfl, rfl, Nat.le_of_ble_eq_true rfl, Nat.le_of_ble_eq_true rfl⟩ (Nat.le_of_ble_eq_true rfl) dX3_bestShop_24 ⟨Nat.le_of_ble_eq_true rfl, Nat.le_of_ble_eq_true rfl⟩) hS (fun r H2 locs hp hS => ?_)
    obtain ⟨rfl, hM9⟩ := hp
    have hM : MW G B0 o H H2 (enc S) sp sv (fun j => nI (t j)) (nI n) (nI tn) (nI 1) pl iw lt on ot nu di := hM.tr hM9
    have ho : o_best (S, n, L, tn, t) k = (nI 1, nI 0, (S, n, L, tn, t)) := by
      unfold o_best
      repeat (first | rw [if_pos (by first | assumption | exact ⟨by assumption, by assumption⟩ | (constructor <;> omega) | omega | exact fun q => absurd q (by assumption) | exact fun q => absurd q.1 (by assumption) | exact fun q => absurd q.2 (by assumption) | exact Int32.not_lt.mpr (by assumption) | exact Int32.not_le.mp (by assumption) | exact fun q => q.2 (by assumption) | exact fun q => absurd q.1 (by omega))] | rw [if_neg (by first | assumption | exact ⟨by assumption, by assumption⟩ | (constructor <;> omega) | omega | exact fun q => absurd q (by assumption) | exact fun q => absurd q.1 (by assumption) | exact fun q => absurd q.2 (by assumption) | exact Int32.not_lt.mpr (by assumption) | exact Int32.not_le.mp (by assumption) | exact fun q => q.2 (by assumption) | exact fun q => absurd q.1 (by omega))])
      first | rfl | (unfold f_ok f_no z_save;  rfl)
    rw [← hQ]
    exact b_iret CX hr hlk hS (Nat.le_of_ble_eq_true rfl) (Nat.le_of_ble_eq_true rfl) dX3_bestShop_27 ((by rw [ho]; exact ⟨rfl, _, _, _, _, _, _, _, _, _, hM, hSv⟩))
  · obtain ⟨jk, hjka, hjkb, rfl⟩ := p_rg (by decide) c_11 (by decide)
    have ejk : ix (nI jk) = jk := ix_n (by omega)
    refine lv_aload_n hx hb dX3_bestShop_14 rfl (lv_at hl 0 rfl) ?_
    refine lv_iload_n hx hb dX3_bestShop_15 rfl (lv_at hl 1 rfl) ?_
    refine b_ci0 (cs_X3_196 (rest := []) CX hl.1 (m_X3_shopFor l (k := jk) hM hW (by omega)) rfl rfl rfl hM.o0 hS rfl ⟨rfl, rfl, Nat.le_of_ble_eq_true rfl, Nat.le_of_ble_eq_true rfl⟩ (Nat.le_of_ble_eq_true rfl) dX3_bestShop_16 ⟨Nat.le_of_ble_eq_true rfl, Nat.le_of_ble_eq_true rfl⟩) hS (fun locs hS => ?_)
    refine lv_goto (tgt := 27) hx hb dX3_bestShop_19 (by decide) ?_
    have ho : o_best (S, n, L, tn, t) (nI jk) = (nI 0, p_shopFor S jk, (S, n, L, tn, t)) := by
      unfold o_best
      simp only [ejk]
      repeat (first | rw [if_pos (by first | assumption | exact ⟨by assumption, by assumption⟩ | (constructor <;> omega) | omega | exact fun q => absurd q (by assumption) | exact fun q => absurd q.1 (by assumption) | exact fun q => absurd q.2 (by assumption) | exact Int32.not_lt.mpr (by assumption) | exact Int32.not_le.mp (by assumption) | exact fun q => q.2 (by assumption) | exact fun q => absurd q.1 (by omega))] | rw [if_neg (by first | assumption | exact ⟨by assumption, by assumption⟩ | (constructor <;> omega) | omega | exact fun q => absurd q (by assumption) | exact fun q => absurd q.1 (by assumption) | exact fun q => absurd q.2 (by assumption) | exact Int32.not_lt.mpr (by assumption) | exact Int32.not_le.mp (by assumption) | exact fun q => q.2 (by assumption) | exact fun q => absurd q.1 (by omega))])
      first | rfl | (unfold f_ok f_no z_save;  rfl)
    rw [← hQ]
    exact b_iret CX hr hlk hS (Nat.le_of_ble_eq_true rfl) (Nat.le_of_ble_eq_true rfl) dX3_bestShop_27 ((by rw [ho]; exact ⟨rfl, _, _, _, _, _, _, _, _, _, hM, hSv⟩))
