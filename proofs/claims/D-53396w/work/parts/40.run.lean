/-! a row carried out -/
set_option maxRecDepth 100000
theorem q_all_w {t : Nat → Nat} {n : Nat} : ∀ f p, (q_all t n f p).2.2 = 0 ∨ (q_all t n f p).2.2 = 1
  | 0, p => Or.inl rfl
  | f + 1, p => by
    rcases h : q_ord t n p with ⟨p9, _ | x⟩
    · rw [q_all_n h]; exact Or.inl rfl
    · by_cases c : p9 < n ∧ t p9 = 59
      · rw [q_all_s h c]; exact q_all_w f (p9 + 1)
      · rw [q_all_e h c]; exact Or.inr rfl
theorem q_all_le {t : Nat → Nat} {n : Nat} : ∀ f p, p ≤ n → (q_all t n f p).2.1 ≤ n
  | 0, p, hp => hp
  | f + 1, p, hp => by
    have h0 := q_ord_le (t := t) hp
    rcases h : q_ord t n p with ⟨p9, _ | x⟩
    · rw [h] at h0; rw [q_all_n h]; exact h0
    · rw [h] at h0
      by_cases c : p9 < n ∧ t p9 = 59
      · rw [q_all_s h c]; exact q_all_le f (p9 + 1) (by omega)
      · rw [q_all_e h c]; exact h0
theorem q_all_len {t : Nat → Nat} {n : Nat} : ∀ f p, p ≤ n + 1 → 7 * (q_all t n f p).1.length + p ≤ n + 1
  | 0, p, hp => by show 7 * 0 + p ≤ n + 1; omega
  | f + 1, p, hp => by
    rcases h : q_ord t n p with ⟨p9, _ | x⟩
    · rw [q_all_n h]; show 7 * 0 + p ≤ n + 1; omega
    · have h1 := q_ord_len (x := x) (congrArg Prod.snd h)
      rw [h] at h1
      have h1 : p + 6 ≤ p9 := h1
      by_cases c : p9 < n ∧ t p9 = 59
      · rw [q_all_s h c]
        have h2 := q_all_len (t := t) (n := n) f (p9 + 1) (by omega)
        show 7 * ((q_all t n f (p9 + 1)).1.length + 1) + p ≤ n + 1
        omega
      · rw [q_all_e h c]
        have h3 : p ≤ n := by
          rcases Nat.lt_or_ge n p with h4 | h4
          · exfalso
            have h5 : q_ord t n p = (p, none) := by unfold q_ord; rw [if_neg (by omega)]
            rw [h5] at h
            cases h
          · exact h4
        have h0 := q_ord_le (t := t) h3
        rw [h] at h0
        have h0 : p9 ≤ n := h0
        show 7 * 1 + p ≤ n + 1
        omega
theorem q_all_ok {t : Nat → Nat} {n : Nat} : ∀ f p, ∀ x ∈ (q_all t n f p).1, o_ok x.1 x.2.1 x.2.2.1 x.2.2.2
  | 0, p => fun x hx => nomatch hx
  | f + 1, p => by
    rcases h : q_ord t n p with ⟨p9, _ | ⟨a, b, c, d⟩⟩
    · rw [q_all_n h]; intro x hx; exact nomatch hx
    · have h1 := (q_ord_ok h).2
      by_cases c : p9 < n ∧ t p9 = 59
      · rw [q_all_s h c]
        intro x hx
        rcases List.mem_cons.mp hx with rfl | hx
        · exact h1
        · exact q_all_ok f (p9 + 1) x hx
      · rw [q_all_e h c]
        intro x hx
        rcases List.mem_cons.mp hx with rfl | hx
        · exact h1
        · exact nomatch hx
theorem drop_some {α : Type} {l : List α} {i : Nat} {x : α} (h : l[i]? = some x) : l.drop i = x :: l.drop (i + 1) := by
  obtain ⟨hi, rfl⟩ := List.getElem?_eq_some_iff.mp h
  exact List.drop_eq_getElem_cons hi
theorem XR.x0 {G : b_G} {B0 : Nat} {τ : b_T} {A : Nat → Nat} {H : Heap} {z : b_Z} (h : XR G B0 τ A H z) : ∃ fs : List Value, b_tt G B0 τ H (A 0) 0 (.inr (0, fs)) := by
  obtain ⟨d0, c0, ids, P0, F, M, E, Z, sm, rs, se, ml, hs, bt, tk9, h1, h2⟩ := h
  exact ⟨_, h1⟩
theorem r_px.n0 {G : b_G} {B0 : Nat} {H H1 : Heap} {code : Int32} {E : String} {q : Nat} (h : r_px G B0 H code E q H1) : ¬ code = nI 0 := by
  obtain ⟨-, -, -, -, ⟨h1, -⟩ | ⟨v, qc, h0, h1, -⟩⟩ := h
  · rw [h1]; decide
  · rw [h1]
    rcases h0 with rfl | rfl | rfl <;> decide
set_option maxHeartbeats 2000000 in
set_option maxRecDepth 100000 in
theorem m_X1_carryOut (l : Launch) {G : b_G} {B0 : Nat} {H : Heap} {τ : b_T} {A : Nat → Nat} {S : b_St} {n : Nat} {L : Nat → b_St} {tn : Nat} {t : Nat → Nat} {xs : Nat} {ao : Nat} {to : Nat} {oa : Nat} {ob : Nat} {om : Nat} (hc_O : b_tt G B0 τ H ao (to) (.inr (7, [.int (nI xs), .int (nI oa), .int (nI ob), .int (nI om)]))) (hXR : XR G B0 τ A H (S, n, L, tn, t)) (hto : 120 ≤ to ∧ to < 1000) (hok : o_ok xs oa ob om) (hWd : o_why S xs oa ob om = nI 0 → b_WF (o_do S xs oa ob om)) (hpk : o_why S xs oa ob om = nI 0 → xs = 99 → p_picks S oa ob om) : vx_Met l yX1_carryOut (ws_ yX1_carryOut cX1_carryOut 5 (Option.none)) ({ frames := 10, cells := 5, slots := 29, locals := 260 } : Room) (b_Pc G B0 H [.ref ((A 0)), .ref ao]) (b_Qv B0 (fun H1 => o_why S xs oa ob om = nI 0 ∧ ∃ τ1 : b_T, b_Ag τ τ1 H ∧ b_Fr τ (fun t => t = 5 ∨ 1000 ≤ t) H H1 ∧ XR G B0 τ1 A H1 ((o_do S xs oa ob om), n, L, tn, t))) (b_X B0 (fun E9 q9 H9 => r_px G B0 H (o_why S xs oa ob om) E9 q9 H9)) 5 29 (b_A B0) := by
  have hok0 := hok
  obtain ⟨k1, k2⟩ := hok
  rcases k1 with rfl | rfl | rfl | rfl | rfl
  · exact m_X1_carryOut_100 l hc_O hXR hto hok0 hWd hpk
  · exact m_X1_carryOut_115 l hc_O hXR hto hok0 hWd hpk
  · exact m_X1_carryOut_114 l hc_O hXR hto hok0 hWd hpk
  · exact m_X1_carryOut_98 l hc_O hXR hto hok0 hWd hpk
  · exact m_X1_carryOut_99 l hc_O hXR hto hok0 hWd hpk
theorem q_bad {t : Nat → Nat} {n p : Nat} (hp : p ≤ n) (h : ¬ (q_all t n (n + 1) p).2 = (n, 1)) : (q_all t n (n + 1) p).2.1 < n ∨ (q_all t n (n + 1) p).2.2 = 0 := by
  have h1 := q_all_le (t := t) (n + 1) p hp
  rcases q_all_w (t := t) (n := n) (n + 1) p with h2 | h2
  · exact Or.inr h2
  · refine Or.inl (Nat.lt_of_le_of_ne h1 fun h3 => h (Prod.ext h3 h2))
theorem pf_X1_247_1 {p : Program} {l : Launch} {e : Env} {R : Room} {s : State} {m : MethodId} {args : Array Value} {below : List Frame} {meth : Method} {c : Code} {H : Heap} {locs : List Loc} {cells slots : Nat} {Q : State → Prop} {cc : ByteArray} {pc nL a : Nat} {ls : Array Slot} {rest : List Value} {G : b_G} {B0 : Nat} (CX : b_Cx p s m args c cc nL RX1 G B0) {fs : List Value} (hP : b_at G a (.inr (1, fs)) H) (hS : va_S (b_A B0) s.heap H locs) (ha : B0 ≤ a) {v : Value} (hn : narrow (tyX2 8) v = v) (hfit : fits (tyX2 8) v = true) (hl : 8 < fs.length) (hdg : decode cc pc = .ok (.putfield 247, 3)) (kk : ∀ (H1 : Heap) (locs1 : List Loc), b_at G a (.inr (1, fs.set 8 v)) H1 → b_Up a H H1 → va_S (b_A B0) s.heap H1 locs1 → W p l e R s m args below meth c H1 locs1 cells slots Q (F0 m (pc + 3) ls rest)) : W p l e R s m args below meth c H locs cells slots Q (F0 m pc ls (v :: .ref a :: rest)) := b_putN CX in_X2 tyX2 tyX2_ok rfl 8 (by decide) (by decide +kernel) q192 (Or.inl rfl) rfl hP hS ha hn hfit hl hdg kk
theorem gf_X1_250_6 {p : Program} {l : Launch} {e : Env} {R : Room} {s : State} {m : MethodId} {args : Array Value} {below : List Frame} {meth : Method} {c : Code} {H : Heap} {locs : List Loc} {cells slots : Nat} {Q : State → Prop} {cc : ByteArray} {pc nL a : Nat} {ls : Array Slot} {rest : List Value} {G : b_G} {B0 : Nat} (CX : b_Cx p s m args c cc nL RX1 G B0) {fs : List Value} (hP : b_at G a (.inr (6, fs)) H) {v : Value} (hv : fs[0]? = some v) (hdg : decode cc pc = .ok (.getfield 250, 3)) (kk : W p l e R s m args below meth c H locs cells slots Q (F0 m (pc + 3) ls (v :: rest))) : W p l e R s m args below meth c H locs cells slots Q (F0 m pc ls (.ref a :: rest)) := b_getN CX in_X20 rfl 0 (by decide) q642 (Or.inl rfl) hP hv hdg kk
theorem cx_X1_253 {p : Program} {l : Launch} {e : Env} {R : Room} {s : State} {m : MethodId} {args : Array Value} {below : List Frame} {meth : Method} {c : Code} {H : Heap} {locs : List Loc} {cells slots : Nat} {cc : ByteArray} {pc nL a : Nat} {ls : Array Slot} {rest : List Value} {G : b_G} {B0 : Nat} (CX : b_Cx p s m args c cc nL RX1 G B0) (hls : ls.size = nL) {rm : Room} {mc ms : Nat} {As st0 : List Value} {Qc : Array Value → State → Outcome → State → Prop} {XC : String → Addr → State → State → Prop} (hM : vx_Met l yX1_carryOut (ws_ yX1_carryOut cX1_carryOut 5 (Option.none)) rm (b_Pc G B0 H (.ref a :: As)) Qc XC mc ms (b_A B0)) (hn : As.length = 1) {fs : List Value} {ci : Nat} {qc : vw_C} (hc : b_cl[ci]? = some qc) (hq : qc.1 = RX1) (hP : b_at G a (.inr (ci, fs)) H) (hS : va_S (b_A B0) s.heap H locs) (hst : st0 = As.reverse ++ .ref a :: rest) (hr : rm.cells = mc ∧ rm.slots = ms ∧ rm.frames + 1 ≤ R.frames ∧ 8 + (5 + 11) + rm.locals ≤ R.locals) (hw : (rest.map fun v => v.category).sum ≤ 8) (hdg : decode cc pc = .ok (.invokevirtual 253, 3)) (hf : cells + mc ≤ R.cells ∧ slots + ms ≤ R.slots) : vx_Run p l e R s m args below meth c H locs cells slots mc ms (F0 m pc ls st0) rest (Qc (Value.ref a :: As).toArray) XC (b_A B0) := vx_runV CX.fix hM (cwV 1 CX.ts (lw_V q1713 q1715 qs36 q79 q1716) rfl hr.1 hr.2.1 (by decide +kernel) ⟨hr.2.2.1, hr.2.2.2⟩) ⟨b_blind G B0 H _, by have h9 := b_recv CX.K hc hP; rw [hq] at h9; exact h9, b_pre _ CX.K hS⟩ rfl hn hls hst (lv_room hw) hdg hf
theorem cs_X1_257 {p : Program} {l : Launch} {e : Env} {R : Room} {s : State} {m : MethodId} {args : Array Value} {below : List Frame} {meth : Method} {c : Code} {H : Heap} {locs : List Loc} {cells slots : Nat} {cc : ByteArray} {pc nL a : Nat} {ls : Array Slot} {rest : List Value} {G : b_G} {B0 : Nat} (CX : b_Cx p s m args c cc nL RX1 G B0) (hls : ls.size = nL) {rm : Room} {mc ms : Nat} {As st0 : List Value} {Qc : Array Value → State → Outcome → State → Prop} (hM : Met l yX22_number (ws_ yX22_number cX22_number 1 (Option.some Jvm.ClassFile.FieldType.int)) rm (b_Pc G B0 H (.ref a :: As)) Qc mc ms (b_A B0)) (hn : As.length = 0) {fs : List Value} {ci : Nat} {qc : vw_C} (hc : b_cl[ci]? = some qc) (hq : qc.1 = RX22) (hP : b_at G a (.inr (ci, fs)) H) (hS : va_S (b_A B0) s.heap H locs) (hst : st0 = As.reverse ++ .ref a :: rest) (hr : rm.cells = mc ∧ rm.slots = ms ∧ rm.frames + 1 ≤ R.frames ∧ 8 + (1 + 11) + rm.locals ≤ R.locals) (hw : (rest.map fun v => v.category).sum ≤ 8) (hdg : decode cc pc = .ok (.invokevirtual 257, 3)) (hf : cells + mc ≤ R.cells ∧ slots + ms ≤ R.slots) : va_Run p l e R s m args below meth c H locs cells slots mc ms (F0 m pc ls st0) rest (Qc (Value.ref a :: As).toArray) (b_A B0) := va_runV CX.fix hM (cwV 0 CX.ts (lw_V q1746 q1747 q1748 q124 q1749) rfl hr.1 hr.2.1 (by decide +kernel) ⟨hr.2.2.1, hr.2.2.2⟩) ⟨b_blind G B0 H _, by have h9 := b_recv CX.K hc hP; rw [hq] at h9; exact h9, b_pre _ CX.K hS⟩ rfl hn hls hst (lv_room hw) hdg hf
set_option maxHeartbeats 2000000 in
set_option maxRecDepth 100000 in
theorem m_X1_run (l : Launch) {G : b_G} {B0 : Nat} {H : Heap} {τ : b_T} {A : Nat → Nat} {S : b_St} {n : Nat} {L : Nat → b_St} {tn : Nat} {t : Nat → Nat}{J : b_St → Prop} (hlt : l.stackTraces = false) (hXR : XR G B0 τ A H (S, n, L, tn, t)) (hJ : p_J J) (hJS : J S) : vx_Met l yX1_run (wsW_ yX1_run cX1_run 5 (Option.some Jvm.ClassFile.FieldType.int) [((30 : Nat), (62 : Nat), (73 : Nat), (236 : Nat)), ((30 : Nat), (62 : Nat), (96 : Nat), (0 : Nat)), ((73 : Nat), (85 : Nat), (96 : Nat), (0 : Nat)), ((96 : Nat), (98 : Nat), (96 : Nat), (0 : Nat))]) ({ frames := 11, cells := 240, slots := 1680, locals := 284 } : Room) (b_Pc G B0 H [.ref ((A 0))]) (b_Qi B0 (fun r H1 => o_ok1 G B0 τ A H (o_run (S, n, L, tn, t)) r H1)) (b_X B0 (fun E9 q9 H9 => E9 = cl_B 1 ∧ (o_run (S, n, L, tn, t)).1 = nI 1 ∧ (o_run (S, n, L, tn, t)).2.2 = (S, n, L, tn, t) ∧ ∃ τ1 : b_T, b_Ag τ τ1 H ∧ b_Fr τ (fun t => t < 200 ∨ 1000 ≤ t) H H9 ∧ XR G B0 τ1 A H9 (S, n, L, tn, t))) 240 1680 (b_A B0) := by
  refine b_ofXW (by decide) (Nat.le_of_ble_eq_true rfl) ?_
  intro p e s m below meth c CX hr hlk htb hS ls hl
  have CX : b_Cx p s m _ c cX1_run 5 RX1 G B0 := CX
  have hx := CX.hx
  have hb := CX.hb
  have hl : lv_has ls 5 [(0, .ref ((A 0)))] := hl
  generalize hQ : vx_MQ below (b_Qi B0 (fun r H1 => o_ok1 G B0 τ A H (o_run (S, n, L, tn, t)) r H1)) (b_X B0 (fun E9 q9 H9 => E9 = cl_B 1 ∧ (o_run (S, n, L, tn, t)).1 = nI 1 ∧ (o_run (S, n, L, tn, t)).2.2 = (S, n, L, tn, t) ∧ ∃ τ1 : b_T, b_Ag τ τ1 H ∧ b_Fr τ (fun t => t < 200 ∨ 1000 ≤ t) H H9 ∧ XR G B0 τ1 A H9 (S, n, L, tn, t))) ([.ref ((A 0))] : List Value).toArray s 240 1680 (b_A B0) = Q
  have hF : b_Fr τ (fun t => t < 200 ∨ 1000 ≤ t) H H := b_Fr.rf
  have hA : b_Ag τ τ H := b_Ag.rf
  have hX : b_Ext H H := b_Ext.rf
  obtain ⟨d0, c0, ids, P0, F, M, E, Z, sm, rs, se, ml, hs, bt, tk9, hc_X, hc_sv, hsa, hse, hc_tx, hc_tb, hbt, hc_tk, hL, hZ, hW, hV, hd0, hdc, hn, htn, ht⟩ := hXR
  have hc_X : b_tt G B0 τ H ((A 0)) 0 (.inr (0, [.ref ((F 0)), .ref ((A 1)), .ref ((A 3)), .ref ((A 5)), .long hs])) := hc_X
  have hc_sv : b_tt G B0 τ H ((A 1)) 1 (.inr (2, [.int sm, .ref ((if se = true then rs else G.2.2 0)), .int (nI n)])) := hc_sv
  have hsa : (se = true → b_tt G B0 τ H rs 2 (.inl (G.2.1 2, q_refs 10 (fun j => if j < n then some (P0 j) else none)))) := hsa
  have hc_tx : b_tt G B0 τ H ((A 3)) 3 (.inr (3, [.ref ((A 4)), .int (nI 0), .int ml, .int (nI tn)])) := hc_tx
  have hc_tb : b_tt G B0 τ H ((A 4)) 4 (.inl (G.2.1 1, 60, .inl bt)) := hc_tb
  have hc_tk : b_tt G B0 τ H ((A 5)) 5 (.inl (G.2.1 0, 8, .inl tk9)) := hc_tk
  have hL : LR G B0 τ d0 F M E H S Z := hL
  have hV : SV G B0 τ d0 c0 n ids P0 H L := hV
  have hn8 := hL.2.2.2.1
  have hn6 := hL.2.2.2.2
  have hnb : nb S = nb S := rfl
  have hns : ns S = ns S := rfl
  have hn : n ≤ 6 := hn
  have htn : tn ≤ 60 := htn
  have ht : ∀ j, t j < 128 := ht
  have hse : se = true ∨ n = 0 := hse
  have hZ : pZ Z S := hZ
  have hW : b_WF S := hW
  have hbt : ∀ j, j < tn → bt j = nI (t j) := hbt
  refine b_new CX in_X20 tyX20 tyX20_ok (ci := 6) rfl q633 q634 q122 (fs := [.null, .int (nI 0), .null]) (nofn_X20) hS (Nat.le_of_ble_eq_true rfl) (Nat.le_of_ble_eq_true rfl) dX1_run_0 (fun q1 H1 hq hB hat hsz hE hS => ?_)
  have hc_X := hc_X.new (tb := 110) hE hq
  have hc_sv := hc_sv.new (tb := 110) hE hq
  have hsa := fun h9 => (hsa h9).new (tb := 110) hE hq
  have hc_tx := hc_tx.new (tb := 110) hE hq
  have hc_tb := hc_tb.new (tb := 110) hE hq
  have hc_tk := hc_tk.new (tb := 110) hE hq
  have hL := hL.new (tb := 110) hE hq
  have hV := hV.new (tb := 110) hE hq
  have fr_rd : H.size ≤ q1 := by rw [hq]; exact hF.1
  have hX := hX.tr hE
  have hA := hA.tr (b_Ag.new (t := 110) hq) hF.1
  have hF := hF.ext hE
  have hc_rd : b_tt G B0 ((upT τ q1 110)) H1 q1 110 (.inr (6, [.null, .int (nI 0), .null])) := b_tt.mk hat hB
  refine lv_dup hx hb dX1_run_3 rfl ?_
  refine lv_aload_n hx hb dX1_run_4 rfl (lv_at hl 0 rfl) ?_
  refine b_cv (cs_X1_215 (rest := [.ref q1]) CX hl.1 (m_X20_init l (rr := q1) (a := (A 0)) hc_rd) rfl hS rfl ⟨rfl, rfl, Nat.le_of_ble_eq_true rfl, Nat.le_of_ble_eq_true rfl⟩ (Nat.le_of_ble_eq_true rfl) dX1_run_5 ⟨Nat.le_of_ble_eq_true rfl, Nat.le_of_ble_eq_true rfl⟩) hS (fun H2 locs hp hS => ?_)
  obtain ⟨τ2, ro2, hA9, hF9, hr0, hx0, hx1⟩ := hp
  have hc_X := hc_X.ca hF9 hA9 (show ¬ (0 = 110 ∨ 0 = 111) by omega)
  have hc_sv := hc_sv.ca hF9 hA9 (show ¬ (1 = 110 ∨ 1 = 111) by omega)
  have hsa := fun h9 => (hsa h9).ca hF9 hA9 (show ¬ (2 = 110 ∨ 2 = 111) by omega)
  have hc_tx := hc_tx.ca hF9 hA9 (show ¬ (3 = 110 ∨ 3 = 111) by omega)
  have hc_tb := hc_tb.ca hF9 hA9 (show ¬ (4 = 110 ∨ 4 = 111) by omega)
  have hc_tk := hc_tk.ca hF9 hA9 (show ¬ (5 = 110 ∨ 5 = 111) by omega)
  have hL := hL.ca hF9 hA9 (fun i9 hi9 => show ¬ ((1000 * d0 + i9) = 110 ∨ (1000 * d0 + i9) = 111) by omega)
  have hV := hV.ca hF9 hA9 (fun k9 h1 h2 h3 i9 hi9 => show ¬ ((1000 * k9 + i9) = 110 ∨ (1000 * k9 + i9) = 111) by omega)
  have hz9 := hF.1
  have hF0 := hF.tr hA hF9 (fun q9 hq9 x9 => by have x8 : τ q9 = 110 ∨ τ q9 = 111 := x9; show τ q9 < 200 ∨ 1000 ≤ τ q9; omega)
  have hA := hA.tr hA9 hF.1
  have hF := hF0
  have hc_rd : b_tt G B0 τ2 H2 q1 110 (.inr (6, [.ref ro2, .int (nI 0), .ref ((A 0))])) := hx0
  have hc_ol2 : b_tt G B0 τ2 H2 ro2 111 (.inr (2, [.int (nI 0), .ref ((G.2.2 0)), .int (nI 0)])) := hx1
  have fr_ol2 : H.size ≤ ro2 := Nat.le_trans hz9 hr0
  refine lv_astore_n (lv' := [(1, .ref q1), (0, .ref ((A 0)))]) hx hb dX1_run_8 rfl hl (Nat.le_of_ble_eq_true rfl) rfl (fun ls hl => ?_)
  refine lv_aload_n hx hb dX1_run_9 rfl (lv_at hl 0 rfl) ?_
  have hRO : RO G B0 τ2 H2 ro2 ([] : List (Nat × Nat × Nat × Nat)) := RO.nil hc_ol2
  refine b_ci (cs_X1_218 (rest := []) CX hl.1 (m_X20_isRow l (rr := q1) (ro := ro2) (a := (A 0)) (f0 := (F 0)) (asv := (A 1)) (atx := (A 3)) (va := (A 4)) (bt := bt) (ml := ml) (tn := tn) (atk := (A 5)) (hs := hs) hc_rd hc_X hc_tx hc_tb hbt ht (by omega) hRO) rfl rfl rfl hc_rd.at hS rfl ⟨rfl, rfl, Nat.le_of_ble_eq_true rfl, Nat.le_of_ble_eq_true rfl⟩ (Nat.le_of_ble_eq_true rfl) dX1_run_10 ⟨Nat.le_of_ble_eq_true rfl, Nat.le_of_ble_eq_true rfl⟩) hS (fun r H3 locs hp hS => ?_)
  obtain ⟨τ3, hA9, hF9, hrd, hor⟩ := hp
  have hc_X := hc_X.ca hF9 hA9 (show ¬ (110 ≤ 0 ∧ 0 < 200) by omega)
  have hc_sv := hc_sv.ca hF9 hA9 (show ¬ (110 ≤ 1 ∧ 1 < 200) by omega)
  have hsa := fun h9 => (hsa h9).ca hF9 hA9 (show ¬ (110 ≤ 2 ∧ 2 < 200) by omega)
  have hc_tx := hc_tx.ca hF9 hA9 (show ¬ (110 ≤ 3 ∧ 3 < 200) by omega)
  have hc_tb := hc_tb.ca hF9 hA9 (show ¬ (110 ≤ 4 ∧ 4 < 200) by omega)
  have hc_tk := hc_tk.ca hF9 hA9 (show ¬ (110 ≤ 5 ∧ 5 < 200) by omega)
  have hL := hL.ca hF9 hA9 (fun i9 hi9 => show ¬ (110 ≤ (1000 * d0 + i9) ∧ (1000 * d0 + i9) < 200) by omega)
  have hV := hV.ca hF9 hA9 (fun k9 h1 h2 h3 i9 hi9 => show ¬ (110 ≤ (1000 * k9 + i9) ∧ (1000 * k9 + i9) < 200) by omega)
  have hF0 := hF.tr hA hF9 (fun q9 hq9 x9 => by have x8 : 110 ≤ τ q9 ∧ τ q9 < 200 := x9; show τ q9 < 200 ∨ 1000 ≤ τ q9; omega)
  have hA := hA.tr hA9 hF.1
  have hF := hF0
  have hc_rd : b_tt G B0 τ3 H3 q1 110 (.inr (6, [.ref ro2, .int (nI ((q_all t tn (tn + 1) 0).2.1)), .ref ((A 0))])) := hrd
  rcases hor with ⟨hq9, rfl, hRO⟩ | ⟨hq9, rfl⟩
  · have hRO : RO G B0 τ3 H3 ro2 ((q_all t tn (tn + 1) 0).1) := hRO
    have hlen : 7 * (q_all t tn (tn + 1) 0).1.length + 0 ≤ tn + 1 := q_all_len (tn + 1) 0 (Nat.zero_le _)
    refine b_xv0 (cx_X1_84 (rest := []) CX hl.1 (m_X1_need l (x := nI 1) hlt) rfl hS rfl ⟨rfl, rfl, Nat.le_of_ble_eq_true rfl, Nat.le_of_ble_eq_true rfl⟩ (Nat.le_of_ble_eq_true rfl) dX1_run_13 ⟨Nat.le_of_ble_eq_true rfl, Nat.le_of_ble_eq_true rfl⟩) hS (fun E9 q9 Hx4 locs hx9 hS he9 => ?_) (fun hk_13 locs hS => ?_)
    · exact absurd hx9.1 (by decide)
    refine lv_aload_n hx hb dX1_run_16 rfl (lv_at hl 1 rfl) ?_
    have hXR : XR G B0 τ3 A H3 (S, n, L, tn, t) := ⟨d0, c0, ids, P0, F, M, E, Z, sm, rs, se, ml, hs, bt, tk9, hc_X, hc_sv, hsa, hse, hc_tx, hc_tb, hbt, hc_tk, hL, hZ, hW, hV, hd0, hdc, hn, htn, ht⟩
    refine b_cv (cs_X1_91 (rest := []) CX hl.1 (m_X1_save l  hXR) rfl rfl rfl hc_X.at hS rfl ⟨rfl, rfl, Nat.le_of_ble_eq_true rfl, Nat.le_of_ble_eq_true rfl⟩ (Nat.le_of_ble_eq_true rfl) dX1_run_17 ⟨Nat.le_of_ble_eq_true rfl, Nat.le_of_ble_eq_true rfl⟩) hS (fun H5 locs hp hS => ?_)
    obtain ⟨τ5, hA9, hF9, hXR⟩ := hp
    have hc_rd := hc_rd.ca hF9 hA9 (show ¬ (110 = 1 ∨ 110 = 2 ∨ 1000 ≤ 110) by omega)
    have hRO := hRO.ca hF9 hA9 (fun i9 hi9 => show ¬ (i9 = 1 ∨ i9 = 2 ∨ 1000 ≤ i9) by omega)
    have hF0 := hF.tr hA hF9 (fun q9 hq9 x9 => by have x8 : τ q9 = 1 ∨ τ q9 = 2 ∨ 1000 ≤ τ q9 := x9; show τ q9 < 200 ∨ 1000 ≤ τ q9; omega)
    have hA := hA.tr hA9 hF.1
    have hF := hF0
    have hXR : XR G B0 τ5 A H5 (S, (p_sn n), (p_L L S n), tn, t) := hXR
    obtain ⟨d05, c05, ids5, P05, F5, M5, E5, Z5, sm5, rs5, se5, ml5, hs5, bt5, tk95, hc_X, hc_sv, hsa, hse, hc_tx, hc_tb, hbt, hc_tk, hL, hZ, hW, hV, hd0, hdc, hn, htn, ht⟩ := hXR
    have hc_X : b_tt G B0 τ5 H5 ((A 0)) 0 (.inr (0, [.ref ((F5 0)), .ref ((A 1)), .ref ((A 3)), .ref ((A 5)), .long hs5])) := hc_X
    have hc_sv : b_tt G B0 τ5 H5 ((A 1)) 1 (.inr (2, [.int sm5, .ref ((if se5 = true then rs5 else G.2.2 0)), .int (nI ((p_sn n)))])) := hc_sv
    have hsa : (se5 = true → b_tt G B0 τ5 H5 rs5 2 (.inl (G.2.1 2, q_refs 10 (fun j => if j < (p_sn n) then some (P05 j) else none)))) := hsa
    have hc_tx : b_tt G B0 τ5 H5 ((A 3)) 3 (.inr (3, [.ref ((A 4)), .int (nI 0), .int ml5, .int (nI tn)])) := hc_tx
    have hc_tb : b_tt G B0 τ5 H5 ((A 4)) 4 (.inl (G.2.1 1, 60, .inl bt5)) := hc_tb
    have hc_tk : b_tt G B0 τ5 H5 ((A 5)) 5 (.inl (G.2.1 0, 8, .inl tk95)) := hc_tk
    have hL : LR G B0 τ5 d05 F5 M5 E5 H5 S Z5 := hL
    have hV : SV G B0 τ5 d05 c05 ((p_sn n)) ids5 P05 H5 ((p_L L S n)) := hV
    have hn8 := hL.2.2.2.1
    have hn6 := hL.2.2.2.2
    have hnb : nb S = nb S := rfl
    have hns : ns S = ns S := rfl
    have hn : (p_sn n) ≤ 6 := hn
    have htn : tn ≤ 60 := htn
    have ht : ∀ j, t j < 128 := ht
    have hse : se5 = true ∨ (p_sn n) = 0 := hse
    have hZ : pZ Z5 S := hZ
    have hW : b_WF S := hW
    have hbt : ∀ j, j < tn → bt5 j = nI (t j) := hbt
    refine lv_aload_n hx hb dX1_run_20 rfl (lv_at hl 1 rfl) ?_
    refine gf_X1_19_0 CX hc_X.at rfl dX1_run_21 ?_
    refine lv_iconst (v := nI 0) hx hb dX1_run_24 rfl ?_
    refine pf_X1_247_1 CX hL.loop.at hS hL.loop.B rfl rfl (Nat.le_of_ble_eq_true rfl) dX1_run_25 (fun H6 locs hat hu hS => ?_)
    have hc_rd := hc_rd.up hu hL.loop.tag (by omega)
    have hRO := hRO.up hu hL.loop.tag (fun i9 hi9 => by omega)
    have hc_X := hc_X.up hu hL.loop.tag (by omega)
    have hc_sv := hc_sv.up hu hL.loop.tag (by omega)
    have hsa := fun h9 => (hsa h9).up hu hL.loop.tag (by omega)
    have hc_tx := hc_tx.up hu hL.loop.tag (by omega)
    have hc_tb := hc_tb.up hu hL.loop.tag (by omega)
    have hc_tk := hc_tk.up hu hL.loop.tag (by omega)
    have hV := hV.up hu hL.loop.tag (fun k9 h1 h2 h3 => by omega)
    have hF := hF.up hA hu hL.loop.tag (fun _ => show (1000 * d05 + 0) < 200 ∨ 1000 ≤ (1000 * d05 + 0) by omega)
    have hL : LR G B0 τ5 d05 F5 M5 E5 H6 ((u3 S 0 0 6 (nI 0))) Z5 := hL.set0 (w := 6) (by decide) hat hu (by simp [l_cnt, u3])
    have hnb : nb ((u3 S 0 0 6 (nI 0))) = nb S := (nb_u (by omega)).trans hnb
    have hns : ns ((u3 S 0 0 6 (nI 0))) = ns S := (ns_u (by omega)).trans hns
    refine lv_iconst (v := nI 0) hx hb dX1_run_28 rfl ?_
    refine lv_istore_n (lv' := [(2, .int (nI 0)), (1, .ref q1), (0, .ref ((A 0)))]) hx hb dX1_run_29 rfl hl (Nat.le_of_ble_eq_true rfl) rfl (fun ls hl => ?_)
    have hXR : XR G B0 τ5 A H6 ((u3 S 0 0 6 (nI 0)), (p_sn n), (p_L L S n), tn, t) := ⟨d05, c05, ids5, P05, F5, M5, E5, Z5, sm5, rs5, se5, ml5, hs5, bt5, tk95, hc_X, hc_sv, hsa, hse, hc_tx, hc_tb, hbt, hc_tk, hL, (pZ.of hZ (fun i j => by simp [u3])), (hJ.1 _ (hJ.2.2.2 _ _ hJS)), hV, hd0, hdc, hn, htn, ht⟩
    have hrow : ¬ ((q_row (S, n, L, tn, t)).2.1 < tn ∨ (q_row (S, n, L, tn, t)).2.2 = 0) := by
      show ¬ ((q_all t tn (tn + 1) 0).2.1 < tn ∨ (q_all t tn (tn + 1) 0).2.2 = 0)
      rw [hq9]
      simp
    have hok0 := q_all_ok (t := t) (n := tn) (tn + 1) 0
    have lp30_7 : ∀ (n_ : Nat) (i : Nat) (Sx : b_St), i ≤ (q_all t tn (tn + 1) 0).1.length → J Sx → r_run Sx ((q_all t tn (tn + 1) 0).1.drop i) i = r_all (S, n, L, tn, t) → (q_all t tn (tn + 1) 0).1.length - i < n_ → ∀ (H8 : Heap) (τ1 : b_T), b_tt G B0 τ1 H8 q1 110 (.inr (6, [.ref ro2, .int (nI ((q_all t tn (tn + 1) 0).2.1)), .ref ((A 0))])) → RO G B0 τ1 H8 ro2 ((q_all t tn (tn + 1) 0).1) → XR G B0 τ1 A H8 (Sx, (p_sn n), (p_L L S n), tn, t) → b_Fr τ (fun t => t < 200 ∨ 1000 ≤ t) H H8 → b_Ag τ τ1 H → ∀ (locs : List Loc), va_S (b_A B0) s.heap H8 locs → ∀ ls : Array Slot, lv_has ls 5 [(2, .int (nI i)), (1, .ref q1), (0, .ref ((A 0)))] → W p l e ({ frames := 11, cells := 240, slots := 1680, locals := 284 } : Room) s m ([.ref ((A 0))] : List Value).toArray below meth c H8 locs (188 + 5 * i) (1377 + 29 * i) Q (F0 m 30 ls []) := by
      intro n_
      induction n_ with
      | zero => intro i Sx hi hJx hR hlt H8 τ1 hc_rd hRO hXR hF hA locs hS ls hl; exact absurd hlt (Nat.not_lt_zero _)
      | succ n_ ih30 =>
        intro i Sx hi hJx hR hlt H8 τ1 hc_rd hRO hXR hF hA locs hS ls hl
        refine lv_iload_n hx hb dX1_run_30 rfl (lv_at hl 0 rfl) ?_
        refine lv_aload_n hx hb dX1_run_31 rfl (lv_at hl 1 rfl) ?_
        refine gf_X1_250_6 CX hc_rd.at rfl dX1_run_32 ?_
        have hRO9 := hRO
        obtain ⟨O, mo, so, ra, hc_ol, hso, hse9, hO⟩ := hRO9
        refine b_ci0 (cs_X1_45 (rest := [.int (nI i)]) CX hl.1 (m_J2_size l (a := ro2) (ta := 111) (mc := mo) (ra := (if so = true then ra else G.2.2 0)) (x := nI ((q_all t tn (tn + 1) 0).1.length)) hc_ol) rfl rfl rfl hc_ol.at hS rfl ⟨rfl, rfl, Nat.le_of_ble_eq_true rfl, Nat.le_of_ble_eq_true rfl⟩ (Nat.le_of_ble_eq_true rfl) dX1_run_35 ⟨by show _ ≤ 240; omega, by show _ ≤ 1680; omega⟩) hS (fun locs hS => ?_)
        refine b_icmp_geN (tgt := 62) CX (by omega) (by omega) dX1_run_38 (by decide) (fun c_38 => ?_) (fun c_38 => ?_)
        · have hR9 : r_all (S, n, L, tn, t) = (i, Sx) := hR.symm.trans (by rw [List.drop_eq_nil_of_le (by omega)]; rfl)
          obtain ⟨d0d, c0d, idsd, P0d, Fd, Md, Ed, Zd, smd, rsd, sed, mld, hsd, btd, tk9d, hc_X, hc_sv, hsa, hse, hc_tx, hc_tb, hbt, hc_tk, hL, hZ, hW, hV, hd0, hdc, hn, htn, ht⟩ := hXR
          have hc_X : b_tt G B0 τ1 H8 ((A 0)) 0 (.inr (0, [.ref ((Fd 0)), .ref ((A 1)), .ref ((A 3)), .ref ((A 5)), .long hsd])) := hc_X
          have hc_sv : b_tt G B0 τ1 H8 ((A 1)) 1 (.inr (2, [.int smd, .ref ((if sed = true then rsd else G.2.2 0)), .int (nI ((p_sn n)))])) := hc_sv
          have hsa : (sed = true → b_tt G B0 τ1 H8 rsd 2 (.inl (G.2.1 2, q_refs 10 (fun j => if j < (p_sn n) then some (P0d j) else none)))) := hsa
          have hc_tx : b_tt G B0 τ1 H8 ((A 3)) 3 (.inr (3, [.ref ((A 4)), .int (nI 0), .int mld, .int (nI tn)])) := hc_tx
          have hc_tb : b_tt G B0 τ1 H8 ((A 4)) 4 (.inl (G.2.1 1, 60, .inl btd)) := hc_tb
          have hc_tk : b_tt G B0 τ1 H8 ((A 5)) 5 (.inl (G.2.1 0, 8, .inl tk9d)) := hc_tk
          have hL : LR G B0 τ1 d0d Fd Md Ed H8 Sx Zd := hL
          have hV : SV G B0 τ1 d0d c0d ((p_sn n)) idsd P0d H8 ((p_L L S n)) := hV
          have hn8 := hL.2.2.2.1
          have hn6 := hL.2.2.2.2
          have hnb : nb Sx = nb Sx := rfl
          have hns : ns Sx = ns Sx := rfl
          have hn : (p_sn n) ≤ 6 := hn
          have htn : tn ≤ 60 := htn
          have ht : ∀ j, t j < 128 := ht
          have hse : sed = true ∨ (p_sn n) = 0 := hse
          have hZ : pZ Zd Sx := hZ
          have hW : b_WF Sx := hW
          have hbt : ∀ j, j < tn → btd j = nI (t j) := hbt
          refine lv_aload_n hx hb dX1_run_62 rfl (lv_at hl 2 rfl) ?_
          refine gf_X1_37_0 CX hc_X.at rfl dX1_run_63 ?_
          refine lv_iconst (v := nI 0) hx hb dX1_run_66 rfl ?_
          refine b_cv (cs_X1_210 (rest := []) CX hl.1 (m_J4_setLength l (a := (A 3)) (ta := 3) (va := (A 4)) (tv := 4) (f := btd) (ml := mld) (n := tn) hc_tx hc_tb (by omega) (by omega)) rfl rfl rfl hc_tx.at hS rfl ⟨rfl, rfl, Nat.le_of_ble_eq_true rfl, Nat.le_of_ble_eq_true rfl⟩ (Nat.le_of_ble_eq_true rfl) dX1_run_67 ⟨by show _ ≤ 240; omega, by show _ ≤ 1680; omega⟩) hS (fun H9 locs hp hS => ?_)
          obtain ⟨hF9, hx0⟩ := hp
          have hc_X := hc_X.fr hF9 (show ¬ (0 = 3) by omega)
          have hc_sv := hc_sv.fr hF9 (show ¬ (1 = 3) by omega)
          have hsa := fun h9 => (hsa h9).fr hF9 (show ¬ (2 = 3) by omega)
          have hc_tb := hc_tb.fr hF9 (show ¬ (4 = 3) by omega)
          have hc_tk := hc_tk.fr hF9 (show ¬ (5 = 3) by omega)
          have hL := hL.fr hF9 (fun i9 hi9 => show ¬ ((1000 * d0d + i9) = 3) by omega)
          have hV := hV.fr hF9 (fun k9 h1 h2 h3 i9 hi9 => show ¬ ((1000 * k9 + i9) = 3) by omega)
          have hz9 := hF.1
          have hF0 := hF.tr hA hF9 (fun q9 hq9 x9 => by have x8 : τ q9 = 3 := x9; show τ q9 < 200 ∨ 1000 ≤ τ q9; omega)
          have hF := hF0
          have hc_tx : b_tt G B0 τ1 H9 ((A 3)) 3 (.inr (3, [.ref (((A 4))), .int (nI 0), .int ((if tn = 0 then mld else nI 1)), .int (nI 0)])) := hx0
          refine lv_goto (tgt := 109) hx hb dX1_run_70 (by decide) ?_
          refine lv_iload_n hx hb dX1_run_109 rfl (lv_at hl 0 rfl) ?_
          have ho : o_run (S, n, L, tn, t) = (nI 0, nI i, (Sx, p_sn n, p_L L S n, 0, t)) := by
            unfold o_run
            rw [if_neg hrow, hR9]
            rfl
          rw [← hQ]
          exact vx_ret (b_iret CX hr hlk hS (by omega) (by omega) dX1_run_110 ((by unfold o_ok1; rw [ho]; exact ⟨rfl, rfl, _, hA, hF, ⟨d0d, c0d, idsd, P0d, Fd, Md, Ed, Zd, smd, rsd, sed, (if tn = 0 then mld else nI 1), hsd, btd, tk9d, hc_X, hc_sv, hsa, hse, hc_tx, hc_tb, (fun j hj => absurd hj (Nat.not_lt_zero j)), hc_tk, hL, hZ, hW, hV, hd0, hdc, hn, (Nat.zero_le _), ht⟩⟩)))
        · obtain ⟨⟨x9, a9, b9, k9⟩, hx9e⟩ : ∃ x, (q_all t tn (tn + 1) 0).1[i]? = some x := ⟨_, List.getElem?_eq_getElem c_38⟩
          have hdr := drop_some hx9e
          have hok : o_ok x9 a9 b9 k9 := hok0 _ (List.mem_of_getElem? hx9e)
          have hso1 : so = true := hse9.resolve_right (by omega)
          have hc_oa := hso hso1
          rw [hso1] at hc_ol
          have hc_ol : b_tt G B0 τ1 H8 ro2 111 (.inr (2, [.int mo, .ref ra, .int (nI ((q_all t tn (tn + 1) 0).1.length))])) := hc_ol
          have hc_O : b_tt G B0 τ1 H8 ((O i)) ((120 + i)) (.inr (7, [.int (nI x9), .int (nI a9), .int (nI b9), .int (nI k9)])) := hO i _ hx9e
          obtain ⟨fs9, hc_X⟩ := hXR.x0
          refine lv_aload_n hx hb dX1_run_41 rfl (lv_at hl 2 rfl) ?_
          refine lv_aload_n hx hb dX1_run_42 rfl (lv_at hl 1 rfl) ?_
          refine gf_X1_250_6 CX hc_rd.at rfl dX1_run_43 ?_
          refine lv_iload_n hx hb dX1_run_46 rfl (lv_at hl 0 rfl) ?_
          refine b_cq0 (cs_X1_103 (rest := [.ref ((A 0))]) CX hl.1 (m_J2_get l (a := ro2) (ta := 111) (mc := mo) (ra := ra) (tr := 112) (f := O) (n := (q_all t tn (tn + 1) 0).1.length) (i := i) hc_ol hc_oa (by omega) (by omega)) rfl rfl rfl hc_ol.at hS rfl ⟨rfl, rfl, Nat.le_of_ble_eq_true rfl, Nat.le_of_ble_eq_true rfl⟩ (Nat.le_of_ble_eq_true rfl) dX1_run_47 ⟨by show _ ≤ 240; omega, by show _ ≤ 1680; omega⟩) hS (fun locs hS => ?_)
          refine b_cast CX (ci := 7) rfl hc_O.at q1712 dX1_run_50 ?_
          refine b_xv (cx_X1_253 (rest := []) CX hl.1 (m_X1_carryOut l (ao := (O i)) (to := (120 + i)) (xs := x9) (oa := a9) (ob := b9) (om := k9) hc_O hXR (by omega) hok (fun q9 => hJ.1 _ (hJ.2.2.1 _ _ _ _ _ hJx hok q9)) (fun q9 h99 => o_pick hJ hJx hok q9 h99)) rfl rfl rfl hc_X.at hS rfl ⟨rfl, rfl, Nat.le_of_ble_eq_true rfl, Nat.le_of_ble_eq_true rfl⟩ (Nat.le_of_ble_eq_true rfl) dX1_run_53 ⟨by show _ ≤ 240; omega, by show _ ≤ 1680; omega⟩) hS (fun E9 q9 Hx10 locs hx9 hS he9 => ?_) (fun H10 locs hp hS => ?_)
          · have hw := hx9.n0
            obtain ⟨hE, rfl, hB, hmo, hcs⟩ := hx9
            have hR9 : r_all (S, n, L, tn, t) = (i, u3 Sx 0 0 6 (o_why Sx x9 a9 b9 k9)) := hR.symm.trans (by rw [hdr]; exact r_run_1 (x := (x9, a9, b9, k9)) hw)
            have hXR : XR G B0 τ1 A Hx10 (Sx, (p_sn n), (p_L L S n), tn, t) := hXR.ext hE
            have hF := hF.ext hE
            refine b_xcatch CX (E := RX22) (name := "BottleLoop$Refused") [] ⟨30, 62, 73, 236⟩ [⟨30, 62, 96, 0⟩, ⟨73, 85, 96, 0⟩, ⟨96, 98, 96, 0⟩] (by rw [htb]; rfl) (fun z hz9 => nomatch hz9) (by decide) (by decide) q1711 (CX.nw q1718 rfl rfl) he9 ?_
            obtain ⟨d0c, c0c, idsc, P0c, Fc, Mc, Ec, Zc, smc, rsc, sec, mlc, hsc, btc, tk9c, hc_X, hc_sv, hsa, hse, hc_tx, hc_tb, hbt, hc_tk, hL, hZ, hW, hV, hd0, hdc, hn, htn, ht⟩ := hXR
            have hc_X : b_tt G B0 τ1 Hx10 ((A 0)) 0 (.inr (0, [.ref ((Fc 0)), .ref ((A 1)), .ref ((A 3)), .ref ((A 5)), .long hsc])) := hc_X
            have hc_sv : b_tt G B0 τ1 Hx10 ((A 1)) 1 (.inr (2, [.int smc, .ref ((if sec = true then rsc else G.2.2 0)), .int (nI ((p_sn n)))])) := hc_sv
            have hsa : (sec = true → b_tt G B0 τ1 Hx10 rsc 2 (.inl (G.2.1 2, q_refs 10 (fun j => if j < (p_sn n) then some (P0c j) else none)))) := hsa
            have hc_tx : b_tt G B0 τ1 Hx10 ((A 3)) 3 (.inr (3, [.ref ((A 4)), .int (nI 0), .int mlc, .int (nI tn)])) := hc_tx
            have hc_tb : b_tt G B0 τ1 Hx10 ((A 4)) 4 (.inl (G.2.1 1, 60, .inl btc)) := hc_tb
            have hc_tk : b_tt G B0 τ1 Hx10 ((A 5)) 5 (.inl (G.2.1 0, 8, .inl tk9c)) := hc_tk
            have hL : LR G B0 τ1 d0c Fc Mc Ec Hx10 Sx Zc := hL
            have hV : SV G B0 τ1 d0c c0c ((p_sn n)) idsc P0c Hx10 ((p_L L S n)) := hV
            have hn8 := hL.2.2.2.1
            have hn6 := hL.2.2.2.2
            have hnb : nb Sx = nb Sx := rfl
            have hns : ns Sx = ns Sx := rfl
            have hn : (p_sn n) ≤ 6 := hn
            have htn : tn ≤ 60 := htn
            have ht : ∀ j, t j < 128 := ht
            have hse : sec = true ∨ (p_sn n) = 0 := hse
            have hZ : pZ Zc Sx := hZ
            have hW : b_WF Sx := hW
            have hbt : ∀ j, j < tn → btc j = nI (t j) := hbt
            rcases hcs with ⟨hcd, hat⟩ | ⟨v9, qc, hv9, hcd, hBc, hne, hat, hatc⟩
            · have hc_rf : b_tt G B0 τ1 Hx10 q9 ((τ1 q9)) (.inr (21, [.null, .null, .null, .null, .null, .int (nI 0)])) := ⟨hat, rfl, hB⟩
              refine lv_astore_n (lv' := [(3, .ref q9), (2, .int (nI i)), (1, .ref q1), (0, .ref ((A 0)))]) hx hb dX1_run_73 rfl hl (Nat.le_of_ble_eq_true rfl) rfl (fun ls hl => ?_)
              refine lv_aload_n hx hb dX1_run_74 rfl (lv_at hl 3 rfl) ?_
              refine gf_X1_19_0 CX hc_X.at rfl dX1_run_75 ?_
              refine lv_aload_n hx hb dX1_run_78 rfl (lv_at hl 0 rfl) ?_
              refine b_ci0 (cs_X1_257 (rest := [.ref ((Fc 0))]) CX hl.1 (m_X22_number_n l (a := q9) (ta := (τ1 q9)) hc_rf hmo) rfl rfl rfl hc_rf.at hS rfl ⟨rfl, rfl, Nat.le_of_ble_eq_true rfl, Nat.le_of_ble_eq_true rfl⟩ (Nat.le_of_ble_eq_true rfl) dX1_run_79 ⟨by show _ ≤ 240; omega, by show _ ≤ 1680; omega⟩) hS (fun locs hS => ?_)
              refine pf_X1_247_1 CX hL.loop.at hS hL.loop.B rfl rfl (Nat.le_of_ble_eq_true rfl) dX1_run_82 (fun H12 locs hat hu hS => ?_)
              have hc_X := hc_X.up hu hL.loop.tag (by omega)
              have hc_sv := hc_sv.up hu hL.loop.tag (by omega)
              have hsa := fun h9 => (hsa h9).up hu hL.loop.tag (by omega)
              have hc_tx := hc_tx.up hu hL.loop.tag (by omega)
              have hc_tb := hc_tb.up hu hL.loop.tag (by omega)
              have hc_tk := hc_tk.up hu hL.loop.tag (by omega)
              have hV := hV.up hu hL.loop.tag (fun k9 h1 h2 h3 => by omega)
              have hF := hF.up hA hu hL.loop.tag (fun _ => show (1000 * d0c + 0) < 200 ∨ 1000 ≤ (1000 * d0c + 0) by omega)
              have hL : LR G B0 τ1 d0c Fc Mc Ec H12 ((u3 Sx 0 0 6 (nI 4))) Zc := hL.set0 (w := 6) (by decide) hat hu (by simp [l_cnt, u3])
              have hnb : nb ((u3 Sx 0 0 6 (nI 4))) = nb Sx := (nb_u (by omega)).trans hnb
              have hns : ns ((u3 Sx 0 0 6 (nI 4))) = ns Sx := (ns_u (by omega)).trans hns
              refine lv_aload_n hx hb dX1_run_85 rfl (lv_at hl 3 rfl) ?_
              refine gf_X1_37_0 CX hc_X.at rfl dX1_run_86 ?_
              refine lv_iconst (v := nI 0) hx hb dX1_run_89 rfl ?_
              refine b_cv (cs_X1_210 (rest := []) CX hl.1 (m_J4_setLength l (a := (A 3)) (ta := 3) (va := (A 4)) (tv := 4) (f := btc) (ml := mlc) (n := tn) hc_tx hc_tb (by omega) (by omega)) rfl rfl rfl hc_tx.at hS rfl ⟨rfl, rfl, Nat.le_of_ble_eq_true rfl, Nat.le_of_ble_eq_true rfl⟩ (Nat.le_of_ble_eq_true rfl) dX1_run_90 ⟨by show _ ≤ 240; omega, by show _ ≤ 1680; omega⟩) hS (fun H13 locs hp hS => ?_)
              obtain ⟨hF9, hx0⟩ := hp
              have hc_X := hc_X.fr hF9 (show ¬ (0 = 3) by omega)
              have hc_sv := hc_sv.fr hF9 (show ¬ (1 = 3) by omega)
              have hsa := fun h9 => (hsa h9).fr hF9 (show ¬ (2 = 3) by omega)
              have hc_tb := hc_tb.fr hF9 (show ¬ (4 = 3) by omega)
              have hc_tk := hc_tk.fr hF9 (show ¬ (5 = 3) by omega)
              have hL := hL.fr hF9 (fun i9 hi9 => show ¬ ((1000 * d0c + i9) = 3) by omega)
              have hV := hV.fr hF9 (fun k9 h1 h2 h3 i9 hi9 => show ¬ ((1000 * k9 + i9) = 3) by omega)
              have hz9 := hF.1
              have hF0 := hF.tr hA hF9 (fun q9 hq9 x9 => by have x8 : τ q9 = 3 := x9; show τ q9 < 200 ∨ 1000 ≤ τ q9; omega)
              have hF := hF0
              have hc_tx : b_tt G B0 τ1 H13 ((A 3)) 3 (.inr (3, [.ref (((A 4))), .int (nI 0), .int ((if tn = 0 then mlc else nI 1)), .int (nI 0)])) := hx0
              refine lv_goto (tgt := 109) hx hb dX1_run_93 (by decide) ?_
              refine lv_iload_n hx hb dX1_run_109 rfl (lv_at hl 1 rfl) ?_
              have ho : o_run (S, n, L, tn, t) = (nI 0, nI i, ((u3 Sx 0 0 6 (nI 4)), p_sn n, p_L L S n, 0, t)) := by
                unfold o_run
                rw [if_neg hrow, hR9, hcd]
                rfl
              rw [← hQ]
              exact vx_ret (b_iret CX hr hlk hS (by omega) (by omega) dX1_run_110 ((by unfold o_ok1; rw [ho]; exact ⟨rfl, rfl, _, hA, hF, ⟨d0c, c0c, idsc, P0c, Fc, Mc, Ec, Zc, smc, rsc, sec, (if tn = 0 then mlc else nI 1), hsc, btc, tk9c, hc_X, hc_sv, hsa, hse, hc_tx, hc_tb, (fun j hj => absurd hj (Nat.not_lt_zero j)), hc_tk, hL, (pZ.of hZ (fun i j => by simp [u3])), (hJ.1 _ (hJ.2.2.2 _ _ hJx)), hV, hd0, hdc, hn, (Nat.zero_le _), ht⟩⟩)))
            · rcases hv9 with rfl | rfl | rfl
              · have hc_rf : b_tt G B0 τ1 Hx10 q9 ((τ1 q9)) (.inr (21, [.ref qc, .null, .null, .null, .null, .int (nI 0)])) := ⟨hat, rfl, hB⟩
                have hc_ca : b_tt G B0 τ1 Hx10 qc ((τ1 qc)) (.inr (18, [.null, .null, .null, .null, .null, .int (nI 0)])) := ⟨hatc, rfl, hBc⟩
                refine lv_astore_n (lv' := [(3, .ref q9), (2, .int (nI i)), (1, .ref q1), (0, .ref ((A 0)))]) hx hb dX1_run_73 rfl hl (Nat.le_of_ble_eq_true rfl) rfl (fun ls hl => ?_)
                refine lv_aload_n hx hb dX1_run_74 rfl (lv_at hl 3 rfl) ?_
                refine gf_X1_19_0 CX hc_X.at rfl dX1_run_75 ?_
                refine lv_aload_n hx hb dX1_run_78 rfl (lv_at hl 0 rfl) ?_
                refine b_ci0 (cs_X1_257 (rest := [.ref ((Fc 0))]) CX hl.1 (m_X22_number_1 l (a := q9) (ta := (τ1 q9)) (qa := qc) (tq := (τ1 qc)) hc_rf hc_ca hmo hne) rfl rfl rfl hc_rf.at hS rfl ⟨rfl, rfl, Nat.le_of_ble_eq_true rfl, Nat.le_of_ble_eq_true rfl⟩ (Nat.le_of_ble_eq_true rfl) dX1_run_79 ⟨by show _ ≤ 240; omega, by show _ ≤ 1680; omega⟩) hS (fun locs hS => ?_)
                refine pf_X1_247_1 CX hL.loop.at hS hL.loop.B rfl rfl (Nat.le_of_ble_eq_true rfl) dX1_run_82 (fun H15 locs hat hu hS => ?_)
                have hc_X := hc_X.up hu hL.loop.tag (by omega)
                have hc_sv := hc_sv.up hu hL.loop.tag (by omega)
                have hsa := fun h9 => (hsa h9).up hu hL.loop.tag (by omega)
                have hc_tx := hc_tx.up hu hL.loop.tag (by omega)
                have hc_tb := hc_tb.up hu hL.loop.tag (by omega)
                have hc_tk := hc_tk.up hu hL.loop.tag (by omega)
                have hV := hV.up hu hL.loop.tag (fun k9 h1 h2 h3 => by omega)
                have hF := hF.up hA hu hL.loop.tag (fun _ => show (1000 * d0c + 0) < 200 ∨ 1000 ≤ (1000 * d0c + 0) by omega)
                have hL : LR G B0 τ1 d0c Fc Mc Ec H15 ((u3 Sx 0 0 6 (nI 1))) Zc := hL.set0 (w := 6) (by decide) hat hu (by simp [l_cnt, u3])
                have hnb : nb ((u3 Sx 0 0 6 (nI 1))) = nb Sx := (nb_u (by omega)).trans hnb
                have hns : ns ((u3 Sx 0 0 6 (nI 1))) = ns Sx := (ns_u (by omega)).trans hns
                refine lv_aload_n hx hb dX1_run_85 rfl (lv_at hl 3 rfl) ?_
                refine gf_X1_37_0 CX hc_X.at rfl dX1_run_86 ?_
                refine lv_iconst (v := nI 0) hx hb dX1_run_89 rfl ?_
                refine b_cv (cs_X1_210 (rest := []) CX hl.1 (m_J4_setLength l (a := (A 3)) (ta := 3) (va := (A 4)) (tv := 4) (f := btc) (ml := mlc) (n := tn) hc_tx hc_tb (by omega) (by omega)) rfl rfl rfl hc_tx.at hS rfl ⟨rfl, rfl, Nat.le_of_ble_eq_true rfl, Nat.le_of_ble_eq_true rfl⟩ (Nat.le_of_ble_eq_true rfl) dX1_run_90 ⟨by show _ ≤ 240; omega, by show _ ≤ 1680; omega⟩) hS (fun H16 locs hp hS => ?_)
                obtain ⟨hF9, hx0⟩ := hp
                have hc_X := hc_X.fr hF9 (show ¬ (0 = 3) by omega)
                have hc_sv := hc_sv.fr hF9 (show ¬ (1 = 3) by omega)
                have hsa := fun h9 => (hsa h9).fr hF9 (show ¬ (2 = 3) by omega)
                have hc_tb := hc_tb.fr hF9 (show ¬ (4 = 3) by omega)
                have hc_tk := hc_tk.fr hF9 (show ¬ (5 = 3) by omega)
                have hL := hL.fr hF9 (fun i9 hi9 => show ¬ ((1000 * d0c + i9) = 3) by omega)
                have hV := hV.fr hF9 (fun k9 h1 h2 h3 i9 hi9 => show ¬ ((1000 * k9 + i9) = 3) by omega)
                have hz9 := hF.1
                have hF0 := hF.tr hA hF9 (fun q9 hq9 x9 => by have x8 : τ q9 = 3 := x9; show τ q9 < 200 ∨ 1000 ≤ τ q9; omega)
                have hF := hF0
                have hc_tx : b_tt G B0 τ1 H16 ((A 3)) 3 (.inr (3, [.ref (((A 4))), .int (nI 0), .int ((if tn = 0 then mlc else nI 1)), .int (nI 0)])) := hx0
                refine lv_goto (tgt := 109) hx hb dX1_run_93 (by decide) ?_
                refine lv_iload_n hx hb dX1_run_109 rfl (lv_at hl 1 rfl) ?_
                have ho : o_run (S, n, L, tn, t) = (nI 0, nI i, ((u3 Sx 0 0 6 (nI 1)), p_sn n, p_L L S n, 0, t)) := by
                  unfold o_run
                  rw [if_neg hrow, hR9, hcd]
                  rfl
                rw [← hQ]
                exact vx_ret (b_iret CX hr hlk hS (by omega) (by omega) dX1_run_110 ((by unfold o_ok1; rw [ho]; exact ⟨rfl, rfl, _, hA, hF, ⟨d0c, c0c, idsc, P0c, Fc, Mc, Ec, Zc, smc, rsc, sec, (if tn = 0 then mlc else nI 1), hsc, btc, tk9c, hc_X, hc_sv, hsa, hse, hc_tx, hc_tb, (fun j hj => absurd hj (Nat.not_lt_zero j)), hc_tk, hL, (pZ.of hZ (fun i j => by simp [u3])), (hJ.1 _ (hJ.2.2.2 _ _ hJx)), hV, hd0, hdc, hn, (Nat.zero_le _), ht⟩⟩)))
              · have hc_rf : b_tt G B0 τ1 Hx10 q9 ((τ1 q9)) (.inr (21, [.ref qc, .null, .null, .null, .null, .int (nI 0)])) := ⟨hat, rfl, hB⟩
                have hc_ca : b_tt G B0 τ1 Hx10 qc ((τ1 qc)) (.inr (19, [.null, .null, .null, .null, .null, .int (nI 0)])) := ⟨hatc, rfl, hBc⟩
                refine lv_astore_n (lv' := [(3, .ref q9), (2, .int (nI i)), (1, .ref q1), (0, .ref ((A 0)))]) hx hb dX1_run_73 rfl hl (Nat.le_of_ble_eq_true rfl) rfl (fun ls hl => ?_)
                refine lv_aload_n hx hb dX1_run_74 rfl (lv_at hl 3 rfl) ?_
                refine gf_X1_19_0 CX hc_X.at rfl dX1_run_75 ?_
                refine lv_aload_n hx hb dX1_run_78 rfl (lv_at hl 0 rfl) ?_
                refine b_ci0 (cs_X1_257 (rest := [.ref ((Fc 0))]) CX hl.1 (m_X22_number_2 l (a := q9) (ta := (τ1 q9)) (qa := qc) (tq := (τ1 qc)) hc_rf hc_ca hmo hne) rfl rfl rfl hc_rf.at hS rfl ⟨rfl, rfl, Nat.le_of_ble_eq_true rfl, Nat.le_of_ble_eq_true rfl⟩ (Nat.le_of_ble_eq_true rfl) dX1_run_79 ⟨by show _ ≤ 240; omega, by show _ ≤ 1680; omega⟩) hS (fun locs hS => ?_)
                refine pf_X1_247_1 CX hL.loop.at hS hL.loop.B rfl rfl (Nat.le_of_ble_eq_true rfl) dX1_run_82 (fun H18 locs hat hu hS => ?_)
                have hc_X := hc_X.up hu hL.loop.tag (by omega)
                have hc_sv := hc_sv.up hu hL.loop.tag (by omega)
                have hsa := fun h9 => (hsa h9).up hu hL.loop.tag (by omega)
                have hc_tx := hc_tx.up hu hL.loop.tag (by omega)
                have hc_tb := hc_tb.up hu hL.loop.tag (by omega)
                have hc_tk := hc_tk.up hu hL.loop.tag (by omega)
                have hV := hV.up hu hL.loop.tag (fun k9 h1 h2 h3 => by omega)
                have hF := hF.up hA hu hL.loop.tag (fun _ => show (1000 * d0c + 0) < 200 ∨ 1000 ≤ (1000 * d0c + 0) by omega)
                have hL : LR G B0 τ1 d0c Fc Mc Ec H18 ((u3 Sx 0 0 6 (nI 2))) Zc := hL.set0 (w := 6) (by decide) hat hu (by simp [l_cnt, u3])
                have hnb : nb ((u3 Sx 0 0 6 (nI 2))) = nb Sx := (nb_u (by omega)).trans hnb
                have hns : ns ((u3 Sx 0 0 6 (nI 2))) = ns Sx := (ns_u (by omega)).trans hns
                refine lv_aload_n hx hb dX1_run_85 rfl (lv_at hl 3 rfl) ?_
                refine gf_X1_37_0 CX hc_X.at rfl dX1_run_86 ?_
                refine lv_iconst (v := nI 0) hx hb dX1_run_89 rfl ?_
                refine b_cv (cs_X1_210 (rest := []) CX hl.1 (m_J4_setLength l (a := (A 3)) (ta := 3) (va := (A 4)) (tv := 4) (f := btc) (ml := mlc) (n := tn) hc_tx hc_tb (by omega) (by omega)) rfl rfl rfl hc_tx.at hS rfl ⟨rfl, rfl, Nat.le_of_ble_eq_true rfl, Nat.le_of_ble_eq_true rfl⟩ (Nat.le_of_ble_eq_true rfl) dX1_run_90 ⟨by show _ ≤ 240; omega, by show _ ≤ 1680; omega⟩) hS (fun H19 locs hp hS => ?_)
                obtain ⟨hF9, hx0⟩ := hp
                have hc_X := hc_X.fr hF9 (show ¬ (0 = 3) by omega)
                have hc_sv := hc_sv.fr hF9 (show ¬ (1 = 3) by omega)
                have hsa := fun h9 => (hsa h9).fr hF9 (show ¬ (2 = 3) by omega)
                have hc_tb := hc_tb.fr hF9 (show ¬ (4 = 3) by omega)
                have hc_tk := hc_tk.fr hF9 (show ¬ (5 = 3) by omega)
                have hL := hL.fr hF9 (fun i9 hi9 => show ¬ ((1000 * d0c + i9) = 3) by omega)
                have hV := hV.fr hF9 (fun k9 h1 h2 h3 i9 hi9 => show ¬ ((1000 * k9 + i9) = 3) by omega)
                have hz9 := hF.1
                have hF0 := hF.tr hA hF9 (fun q9 hq9 x9 => by have x8 : τ q9 = 3 := x9; show τ q9 < 200 ∨ 1000 ≤ τ q9; omega)
                have hF := hF0
                have hc_tx : b_tt G B0 τ1 H19 ((A 3)) 3 (.inr (3, [.ref (((A 4))), .int (nI 0), .int ((if tn = 0 then mlc else nI 1)), .int (nI 0)])) := hx0
                refine lv_goto (tgt := 109) hx hb dX1_run_93 (by decide) ?_
                refine lv_iload_n hx hb dX1_run_109 rfl (lv_at hl 1 rfl) ?_
                have ho : o_run (S, n, L, tn, t) = (nI 0, nI i, ((u3 Sx 0 0 6 (nI 2)), p_sn n, p_L L S n, 0, t)) := by
                  unfold o_run
                  rw [if_neg hrow, hR9, hcd]
                  rfl
                rw [← hQ]
                exact vx_ret (b_iret CX hr hlk hS (by omega) (by omega) dX1_run_110 ((by unfold o_ok1; rw [ho]; exact ⟨rfl, rfl, _, hA, hF, ⟨d0c, c0c, idsc, P0c, Fc, Mc, Ec, Zc, smc, rsc, sec, (if tn = 0 then mlc else nI 1), hsc, btc, tk9c, hc_X, hc_sv, hsa, hse, hc_tx, hc_tb, (fun j hj => absurd hj (Nat.not_lt_zero j)), hc_tk, hL, (pZ.of hZ (fun i j => by simp [u3])), (hJ.1 _ (hJ.2.2.2 _ _ hJx)), hV, hd0, hdc, hn, (Nat.zero_le _), ht⟩⟩)))
              · have hc_rf : b_tt G B0 τ1 Hx10 q9 ((τ1 q9)) (.inr (21, [.ref qc, .null, .null, .null, .null, .int (nI 0)])) := ⟨hat, rfl, hB⟩
                have hc_ca : b_tt G B0 τ1 Hx10 qc ((τ1 qc)) (.inr (20, [.null, .null, .null, .null, .null, .int (nI 0)])) := ⟨hatc, rfl, hBc⟩
                refine lv_astore_n (lv' := [(3, .ref q9), (2, .int (nI i)), (1, .ref q1), (0, .ref ((A 0)))]) hx hb dX1_run_73 rfl hl (Nat.le_of_ble_eq_true rfl) rfl (fun ls hl => ?_)
                refine lv_aload_n hx hb dX1_run_74 rfl (lv_at hl 3 rfl) ?_
                refine gf_X1_19_0 CX hc_X.at rfl dX1_run_75 ?_
                refine lv_aload_n hx hb dX1_run_78 rfl (lv_at hl 0 rfl) ?_
                refine b_ci0 (cs_X1_257 (rest := [.ref ((Fc 0))]) CX hl.1 (m_X22_number_3 l (a := q9) (ta := (τ1 q9)) (qa := qc) (tq := (τ1 qc)) hc_rf hc_ca hmo hne) rfl rfl rfl hc_rf.at hS rfl ⟨rfl, rfl, Nat.le_of_ble_eq_true rfl, Nat.le_of_ble_eq_true rfl⟩ (Nat.le_of_ble_eq_true rfl) dX1_run_79 ⟨by show _ ≤ 240; omega, by show _ ≤ 1680; omega⟩) hS (fun locs hS => ?_)
                refine pf_X1_247_1 CX hL.loop.at hS hL.loop.B rfl rfl (Nat.le_of_ble_eq_true rfl) dX1_run_82 (fun H21 locs hat hu hS => ?_)
                have hc_X := hc_X.up hu hL.loop.tag (by omega)
                have hc_sv := hc_sv.up hu hL.loop.tag (by omega)
                have hsa := fun h9 => (hsa h9).up hu hL.loop.tag (by omega)
                have hc_tx := hc_tx.up hu hL.loop.tag (by omega)
                have hc_tb := hc_tb.up hu hL.loop.tag (by omega)
                have hc_tk := hc_tk.up hu hL.loop.tag (by omega)
                have hV := hV.up hu hL.loop.tag (fun k9 h1 h2 h3 => by omega)
                have hF := hF.up hA hu hL.loop.tag (fun _ => show (1000 * d0c + 0) < 200 ∨ 1000 ≤ (1000 * d0c + 0) by omega)
                have hL : LR G B0 τ1 d0c Fc Mc Ec H21 ((u3 Sx 0 0 6 (nI 3))) Zc := hL.set0 (w := 6) (by decide) hat hu (by simp [l_cnt, u3])
                have hnb : nb ((u3 Sx 0 0 6 (nI 3))) = nb Sx := (nb_u (by omega)).trans hnb
                have hns : ns ((u3 Sx 0 0 6 (nI 3))) = ns Sx := (ns_u (by omega)).trans hns
                refine lv_aload_n hx hb dX1_run_85 rfl (lv_at hl 3 rfl) ?_
                refine gf_X1_37_0 CX hc_X.at rfl dX1_run_86 ?_
                refine lv_iconst (v := nI 0) hx hb dX1_run_89 rfl ?_
                refine b_cv (cs_X1_210 (rest := []) CX hl.1 (m_J4_setLength l (a := (A 3)) (ta := 3) (va := (A 4)) (tv := 4) (f := btc) (ml := mlc) (n := tn) hc_tx hc_tb (by omega) (by omega)) rfl rfl rfl hc_tx.at hS rfl ⟨rfl, rfl, Nat.le_of_ble_eq_true rfl, Nat.le_of_ble_eq_true rfl⟩ (Nat.le_of_ble_eq_true rfl) dX1_run_90 ⟨by show _ ≤ 240; omega, by show _ ≤ 1680; omega⟩) hS (fun H22 locs hp hS => ?_)
                obtain ⟨hF9, hx0⟩ := hp
                have hc_X := hc_X.fr hF9 (show ¬ (0 = 3) by omega)
                have hc_sv := hc_sv.fr hF9 (show ¬ (1 = 3) by omega)
                have hsa := fun h9 => (hsa h9).fr hF9 (show ¬ (2 = 3) by omega)
                have hc_tb := hc_tb.fr hF9 (show ¬ (4 = 3) by omega)
                have hc_tk := hc_tk.fr hF9 (show ¬ (5 = 3) by omega)
                have hL := hL.fr hF9 (fun i9 hi9 => show ¬ ((1000 * d0c + i9) = 3) by omega)
                have hV := hV.fr hF9 (fun k9 h1 h2 h3 i9 hi9 => show ¬ ((1000 * k9 + i9) = 3) by omega)
                have hz9 := hF.1
                have hF0 := hF.tr hA hF9 (fun q9 hq9 x9 => by have x8 : τ q9 = 3 := x9; show τ q9 < 200 ∨ 1000 ≤ τ q9; omega)
                have hF := hF0
                have hc_tx : b_tt G B0 τ1 H22 ((A 3)) 3 (.inr (3, [.ref (((A 4))), .int (nI 0), .int ((if tn = 0 then mlc else nI 1)), .int (nI 0)])) := hx0
                refine lv_goto (tgt := 109) hx hb dX1_run_93 (by decide) ?_
                refine lv_iload_n hx hb dX1_run_109 rfl (lv_at hl 1 rfl) ?_
                have ho : o_run (S, n, L, tn, t) = (nI 0, nI i, ((u3 Sx 0 0 6 (nI 3)), p_sn n, p_L L S n, 0, t)) := by
                  unfold o_run
                  rw [if_neg hrow, hR9, hcd]
                  rfl
                rw [← hQ]
                exact vx_ret (b_iret CX hr hlk hS (by omega) (by omega) dX1_run_110 ((by unfold o_ok1; rw [ho]; exact ⟨rfl, rfl, _, hA, hF, ⟨d0c, c0c, idsc, P0c, Fc, Mc, Ec, Zc, smc, rsc, sec, (if tn = 0 then mlc else nI 1), hsc, btc, tk9c, hc_X, hc_sv, hsa, hse, hc_tx, hc_tb, (fun j hj => absurd hj (Nat.not_lt_zero j)), hc_tk, hL, (pZ.of hZ (fun i j => by simp [u3])), (hJ.1 _ (hJ.2.2.2 _ _ hJx)), hV, hd0, hdc, hn, (Nat.zero_le _), ht⟩⟩)))
          obtain ⟨hk_53, τ10, hA9, hF9, hXR⟩ := hp
          have hc_rd := hc_rd.ca hF9 hA9 (show ¬ (110 = 5 ∨ 1000 ≤ 110) by omega)
          have hRO := hRO.ca hF9 hA9 (fun i9 hi9 => show ¬ (i9 = 5 ∨ 1000 ≤ i9) by omega)
          have hc_ol := hc_ol.ca hF9 hA9 (show ¬ (111 = 5 ∨ 1000 ≤ 111) by omega)
          have hc_oa := hc_oa.ca hF9 hA9 (show ¬ (112 = 5 ∨ 1000 ≤ 112) by omega)
          have hc_O := hc_O.ca hF9 hA9 (show ¬ (((120 + i)) = 5 ∨ 1000 ≤ ((120 + i))) by omega)
          have hF0 := hF.tr hA hF9 (fun q9 hq9 x9 => by have x8 : τ q9 = 5 ∨ 1000 ≤ τ q9 := x9; show τ q9 < 200 ∨ 1000 ≤ τ q9; omega)
          have hA := hA.tr hA9 hF.1
          have hF := hF0
          have hXR : XR G B0 τ10 A H10 ((o_do Sx x9 a9 b9 k9), ((p_sn n)), ((p_L L S n)), tn, t) := hXR
          refine lv_iinc (v := nI (i + 1)) (lv' := [(2, .int (nI (i + 1))), (1, .ref q1), (0, .ref ((A 0)))]) hx hb dX1_run_56 hl (k := 0) rfl (nI_1 _) (Nat.le_of_ble_eq_true rfl) rfl (fun ls hl => ?_)
          refine lv_goto (tgt := 30) hx hb dX1_run_59 (by decide) ?_
          refine W.widen (k := 188 + 5 * (i + 1)) (n := 1377 + 29 * (i + 1)) (by omega) (by omega) ?_
          exact ih30 (i + 1) (o_do Sx x9 a9 b9 k9) (by omega) (hJ.2.2.1 _ _ _ _ _ hJx hok hk_53) ((r_run_0 (x := (x9, a9, b9, k9)) hk_53).symm.trans (by rw [← hdr]; exact hR)) (by omega) H10 _ hc_rd hRO hXR hF hA _ hS ls (lv_sub hl [0, 1, 2] rfl)
    refine W.widen (k := 188 + 5 * 0) (n := 1377 + 29 * 0) (by omega) (by omega) ?_
    exact lp30_7 _ 0 (u3 S 0 0 6 (nI 0)) (Nat.zero_le _) (hJ.2.2.2 _ _ hJS) rfl (Nat.lt_succ_self _) H6 _ hc_rd hRO hXR hF hA _ hS ls (lv_sub hl [0, 1, 2] rfl)
  · have hlen : 7 * (q_all t tn (tn + 1) 0).1.length + 0 ≤ tn + 1 := q_all_len (tn + 1) 0 (Nat.zero_le _)
    refine b_xv0 (cx_X1_84 (rest := []) CX hl.1 (m_X1_need l (x := nI 0) hlt) rfl hS rfl ⟨rfl, rfl, Nat.le_of_ble_eq_true rfl, Nat.le_of_ble_eq_true rfl⟩ (Nat.le_of_ble_eq_true rfl) dX1_run_13 ⟨Nat.le_of_ble_eq_true rfl, Nat.le_of_ble_eq_true rfl⟩) hS (fun E9 q9 Hx23 locs hx9 hS he9 => ?_) (fun hk_13 locs hS => ?_)
    · have hXR : XR G B0 τ3 A H3 (S, n, L, tn, t) := ⟨d0, c0, ids, P0, F, M, E, Z, sm, rs, se, ml, hs, bt, tk9, hc_X, hc_sv, hsa, hse, hc_tx, hc_tb, hbt, hc_tk, hL, hZ, hW, hV, hd0, hdc, hn, htn, ht⟩
      have ho : o_run (S, n, L, tn, t) = f_no 1 (S, n, L, tn, t) := by
        unfold o_run
        exact if_pos (q_bad (Nat.zero_le tn) hq9)
      rw [← hQ]
      exact b_xoutP CX (fun z hz9 => by rw [htb] at hz9; rcases List.mem_cons.mp hz9 with rfl | hz9; exact Or.inl (by decide); rcases List.mem_cons.mp hz9 with rfl | hz9; exact Or.inl (by decide); rcases List.mem_cons.mp hz9 with rfl | hz9; exact Or.inl (by decide); rcases List.mem_cons.mp hz9 with rfl | hz9; exact Or.inl (by decide); exact nomatch hz9) hlk he9 hS (Nat.le_of_ble_eq_true rfl) (Nat.le_of_ble_eq_true rfl) ⟨hx9.2.1, by rw [ho]; rfl, by rw [ho]; rfl, _, hA, hF.ext hx9.2.2, hXR.ext hx9.2.2⟩
    exact absurd (by decide) hk_13
