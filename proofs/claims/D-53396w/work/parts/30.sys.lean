/-! the system as a whole -/
set_option maxRecDepth 100000
/-- the classes that are thrown, by the law's number -/
def cl_A (v : Nat) : String := if v = 1 then "java/lang/IndexOutOfBoundsException" else if v = 2 then "java/lang/IllegalArgumentException" else "java/lang/IllegalStateException"
def cl_B (v : Nat) : String := if v = 1 then "java/lang/IllegalArgumentException" else "java/lang/IllegalStateException"
def cl_C (_ : Nat) : String := "java/lang/IllegalStateException"
/-- a call that threw: the number, the class, nothing changed -/
def o_px (H : Heap) (z : b_Z) (o : b_Rs) (cl : Nat → String) (E : String) (H1 : Heap) : Prop := b_Ext H H1 ∧ ∃ v, (v = 1 ∨ v = 2 ∨ v = 3) ∧ o.1 = nI v ∧ o.2.2 = z ∧ E = cl v
/-- a call that answered -/
def o_ok1 (G : b_G) (B0 : Nat) (τ : b_T) (A : Nat → Nat) (H : Heap) (o : b_Rs) (r : Int32) (H1 : Heap) : Prop := o.1 = nI 0 ∧ r = o.2.1 ∧ ∃ τ1 : b_T, b_Ag τ τ1 H ∧ b_Fr τ (fun t => t < 200 ∨ 1000 ≤ t) H H1 ∧ XR G B0 τ1 A H1 o.2.2
theorem pZ.of {Z : Nat → Nat → Int32} {S S1 : b_St} (h : pZ Z S) (e : ∀ i j, S1 3 i j = S 3 i j) : pZ Z S1 := fun i j hi hj => by rw [h i j hi hj, e, e]
theorem pZ.sw {Z : Nat → Nat → Int32} {S : b_St} (h : pZ Z S) {x y : Nat} (hx : x < 8) (hy : y < 8) (hne : ¬ x = y) (c : Int32) : pZ (s_swZ Z x y c) (s_swap S x y c) := by
  have e3 : ∀ i j, s_swap S x y c 3 i j = if j = y ∧ i = x then S 3 x y + c else S 3 i j := by
    intro i j
    simp [s_swap, u3]
  intro i j hi hj
  rw [e3, e3]
  unfold s_swZ
  by_cases c1 : i = x ∧ j = y
  · obtain ⟨rfl, rfl⟩ := c1
    rw [if_pos ⟨rfl, rfl⟩, if_pos ⟨rfl, rfl⟩, if_neg (fun q => hne q.1), h i j hi hj]
    grind
  · have c1' : ¬ (j = y ∧ i = x) := fun q => c1 ⟨q.2, q.1⟩
    by_cases c2 : i = y ∧ j = x
    · obtain ⟨rfl, rfl⟩ := c2
      rw [if_neg c1, if_pos ⟨rfl, rfl⟩, if_neg c1', if_pos ⟨rfl, rfl⟩, h i j hi hj]
      grind
    · rw [if_neg c1, if_neg c2, if_neg c1', if_neg c2]
      exact h i j hi hj
section SVT
variable {G : b_G} {B0 : Nat} {τ : b_T} {d c n : Nat} {ids P : Nat → Nat} {H : Heap} {L : Nat → b_St}
/-- the first one dropped -/
theorem SV.shift (h : SV G B0 τ d c (n + 1) ids P H L) : SV G B0 τ d c n (fun k => ids (k + 1)) (fun k => P (k + 1)) H (fun k => L (k + 1)) :=
  ⟨fun k hk => h.1 (k + 1) (by omega), fun j k hj hk => h.2 (j + 1) (k + 1) (by omega) (by omega)⟩
/-- one more -/
theorem SV.push {F : Nat → Nat} {M : Nat → Int32} {E : Nat → Bool} {Z : Nat → Nat → Int32} {S : b_St} (h : SV G B0 τ d c n ids P H L) (hN : LR G B0 τ c F M E H S Z) (hZ : pZ Z S) (hW : b_WF S) (hd : 0 < d ∧ d < c) :
    SV G B0 τ d (c + 1) (n + 1) (fun k => if k = n then c else ids k) (fun k => if k = n then F 0 else P k) H (fun k => if k = n then S else L k) := by
  refine ⟨fun k hk => ?_, fun j k hj hk => ?_⟩
  · by_cases e : k = n
    · subst e
      simp only [if_true]
      exact ⟨⟨F, M, E, Z, rfl, hN, hZ⟩, hW, by omega, by omega, by omega⟩
    · simp only [e, if_false]
      obtain ⟨h1, h2, h3, h4, h5⟩ := h.1 k (by omega)
      exact ⟨h1, h2, h3, h4, by omega⟩
  · have hjn : ¬ j = n := by omega
    simp only [hjn, if_false]
    by_cases e : k = n
    · rw [if_pos e]
      have := (h.1 j (by omega)).2.2.2.2
      omega
    · rw [if_neg e]
      exact h.2 j k hj (by omega)
/-- the last one taken back -/
theorem SV.pop (h : SV G B0 τ d c (n + 1) ids P H L) : SV G B0 τ (ids n) c n ids P H L :=
  ⟨fun k hk => by
    obtain ⟨h1, h2, h3, h4, h5⟩ := h.1 k (by omega)
    exact ⟨h1, h2, h.2 k n hk (by omega), h4, h5⟩, fun j k hj hk => h.2 j k hj (by omega)⟩
theorem SV.objs (h : SV G B0 τ d c n ids P H L) : ∀ j, j < n → ∃ (t : Nat) (fs : List Value), b_tt G B0 τ H (P j) t (.inr (1, fs)) ∧ ¬ (t = 1 ∨ t = 2) := by
  intro j hj
  obtain ⟨⟨F, M, E, Z, h1, h2, h3⟩, h4, h5, h6, h7⟩ := h.1 j hj
  refine ⟨_, _, h1 ▸ h2.loop, by omega⟩
end SVT
theorem p_L6 (L : Nat → b_St) (S : b_St) : (fun k => if k = 5 then S else (fun k => L (k + 1)) k) = p_L L S 6 := by
  funext k
  unfold p_L
  rw [if_pos rfl]
theorem p_Ln (L : Nat → b_St) (S : b_St) {n : Nat} (hn : ¬ n = 6) : (fun k => if k = n then S else L k) = p_L L S n := by
  unfold p_L
  rw [if_neg hn]
theorem p_sn6 : p_sn 6 = 5 + 1 := rfl
theorem p_snn {n : Nat} (hn : ¬ n = 6) : p_sn n = n + 1 := by unfold p_sn; rw [if_neg hn]
theorem cs_X1_53 {p : Program} {l : Launch} {e : Env} {R : Room} {s : State} {m : MethodId} {args : Array Value} {below : List Frame} {meth : Method} {c : Code} {H : Heap} {locs : List Loc} {cells slots : Nat} {cc : ByteArray} {pc nL a : Nat} {ls : Array Slot} {rest : List Value} {G : b_G} {B0 : Nat} (CX : b_Cx p s m args c cc nL RX1 G B0) (hls : ls.size = nL) {rm : Room} {mc ms : Nat} {As st0 : List Value} {Qc : Array Value → State → Outcome → State → Prop} (hM : Met l yX2_copy (ws_ yX2_copy cX2_copy 3 (Option.some (Jvm.ClassFile.FieldType.object "BottleLoop$Loop"))) rm (b_Pc G B0 H (.ref a :: As)) Qc mc ms (b_A B0)) (hn : As.length = 0) {fs : List Value} {ci : Nat} {qc : vw_C} (hc : b_cl[ci]? = some qc) (hq : qc.1 = RX2) (hP : b_at G a (.inr (ci, fs)) H) (hS : va_S (b_A B0) s.heap H locs) (hst : st0 = As.reverse ++ .ref a :: rest) (hr : rm.cells = mc ∧ rm.slots = ms ∧ rm.frames + 1 ≤ R.frames ∧ 8 + (3 + 11) + rm.locals ≤ R.locals) (hw : (rest.map fun v => v.category).sum ≤ 8) (hdg : decode cc pc = .ok (.invokevirtual 53, 3)) (hf : cells + mc ≤ R.cells ∧ slots + ms ≤ R.slots) : va_Run p l e R s m args below meth c H locs cells slots mc ms (F0 m pc ls st0) rest (Qc (Value.ref a :: As).toArray) (b_A B0) := va_runV CX.fix hM (cwV 0 CX.ts (lw_V q975 q976 q977 q80 q978) rfl hr.1 hr.2.1 (by decide +kernel) ⟨hr.2.2.1, hr.2.2.2⟩) ⟨b_blind G B0 H _, by have h9 := b_recv CX.K hc hP; rw [hq] at h9; exact h9, b_pre _ CX.K hS⟩ rfl hn hls hst (lv_room hw) hdg hf
theorem cs_X1_57 {p : Program} {l : Launch} {e : Env} {R : Room} {s : State} {m : MethodId} {args : Array Value} {below : List Frame} {meth : Method} {c : Code} {H : Heap} {locs : List Loc} {cells slots : Nat} {cc : ByteArray} {pc nL a : Nat} {ls : Array Slot} {rest : List Value} {G : b_G} {B0 : Nat} (CX : b_Cx p s m args c cc nL RX1 G B0) (hls : ls.size = nL) {rm : Room} {mc ms : Nat} {As st0 : List Value} {Qc : Array Value → State → Outcome → State → Prop} (hM : Met l yJ2_add (ws_ yJ2_add cJ2_add 2 (Option.some Jvm.ClassFile.FieldType.boolean)) rm (b_Pc G B0 H (.ref a :: As)) Qc mc ms (b_A B0)) (hn : As.length = 1) {fs : List Value} {ci : Nat} {qc : vw_C} (hc : b_cl[ci]? = some qc) (hq : qc.1 = RJ2) (hP : b_at G a (.inr (ci, fs)) H) (hS : va_S (b_A B0) s.heap H locs) (hst : st0 = As.reverse ++ .ref a :: rest) (hr : rm.cells = mc ∧ rm.slots = ms ∧ rm.frames + 1 ≤ R.frames ∧ 8 + (2 + 11) + rm.locals ≤ R.locals) (hw : (rest.map fun v => v.category).sum ≤ 8) (hdg : decode cc pc = .ok (.invokevirtual 57, 3)) (hf : cells + mc ≤ R.cells ∧ slots + ms ≤ R.slots) : va_Run p l e R s m args below meth c H locs cells slots mc ms (F0 m pc ls st0) rest (Qc (Value.ref a :: As).toArray) (b_A B0) := va_runV CX.fix hM (cwV 1 CX.ts (lw_V q1092 q724 q725 q83 q726) rfl hr.1 hr.2.1 (by decide +kernel) ⟨hr.2.2.1, hr.2.2.2⟩) ⟨b_blind G B0 H _, by have h9 := b_recv CX.K hc hP; rw [hq] at h9; exact h9, b_pre _ CX.K hS⟩ rfl hn hls hst (lv_room hw) hdg hf
theorem cs_X1_49 {p : Program} {l : Launch} {e : Env} {R : Room} {s : State} {m : MethodId} {args : Array Value} {below : List Frame} {meth : Method} {c : Code} {H : Heap} {locs : List Loc} {cells slots : Nat} {cc : ByteArray} {pc nL a : Nat} {ls : Array Slot} {rest : List Value} {G : b_G} {B0 : Nat} (CX : b_Cx p s m args c cc nL RX1 G B0) (hls : ls.size = nL) {rm : Room} {mc ms : Nat} {As st0 : List Value} {Qc : Array Value → State → Outcome → State → Prop} (hM : Met l yJ2_remove (ws_ yJ2_remove cJ2_remove 4 (Option.some (Jvm.ClassFile.FieldType.object "java/lang/Object"))) rm (b_Pc G B0 H (.ref a :: As)) Qc mc ms (b_A B0)) (hn : As.length = 1) {fs : List Value} {ci : Nat} {qc : vw_C} (hc : b_cl[ci]? = some qc) (hq : qc.1 = RJ2) (hP : b_at G a (.inr (ci, fs)) H) (hS : va_S (b_A B0) s.heap H locs) (hst : st0 = As.reverse ++ .ref a :: rest) (hr : rm.cells = mc ∧ rm.slots = ms ∧ rm.frames + 1 ≤ R.frames ∧ 8 + (4 + 11) + rm.locals ≤ R.locals) (hw : (rest.map fun v => v.category).sum ≤ 8) (hdg : decode cc pc = .ok (.invokevirtual 49, 3)) (hf : cells + mc ≤ R.cells ∧ slots + ms ≤ R.slots) : va_Run p l e R s m args below meth c H locs cells slots mc ms (F0 m pc ls st0) rest (Qc (Value.ref a :: As).toArray) (b_A B0) := va_runV CX.fix hM (cwV 1 CX.ts (lw_V q966 q967 q968 q83 q969) rfl hr.1 hr.2.1 (by decide +kernel) ⟨hr.2.2.1, hr.2.2.2⟩) ⟨b_blind G B0 H _, by have h9 := b_recv CX.K hc hP; rw [hq] at h9; exact h9, b_pre _ CX.K hS⟩ rfl hn hls hst (lv_room hw) hdg hf
set_option maxHeartbeats 2000000 in
set_option maxRecDepth 100000 in
theorem m_X1_save (l : Launch) {G : b_G} {B0 : Nat} {H : Heap} {τ : b_T} {A : Nat → Nat} {S : b_St} {n : Nat} {L : Nat → b_St} {tn : Nat} {t : Nat → Nat} (hXR : XR G B0 τ A H (S, n, L, tn, t)) : Met l yX1_save (ws_ yX1_save cX1_save 1 (Option.none)) ({ frames := 6, cells := 54, slots := 461, locals := 130 } : Room) (b_Pc G B0 H [.ref ((A 0))]) (b_Qv B0 (fun H1 => ∃ τ1 : b_T, b_Ag τ τ1 H ∧ b_Fr τ (fun t => t = 1 ∨ t = 2 ∨ 1000 ≤ t) H H1 ∧ XR G B0 τ1 A H1 (S, p_sn n, p_L L S n, tn, t))) 54 461 (b_A B0) := by
  refine b_of (by decide) (Nat.le_of_ble_eq_true rfl) ?_
  intro p e s m below meth c CX hr hlk hnm hS ls hl
  have CX : b_Cx p s m _ c cX1_save 1 RX1 G B0 := CX
  have hx := CX.hx
  have hb := CX.hb
  have hl : lv_has ls 1 [(0, .ref ((A 0)))] := hl
  generalize hQ : MQ below (b_Qv B0 (fun H1 => ∃ τ1 : b_T, b_Ag τ τ1 H ∧ b_Fr τ (fun t => t = 1 ∨ t = 2 ∨ 1000 ≤ t) H H1 ∧ XR G B0 τ1 A H1 (S, p_sn n, p_L L S n, tn, t))) ([.ref ((A 0))] : List Value).toArray s 54 461 (b_A B0) = Q
  have hF : b_Fr τ (fun t => t = 1 ∨ t = 2 ∨ 1000 ≤ t) H H := b_Fr.rf
  have hA : b_Ag τ τ H := b_Ag.rf
  have hX : b_Ext H H := b_Ext.rf
  obtain ⟨d0, c0, ids, P0, F, M, E, Z, sm, rs, se, ml, hs, bt, tk9, hc_X, hc_sv, hsa, hse, hc_tx, hc_tb, hbt, hc_tk, hL, hZ, hW, hV, hd0, hdc, hn, htn, ht⟩ := hXR
  have hc_X : b_tt G B0 τ H ((A 0)) 0 (.inr (0, [.ref ((F 0)), .ref ((A 1)), .ref ((A 3)), .ref ((A 5)), .long hs])) := hc_X
  have hc_sv : b_tt G B0 τ H ((A 1)) 1 (.inr (2, [.int sm, .ref ((if se = true then rs else G.2.2 0)), .int (nI n)])) := hc_sv
  have hsa : (se = true → b_tt G B0 τ H rs 2 (.inl (G.2.1 2, q_refs 10 (fun j => if j < n then some (P0 j) else none)))) := hsa
  have hc_tx : b_tt G B0 τ H ((A 3)) 3 (.inr (3, [.ref ((A 4)), .int (nI 0), .int ml, .int (nI tn)])) := hc_tx
  have hc_tb : b_tt G B0 τ H ((A 4)) 4 (.inl (G.2.1 1, 60, .inl bt)) := hc_tb
  have hc_tk : b_tt G B0 τ H ((A 5)) 5 (.inl (G.2.1 0, 8, .inl tk9)) := hc_tk
  have hL : LR G B0 τ d0 F M E H S Z := hL
  have hV : SV G B0 τ d0 c0 n ids P0 H L := hV
  have hn8 := hL.2.2.2.1
  have hn6 := hL.2.2.2.2
  have hnb : nb S = nb S := rfl
  have hns : ns S = ns S := rfl
  have hn : n ≤ 6 := hn
  have htn : tn ≤ 60 := htn
  have ht : ∀ j, t j < 128 := ht
  have hse : se = true ∨ n = 0 := hse
  have hZ : pZ Z S := hZ
  have hW : b_WF S := hW
  have hbt : ∀ j, j < tn → bt j = nI (t j) := hbt
  refine lv_aload_n hx hb dX1_save_0 rfl (lv_at hl 0 rfl) ?_
  refine gf_X1_28_0 CX hc_X.at rfl dX1_save_1 ?_
  refine b_ci0 (cs_X1_45 (rest := []) CX hl.1 (m_J2_size l (a := (A 1)) (ta := 1) (mc := sm) (ra := (if se = true then rs else G.2.2 0)) (x := nI n) hc_sv) rfl rfl rfl hc_sv.at hS rfl ⟨rfl, rfl, Nat.le_of_ble_eq_true rfl, Nat.le_of_ble_eq_true rfl⟩ (Nat.le_of_ble_eq_true rfl) dX1_save_4 ⟨Nat.le_of_ble_eq_true rfl, Nat.le_of_ble_eq_true rfl⟩) hS (fun locs hS => ?_)
  refine lv_bipush (v := nI 6) hx hb dX1_save_7 rfl ?_
  refine b_icmp_neN (tgt := 21) CX (by omega) (by omega) dX1_save_9 (by decide) (fun c_9 => ?_) (fun c_9 => ?_)
  · have h6 : ¬ n = 6 := c_9
    refine lv_aload_n hx hb dX1_save_21 rfl (lv_at hl 0 rfl) ?_
    refine gf_X1_28_0 CX hc_X.at rfl dX1_save_22 ?_
    refine lv_aload_n hx hb dX1_save_25 rfl (lv_at hl 0 rfl) ?_
    refine gf_X1_19_0 CX hc_X.at rfl dX1_save_26 ?_
    refine b_cq (cs_X1_53 (rest := [.ref ((A 1))]) CX hl.1 (m_X2_copy l (id2 := c0) hL hW (by omega)) rfl rfl rfl hL.loop.at hS rfl ⟨rfl, rfl, Nat.le_of_ble_eq_true rfl, Nat.le_of_ble_eq_true rfl⟩ (Nat.le_of_ble_eq_true rfl) dX1_save_29 ⟨Nat.le_of_ble_eq_true rfl, Nat.le_of_ble_eq_true rfl⟩) hS (fun r H1 locs hp hS => ?_)
    obtain ⟨τ1, F1, M1, E1, rfl, hA9, hF9, hN⟩ := hp
    have hc_X := hc_X.ca hF9 hA9 (show ¬ (1000 * c0 ≤ 0 ∧ 0 < 1000 * c0 + 1000) by omega)
    have hc_sv := hc_sv.ca hF9 hA9 (show ¬ (1000 * c0 ≤ 1 ∧ 1 < 1000 * c0 + 1000) by omega)
    have hsa := fun h9 => (hsa h9).ca hF9 hA9 (show ¬ (1000 * c0 ≤ 2 ∧ 2 < 1000 * c0 + 1000) by omega)
    have hc_tx := hc_tx.ca hF9 hA9 (show ¬ (1000 * c0 ≤ 3 ∧ 3 < 1000 * c0 + 1000) by omega)
    have hc_tb := hc_tb.ca hF9 hA9 (show ¬ (1000 * c0 ≤ 4 ∧ 4 < 1000 * c0 + 1000) by omega)
    have hc_tk := hc_tk.ca hF9 hA9 (show ¬ (1000 * c0 ≤ 5 ∧ 5 < 1000 * c0 + 1000) by omega)
    have hL := hL.ca hF9 hA9 (fun i9 hi9 => show ¬ (1000 * c0 ≤ (1000 * d0 + i9) ∧ (1000 * d0 + i9) < 1000 * c0 + 1000) by omega)
    have hV := hV.ca hF9 hA9 (fun k9 h1 h2 h3 i9 hi9 => show ¬ (1000 * c0 ≤ (1000 * k9 + i9) ∧ (1000 * k9 + i9) < 1000 * c0 + 1000) by omega)
    have hF0 := hF.tr hA hF9 (fun q9 hq9 x9 => by have x8 : 1000 * c0 ≤ τ q9 ∧ τ q9 < 1000 * c0 + 1000 := x9; show τ q9 = 1 ∨ τ q9 = 2 ∨ 1000 ≤ τ q9; omega)
    have hA := hA.tr hA9 hF.1
    have hF := hF0
    rcases hse1 : se with _ | _
    · have hn0 : n = 0 := hse.resolve_left (by rw [hse1]; decide)
      have hc_sv : b_tt G B0 τ1 H1 ((A 1)) 1 (.inr (2, [.int sm, .ref ((G.2.2 0)), .int (nI 0)])) := hc_sv.cg (by rw [hse1, hn0]; rfl)
      refine b_ci (cs_X1_57 (rest := []) CX hl.1 (m_J2_add_s l (a := (A 1)) (ta := 1) (mc := sm) (v := (F1 0)) (tv := 1000 * c0 + 0) (ci := 1) (fs := [.ref ((F1 1)), .ref ((F1 3)), .ref ((F1 5)), .ref ((F1 6)), .int (S 0 0 2), .int (S 0 0 3), .int (S 0 0 4), .int (S 0 0 5), .int (S 0 0 6)]) (tr := 2) hc_sv hN.loop ⟨_, rfl, q2231⟩ (by omega) (by omega) (by omega)) rfl rfl rfl hc_sv.at hS rfl ⟨rfl, rfl, Nat.le_of_ble_eq_true rfl, Nat.le_of_ble_eq_true rfl⟩ (Nat.le_of_ble_eq_true rfl) dX1_save_32 ⟨Nat.le_of_ble_eq_true rfl, Nat.le_of_ble_eq_true rfl⟩) hS (fun r H2 locs hp hS => ?_)
      obtain ⟨τ2, q2, rfl, hA9, hF9, hr0, hx0, hx1⟩ := hp
      have hc_X := hc_X.ca hF9 hA9 (show ¬ (0 = 1 ∨ 0 = 2) by omega)
      have hc_tx := hc_tx.ca hF9 hA9 (show ¬ (3 = 1 ∨ 3 = 2) by omega)
      have hc_tb := hc_tb.ca hF9 hA9 (show ¬ (4 = 1 ∨ 4 = 2) by omega)
      have hc_tk := hc_tk.ca hF9 hA9 (show ¬ (5 = 1 ∨ 5 = 2) by omega)
      have hL := hL.ca hF9 hA9 (fun i9 hi9 => show ¬ ((1000 * d0 + i9) = 1 ∨ (1000 * d0 + i9) = 2) by omega)
      have hV := hV.ca hF9 hA9 (fun k9 h1 h2 h3 i9 hi9 => show ¬ ((1000 * k9 + i9) = 1 ∨ (1000 * k9 + i9) = 2) by omega)
      have hN := hN.ca hF9 hA9 (fun i9 hi9 => show ¬ ((1000 * c0 + i9) = 1 ∨ (1000 * c0 + i9) = 2) by omega)
      have hz9 := hF.1
      have hF0 := hF.tr hA hF9 (fun q9 hq9 x9 => by have x8 : τ q9 = 1 ∨ τ q9 = 2 := x9; show τ q9 = 1 ∨ τ q9 = 2 ∨ 1000 ≤ τ q9; omega)
      have hA := hA.tr hA9 hF.1
      have hF := hF0
      have hc_sv : b_tt G B0 τ2 H2 ((A 1)) 1 (.inr (2, [.int (sm + 1), .ref q2, .int (nI 1)])) := hx0
      have hc_arr2 : b_tt G B0 τ2 H2 q2 2 (.inl (G.2.1 2, q_refs 10 ((fun j => if j < 1 then some ((F1 0)) else none)))) := hx1
      have fr_arr2 : H.size ≤ q2 := Nat.le_trans hz9 hr0
      have hsa : (true = true → b_tt G B0 τ2 H2 q2 2 (.inl (G.2.1 2, q_refs 10 (fun j => if j < (n + 1) then some (((fun k => if k = n then F1 0 else P0 k)) j) else none)))) := fun _ => b_tt.cgr hc_arr2 (fun j hj => by subst hn0; by_cases c9 : j < 1 <;> first | (have e9 : j = 0 := (by omega); subst e9; rfl) | rw [if_neg c9, if_neg (by omega)])
      have hc_sv : b_tt G B0 τ2 H2 ((A 1)) 1 (.inr (2, [.int (sm + 1), .ref ((if true = true then q2 else G.2.2 0)), .int (nI (n + 1))])) := hc_sv.cg (by rw [hn0] <;> rfl)
      have hV : SV G B0 τ2 d0 ((c0 + 1)) ((n + 1)) ((fun k => if k = n then c0 else ids k)) ((fun k => if k = n then F1 0 else P0 k)) H2 ((fun k => if k = n then S else L k)) := hV.push hN hZ hW ⟨hd0, hdc⟩
      refine lv_pop hx hb dX1_save_35 rfl ?_
      rw [← hQ]
      exact b_vret CX hr hlk hS (Nat.le_of_ble_eq_true rfl) (Nat.le_of_ble_eq_true rfl) dX1_save_36 (⟨_, hA, hF, (by rw [← p_Ln L S h6, p_snn h6]; exact ⟨d0, (c0 + 1), (fun k => if k = n then c0 else ids k), (fun k => if k = n then F1 0 else P0 k), F, M, E, Z, sm + 1, q2, true, ml, hs, bt, tk9, hc_X, hc_sv, hsa, Or.inl rfl, hc_tx, hc_tb, hbt, hc_tk, hL, hZ, hW, hV, hd0, (by omega), (show n + 1 ≤ 6 by omega), htn, ht⟩)⟩)
    · have hc_sa := hsa hse1
      rw [hse1] at hc_sv
      have hc_sv : b_tt G B0 τ1 H1 ((A 1)) 1 (.inr (2, [.int sm, .ref rs, .int (nI n)])) := hc_sv
      refine b_ci (cs_X1_57 (rest := []) CX hl.1 (m_J2_add_d l (a := (A 1)) (ta := 1) (mc := sm) (ra := rs) (tr := 2) (f := P0) (n := n) (v := (F1 0)) (tv := 1000 * c0 + 0) (ci := 1) (fs := [.ref ((F1 1)), .ref ((F1 3)), .ref ((F1 5)), .ref ((F1 6)), .int (S 0 0 2), .int (S 0 0 3), .int (S 0 0 4), .int (S 0 0 5), .int (S 0 0 6)]) hc_sv hc_sa hN.loop ⟨_, rfl, q2231⟩ (by omega) (by omega) (by omega) (by omega)) rfl rfl rfl hc_sv.at hS rfl ⟨rfl, rfl, Nat.le_of_ble_eq_true rfl, Nat.le_of_ble_eq_true rfl⟩ (Nat.le_of_ble_eq_true rfl) dX1_save_32 ⟨Nat.le_of_ble_eq_true rfl, Nat.le_of_ble_eq_true rfl⟩) hS (fun r H3 locs hp hS => ?_)
      obtain ⟨rfl, hF9, hx0, hx1⟩ := hp
      have hc_X := hc_X.fr hF9 (show ¬ (0 = 1 ∨ 0 = 2) by omega)
      have hc_tx := hc_tx.fr hF9 (show ¬ (3 = 1 ∨ 3 = 2) by omega)
      have hc_tb := hc_tb.fr hF9 (show ¬ (4 = 1 ∨ 4 = 2) by omega)
      have hc_tk := hc_tk.fr hF9 (show ¬ (5 = 1 ∨ 5 = 2) by omega)
      have hL := hL.fr hF9 (fun i9 hi9 => show ¬ ((1000 * d0 + i9) = 1 ∨ (1000 * d0 + i9) = 2) by omega)
      have hV := hV.fr hF9 (fun k9 h1 h2 h3 i9 hi9 => show ¬ ((1000 * k9 + i9) = 1 ∨ (1000 * k9 + i9) = 2) by omega)
      have hN := hN.fr hF9 (fun i9 hi9 => show ¬ ((1000 * c0 + i9) = 1 ∨ (1000 * c0 + i9) = 2) by omega)
      have hz9 := hF.1
      have hF0 := hF.tr hA hF9 (fun q9 hq9 x9 => by have x8 : τ q9 = 1 ∨ τ q9 = 2 := x9; show τ q9 = 1 ∨ τ q9 = 2 ∨ 1000 ≤ τ q9; omega)
      have hF := hF0
      have hc_sv : b_tt G B0 τ1 H3 ((A 1)) 1 (.inr (2, [.int (sm + 1), .ref rs, .int (nI (n + 1))])) := hx0
      have hc_sa : b_tt G B0 τ1 H3 rs 2 (.inl (G.2.1 2, q_refs 10 ((fun j => if j < n + 1 then some (if j = n then ((F1 0)) else P0 j) else none)))) := hx1
      have hsa : (true = true → b_tt G B0 τ1 H3 rs 2 (.inl (G.2.1 2, q_refs 10 (fun j => if j < (n + 1) then some (((fun k => if k = n then F1 0 else P0 k)) j) else none)))) := fun _ => hc_sa
      have hc_sv : b_tt G B0 τ1 H3 ((A 1)) 1 (.inr (2, [.int (sm + 1), .ref ((if true = true then rs else G.2.2 0)), .int (nI (n + 1))])) := hc_sv
      have hV : SV G B0 τ1 d0 ((c0 + 1)) ((n + 1)) ((fun k => if k = n then c0 else ids k)) ((fun k => if k = n then F1 0 else P0 k)) H3 ((fun k => if k = n then S else L k)) := hV.push hN hZ hW ⟨hd0, hdc⟩
      refine lv_pop hx hb dX1_save_35 rfl ?_
      rw [← hQ]
      exact b_vret CX hr hlk hS (Nat.le_of_ble_eq_true rfl) (Nat.le_of_ble_eq_true rfl) dX1_save_36 (⟨_, hA, hF, (by rw [← p_Ln L S h6, p_snn h6]; exact ⟨d0, (c0 + 1), (fun k => if k = n then c0 else ids k), (fun k => if k = n then F1 0 else P0 k), F, M, E, Z, sm + 1, rs, true, ml, hs, bt, tk9, hc_X, hc_sv, hsa, Or.inl rfl, hc_tx, hc_tb, hbt, hc_tk, hL, hZ, hW, hV, hd0, (by omega), (show n + 1 ≤ 6 by omega), htn, ht⟩)⟩)
  · obtain rfl : n = 6 := by omega
    refine lv_aload_n hx hb dX1_save_12 rfl (lv_at hl 0 rfl) ?_
    refine gf_X1_28_0 CX hc_X.at rfl dX1_save_13 ?_
    refine lv_iconst (v := nI 0) hx hb dX1_save_16 rfl ?_
    have hse1 : se = true := hse.resolve_right (by decide)
    have hc_sa := hsa hse1
    rw [hse1] at hc_sv
    have hc_sv : b_tt G B0 τ H ((A 1)) 1 (.inr (2, [.int sm, .ref rs, .int (nI 6)])) := hc_sv
    have hm := hV.objs
    refine b_cq (cs_X1_49 (rest := []) CX hl.1 (m_J2_remove_s l (a := (A 1)) (ta := 1) (mc := sm) (ra := rs) (tr := 2) (f := P0) (n := 6) (i := 0) hc_sv hc_sa (by omega) hm (by omega) (by omega) (by omega)) rfl rfl rfl hc_sv.at hS rfl ⟨rfl, rfl, Nat.le_of_ble_eq_true rfl, Nat.le_of_ble_eq_true rfl⟩ (Nat.le_of_ble_eq_true rfl) dX1_save_17 ⟨Nat.le_of_ble_eq_true rfl, Nat.le_of_ble_eq_true rfl⟩) hS (fun r H4 locs hp hS => ?_)
    obtain ⟨rfl, hF9, hx0, hx1⟩ := hp
    have hc_X := hc_X.fr hF9 (show ¬ (0 = 1 ∨ 0 = 2) by omega)
    have hc_tx := hc_tx.fr hF9 (show ¬ (3 = 1 ∨ 3 = 2) by omega)
    have hc_tb := hc_tb.fr hF9 (show ¬ (4 = 1 ∨ 4 = 2) by omega)
    have hc_tk := hc_tk.fr hF9 (show ¬ (5 = 1 ∨ 5 = 2) by omega)
    have hL := hL.fr hF9 (fun i9 hi9 => show ¬ ((1000 * d0 + i9) = 1 ∨ (1000 * d0 + i9) = 2) by omega)
    have hV := hV.fr hF9 (fun k9 h1 h2 h3 i9 hi9 => show ¬ ((1000 * k9 + i9) = 1 ∨ (1000 * k9 + i9) = 2) by omega)
    have hz9 := hF.1
    have hF0 := hF.tr hA hF9 (fun q9 hq9 x9 => by have x8 : τ q9 = 1 ∨ τ q9 = 2 := x9; show τ q9 = 1 ∨ τ q9 = 2 ∨ 1000 ≤ τ q9; omega)
    have hF := hF0
    have hc_sv : b_tt G B0 τ H4 ((A 1)) 1 (.inr (2, [.int (sm + 1), .ref rs, .int (nI (6 - 1))])) := hx0
    have hc_sa : b_tt G B0 τ H4 rs 2 (.inl (G.2.1 2, q_refs 10 ((fun j => if j < 6 - 1 then some (if j < 0 then P0 j else P0 (j + 1)) else none)))) := hx1
    have hV : SV G B0 τ d0 c0 5 ((fun k => ids (k + 1))) ((fun k => P0 (k + 1))) H4 ((fun k => L (k + 1))) := SV.shift (n := 5) hV
    have hc_sv : b_tt G B0 τ H4 ((A 1)) 1 (.inr (2, [.int (sm + 1), .ref rs, .int (nI 5)])) := hc_sv
    have hc_sa : b_tt G B0 τ H4 rs 2 (.inl (G.2.1 2, q_refs 10 ((fun j => if j < 5 then some ((fun k => P0 (k + 1)) j) else none)))) := hc_sa
    have hsa : (true = true → b_tt G B0 τ H4 rs 2 (.inl (G.2.1 2, q_refs 10 (fun j => if j < 5 then some (((fun k => P0 (k + 1))) j) else none)))) := fun _ => hc_sa
    refine lv_pop hx hb dX1_save_20 rfl ?_
    refine lv_aload_n hx hb dX1_save_21 rfl (lv_at hl 0 rfl) ?_
    refine gf_X1_28_0 CX hc_X.at rfl dX1_save_22 ?_
    refine lv_aload_n hx hb dX1_save_25 rfl (lv_at hl 0 rfl) ?_
    refine gf_X1_19_0 CX hc_X.at rfl dX1_save_26 ?_
    refine b_cq (cs_X1_53 (rest := [.ref ((A 1))]) CX hl.1 (m_X2_copy l (id2 := c0) hL hW (by omega)) rfl rfl rfl hL.loop.at hS rfl ⟨rfl, rfl, Nat.le_of_ble_eq_true rfl, Nat.le_of_ble_eq_true rfl⟩ (Nat.le_of_ble_eq_true rfl) dX1_save_29 ⟨Nat.le_of_ble_eq_true rfl, Nat.le_of_ble_eq_true rfl⟩) hS (fun r H5 locs hp hS => ?_)
    obtain ⟨τ5, F5, M5, E5, rfl, hA9, hF9, hN⟩ := hp
    have hc_X := hc_X.ca hF9 hA9 (show ¬ (1000 * c0 ≤ 0 ∧ 0 < 1000 * c0 + 1000) by omega)
    have hc_sv := hc_sv.ca hF9 hA9 (show ¬ (1000 * c0 ≤ 1 ∧ 1 < 1000 * c0 + 1000) by omega)
    have hc_tx := hc_tx.ca hF9 hA9 (show ¬ (1000 * c0 ≤ 3 ∧ 3 < 1000 * c0 + 1000) by omega)
    have hc_tb := hc_tb.ca hF9 hA9 (show ¬ (1000 * c0 ≤ 4 ∧ 4 < 1000 * c0 + 1000) by omega)
    have hc_tk := hc_tk.ca hF9 hA9 (show ¬ (1000 * c0 ≤ 5 ∧ 5 < 1000 * c0 + 1000) by omega)
    have hL := hL.ca hF9 hA9 (fun i9 hi9 => show ¬ (1000 * c0 ≤ (1000 * d0 + i9) ∧ (1000 * d0 + i9) < 1000 * c0 + 1000) by omega)
    have hV := hV.ca hF9 hA9 (fun k9 h1 h2 h3 i9 hi9 => show ¬ (1000 * c0 ≤ (1000 * k9 + i9) ∧ (1000 * k9 + i9) < 1000 * c0 + 1000) by omega)
    have hc_sa := hc_sa.ca hF9 hA9 (show ¬ (1000 * c0 ≤ 2 ∧ 2 < 1000 * c0 + 1000) by omega)
    have hsa := fun h9 => (hsa h9).ca hF9 hA9 (show ¬ (1000 * c0 ≤ 2 ∧ 2 < 1000 * c0 + 1000) by omega)
    have hF0 := hF.tr hA hF9 (fun q9 hq9 x9 => by have x8 : 1000 * c0 ≤ τ q9 ∧ τ q9 < 1000 * c0 + 1000 := x9; show τ q9 = 1 ∨ τ q9 = 2 ∨ 1000 ≤ τ q9; omega)
    have hA := hA.tr hA9 hF.1
    have hF := hF0
    refine b_ci (cs_X1_57 (rest := []) CX hl.1 (m_J2_add_d l (a := (A 1)) (ta := 1) (mc := sm + 1) (ra := rs) (tr := 2) (f := (fun k => P0 (k + 1))) (n := 5) (v := (F5 0)) (tv := 1000 * c0 + 0) (ci := 1) (fs := [.ref ((F5 1)), .ref ((F5 3)), .ref ((F5 5)), .ref ((F5 6)), .int (S 0 0 2), .int (S 0 0 3), .int (S 0 0 4), .int (S 0 0 5), .int (S 0 0 6)]) hc_sv hc_sa hN.loop ⟨_, rfl, q2231⟩ (by omega) (by omega) (by omega) (by omega)) rfl rfl rfl hc_sv.at hS rfl ⟨rfl, rfl, Nat.le_of_ble_eq_true rfl, Nat.le_of_ble_eq_true rfl⟩ (Nat.le_of_ble_eq_true rfl) dX1_save_32 ⟨Nat.le_of_ble_eq_true rfl, Nat.le_of_ble_eq_true rfl⟩) hS (fun r H6 locs hp hS => ?_)
    obtain ⟨rfl, hF9, hx0, hx1⟩ := hp
    have hc_X := hc_X.fr hF9 (show ¬ (0 = 1 ∨ 0 = 2) by omega)
    have hc_tx := hc_tx.fr hF9 (show ¬ (3 = 1 ∨ 3 = 2) by omega)
    have hc_tb := hc_tb.fr hF9 (show ¬ (4 = 1 ∨ 4 = 2) by omega)
    have hc_tk := hc_tk.fr hF9 (show ¬ (5 = 1 ∨ 5 = 2) by omega)
    have hL := hL.fr hF9 (fun i9 hi9 => show ¬ ((1000 * d0 + i9) = 1 ∨ (1000 * d0 + i9) = 2) by omega)
    have hV := hV.fr hF9 (fun k9 h1 h2 h3 i9 hi9 => show ¬ ((1000 * k9 + i9) = 1 ∨ (1000 * k9 + i9) = 2) by omega)
    have hN := hN.fr hF9 (fun i9 hi9 => show ¬ ((1000 * c0 + i9) = 1 ∨ (1000 * c0 + i9) = 2) by omega)
    have hz9 := hF.1
    have hF0 := hF.tr hA hF9 (fun q9 hq9 x9 => by have x8 : τ q9 = 1 ∨ τ q9 = 2 := x9; show τ q9 = 1 ∨ τ q9 = 2 ∨ 1000 ≤ τ q9; omega)
    have hF := hF0
    have hc_sv : b_tt G B0 τ5 H6 ((A 1)) 1 (.inr (2, [.int ((sm + 1) + 1), .ref rs, .int (nI (5 + 1))])) := hx0
    have hc_sa : b_tt G B0 τ5 H6 rs 2 (.inl (G.2.1 2, q_refs 10 ((fun j => if j < 5 + 1 then some (if j = 5 then ((F5 0)) else ((fun k => P0 (k + 1))) j) else none)))) := hx1
    have hsa : (true = true → b_tt G B0 τ5 H6 rs 2 (.inl (G.2.1 2, q_refs 10 (fun j => if j < (5 + 1) then some (((fun k => if k = 5 then F5 0 else ((fun k => P0 (k + 1))) k)) j) else none)))) := fun _ => hc_sa
    have hc_sv : b_tt G B0 τ5 H6 ((A 1)) 1 (.inr (2, [.int ((sm + 1) + 1), .ref ((if true = true then rs else G.2.2 0)), .int (nI (5 + 1))])) := hc_sv
    have hV : SV G B0 τ5 d0 ((c0 + 1)) ((5 + 1)) ((fun k => if k = 5 then c0 else ((fun k => ids (k + 1))) k)) ((fun k => if k = 5 then F5 0 else ((fun k => P0 (k + 1))) k)) H6 ((fun k => if k = 5 then S else ((fun k => L (k + 1))) k)) := hV.push hN hZ hW ⟨hd0, hdc⟩
    refine lv_pop hx hb dX1_save_35 rfl ?_
    rw [← hQ]
    exact b_vret CX hr hlk hS (Nat.le_of_ble_eq_true rfl) (Nat.le_of_ble_eq_true rfl) dX1_save_36 (⟨_, hA, hF, (by rw [← p_L6, p_sn6]; exact ⟨d0, (c0 + 1), (fun k => if k = 5 then c0 else ((fun k => ids (k + 1))) k), (fun k => if k = 5 then F5 0 else ((fun k => P0 (k + 1))) k), F, M, E, Z, (sm + 1) + 1, rs, true, ml, hs, bt, tk9, hc_X, hc_sv, hsa, Or.inl rfl, hc_tx, hc_tb, hbt, hc_tk, hL, hZ, hW, hV, hd0, (by omega), (show 5 + 1 ≤ 6 by omega), htn, ht⟩)⟩)
