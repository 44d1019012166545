/-! brands, shops, orders -/
set_option maxRecDepth 100000
theorem cpy_all {f g : Nat → Int32} : ∀ j, j < 8 → va_cpy f g (nI 0).toNatClampNeg (nI 0).toNatClampNeg (nI 8).toNatClampNeg j = f j := by
  intro j hj
  show va_cpy f g 0 0 8 j = f j
  unfold va_cpy
  rw [if_pos (by omega), show 0 + (j - 0) = j by omega]
theorem pf_X4_7_4 {p : Program} {l : Launch} {e : Env} {R : Room} {s : State} {m : MethodId} {args : Array Value} {below : List Frame} {meth : Method} {c : Code} {H : Heap} {locs : List Loc} {cells slots : Nat} {Q : State → Prop} {cc : ByteArray} {pc nL a : Nat} {ls : Array Slot} {rest : List Value} {G : b_G} {B0 : Nat} (CX : b_Cx p s m args c cc nL RX4 G B0) (hin2 : meth.name = "<init>") {fs : List Value} (hP : b_at G a (.inr (4, fs)) H) (hS : va_S (b_A B0) s.heap H locs) (ha : B0 ≤ a) {v : Value} (hn : narrow (tyX4 0) v = v) (hfit : fits (tyX4 0) v = true) (hl : 0 < fs.length) (hdg : decode cc pc = .ok (.putfield 7, 3)) (kk : ∀ (H1 : Heap) (locs1 : List Loc), b_at G a (.inr (4, fs.set 0 v)) H1 → b_Up a H H1 → va_S (b_A B0) s.heap H1 locs1 → W p l e R s m args below meth c H1 locs1 cells slots Q (F0 m (pc + 3) ls rest)) : W p l e R s m args below meth c H locs cells slots Q (F0 m pc ls (v :: .ref a :: rest)) := b_putF CX in_X4 tyX4 tyX4_ok rfl 0 (by decide) (by decide +kernel) q991 (Or.inl rfl) rfl hin2 rfl hP hS ha hn hfit hl hdg kk
theorem pf_X4_13_4 {p : Program} {l : Launch} {e : Env} {R : Room} {s : State} {m : MethodId} {args : Array Value} {below : List Frame} {meth : Method} {c : Code} {H : Heap} {locs : List Loc} {cells slots : Nat} {Q : State → Prop} {cc : ByteArray} {pc nL a : Nat} {ls : Array Slot} {rest : List Value} {G : b_G} {B0 : Nat} (CX : b_Cx p s m args c cc nL RX4 G B0) {fs : List Value} (hP : b_at G a (.inr (4, fs)) H) (hS : va_S (b_A B0) s.heap H locs) (ha : B0 ≤ a) {v : Value} (hn : narrow (tyX4 1) v = v) (hfit : fits (tyX4 1) v = true) (hl : 1 < fs.length) (hdg : decode cc pc = .ok (.putfield 13, 3)) (kk : ∀ (H1 : Heap) (locs1 : List Loc), b_at G a (.inr (4, fs.set 1 v)) H1 → b_Up a H H1 → va_S (b_A B0) s.heap H1 locs1 → W p l e R s m args below meth c H1 locs1 cells slots Q (F0 m (pc + 3) ls rest)) : W p l e R s m args below meth c H locs cells slots Q (F0 m pc ls (v :: .ref a :: rest)) := b_put CX in_X4 tyX4 tyX4_ok rfl 1 (by decide) (by decide +kernel) q994 (Or.inl rfl) rfl hP hS ha hn hfit hl hdg kk
set_option maxHeartbeats 2000000 in
set_option maxRecDepth 100000 in
theorem m_X4_init (l : Launch) {G : b_G} {B0 : Nat} {H : Heap} {τ : b_T} {a : Nat} {ta : Nat} {k : Int32} {x : Int32} (hc_th : b_tt G B0 τ H a (ta) (.inr (4, [.int (nI 0), .int (nI 0), .int (nI 0), .int (nI 0), .int (nI 0), .int (nI 0), .int (nI 0), .int (nI 0), .int (nI 0), .int (nI 0)]))) : Met l yX4_init (ws_ yX4_init cX4_init 3 (Option.none)) ({ frames := 1, cells := 0, slots := 0, locals := 20 } : Room) (b_Pc G B0 H [.ref a, .int k, .int x]) (b_Qv B0 (fun H1 => b_Fr τ (fun t => t = ta) H H1 ∧ b_tt G B0 τ H1 a (ta) (.inr (4, [.int k, .int x, .int (nI 0), .int (nI 0), .int (nI 0), .int (nI 0), .int (nI 0), .int (nI 0), .int (nI 0), .int (nI 0)])))) 0 0 (b_A B0) := by
  refine b_of (by decide) (Nat.le_of_ble_eq_true rfl) ?_
  intro p e s m below meth c CX hr hlk hnm hS ls hl
  have CX : b_Cx p s m _ c cX4_init 3 RX4 G B0 := CX
  have hx := CX.hx
  have hb := CX.hb
  have hl : lv_has ls 3 [(0, .ref a), (1, .int k), (2, .int x)] := hl
  generalize hQ : MQ below (b_Qv B0 (fun H1 => b_Fr τ (fun t => t = ta) H H1 ∧ b_tt G B0 τ H1 a (ta) (.inr (4, [.int k, .int x, .int (nI 0), .int (nI 0), .int (nI 0), .int (nI 0), .int (nI 0), .int (nI 0), .int (nI 0), .int (nI 0)])))) ([.ref a, .int k, .int x] : List Value).toArray s 0 0 (b_A B0) = Q
  have hF : b_Fr τ (fun t => t = ta) H H := b_Fr.rf
  have hA : b_Ag τ τ H := b_Ag.rf
  refine lv_aload_n hx hb dX4_init_0 rfl (lv_at hl 0 rfl) ?_
  refine W.objInit hx hb CX.ow (CX.ts _ q990) (CX.ts _ q132) (CX.ts _ q133) rfl (by rw [CX.ml]; exact hl.1) rfl dX4_init_1 (Nat.le_of_ble_eq_true rfl) (Nat.le_of_ble_eq_true rfl) ?_
  refine W.eq (g2 := F0 m 4 ls []) rfl ?_
  refine lv_aload_n hx hb dX4_init_4 rfl (lv_at hl 0 rfl) ?_
  refine lv_iload_n hx hb dX4_init_5 rfl (lv_at hl 1 rfl) ?_
  refine pf_X4_7_4 CX hnm hc_th.at hS hc_th.B rfl rfl (Nat.le_of_ble_eq_true rfl) dX4_init_6 (fun H1 locs hat hu hS => ?_)
  have hF := hF.up hA hu hc_th.tag (fun _ => show (ta) = ta by omega)
  have hc_th : b_tt G B0 τ H1 a (ta) (.inr (4, [.int k, .int (nI 0), .int (nI 0), .int (nI 0), .int (nI 0), .int (nI 0), .int (nI 0), .int (nI 0), .int (nI 0), .int (nI 0)])) := hc_th.set hat
  refine lv_aload_n hx hb dX4_init_9 rfl (lv_at hl 0 rfl) ?_
  refine lv_iload_n hx hb dX4_init_10 rfl (lv_at hl 2 rfl) ?_
  refine pf_X4_13_4 CX hc_th.at hS hc_th.B rfl rfl (Nat.le_of_ble_eq_true rfl) dX4_init_11 (fun H2 locs hat hu hS => ?_)
  have hF := hF.up hA hu hc_th.tag (fun _ => show (ta) = ta by omega)
  have hc_th : b_tt G B0 τ H2 a (ta) (.inr (4, [.int k, .int x, .int (nI 0), .int (nI 0), .int (nI 0), .int (nI 0), .int (nI 0), .int (nI 0), .int (nI 0), .int (nI 0)])) := hc_th.set hat
  rw [← hQ]
  exact b_vret CX hr hlk hS (Nat.le_of_ble_eq_true rfl) (Nat.le_of_ble_eq_true rfl) dX4_init_14 (⟨hF, hc_th⟩)
theorem gf_X4_28_4 {p : Program} {l : Launch} {e : Env} {R : Room} {s : State} {m : MethodId} {args : Array Value} {below : List Frame} {meth : Method} {c : Code} {H : Heap} {locs : List Loc} {cells slots : Nat} {Q : State → Prop} {cc : ByteArray} {pc nL a : Nat} {ls : Array Slot} {rest : List Value} {G : b_G} {B0 : Nat} (CX : b_Cx p s m args c cc nL RX4 G B0) {fs : List Value} (hP : b_at G a (.inr (4, fs)) H) {v : Value} (hv : fs[5]? = some v) (hdg : decode cc pc = .ok (.getfield 28, 3)) (kk : W p l e R s m args below meth c H locs cells slots Q (F0 m (pc + 3) ls (v :: rest))) : W p l e R s m args below meth c H locs cells slots Q (F0 m pc ls (.ref a :: rest)) := b_get CX in_X4 rfl 5 (by decide) q1006 (Or.inl rfl) hP hv hdg kk
theorem gf_X4_31_4 {p : Program} {l : Launch} {e : Env} {R : Room} {s : State} {m : MethodId} {args : Array Value} {below : List Frame} {meth : Method} {c : Code} {H : Heap} {locs : List Loc} {cells slots : Nat} {Q : State → Prop} {cc : ByteArray} {pc nL a : Nat} {ls : Array Slot} {rest : List Value} {G : b_G} {B0 : Nat} (CX : b_Cx p s m args c cc nL RX4 G B0) {fs : List Value} (hP : b_at G a (.inr (4, fs)) H) {v : Value} (hv : fs[6]? = some v) (hdg : decode cc pc = .ok (.getfield 31, 3)) (kk : W p l e R s m args below meth c H locs cells slots Q (F0 m (pc + 3) ls (v :: rest))) : W p l e R s m args below meth c H locs cells slots Q (F0 m pc ls (.ref a :: rest)) := b_get CX in_X4 rfl 6 (by decide) q1009 (Or.inl rfl) hP hv hdg kk
theorem gf_X4_34_4 {p : Program} {l : Launch} {e : Env} {R : Room} {s : State} {m : MethodId} {args : Array Value} {below : List Frame} {meth : Method} {c : Code} {H : Heap} {locs : List Loc} {cells slots : Nat} {Q : State → Prop} {cc : ByteArray} {pc nL a : Nat} {ls : Array Slot} {rest : List Value} {G : b_G} {B0 : Nat} (CX : b_Cx p s m args c cc nL RX4 G B0) {fs : List Value} (hP : b_at G a (.inr (4, fs)) H) {v : Value} (hv : fs[7]? = some v) (hdg : decode cc pc = .ok (.getfield 34, 3)) (kk : W p l e R s m args below meth c H locs cells slots Q (F0 m (pc + 3) ls (v :: rest))) : W p l e R s m args below meth c H locs cells slots Q (F0 m pc ls (.ref a :: rest)) := b_get CX in_X4 rfl 7 (by decide) q1012 (Or.inl rfl) hP hv hdg kk
set_option maxHeartbeats 2000000 in
set_option maxRecDepth 100000 in
theorem m_X4_gone (l : Launch) {G : b_G} {B0 : Nat} {H : Heap} {τ : b_T} {a : Nat} {ta : Nat} {v0 : Int32} {v1 : Int32} {v2 : Int32} {v3 : Int32} {v4 : Int32} {v5 : Int32} {v6 : Int32} {v7 : Int32} {v8 : Int32} {v9 : Int32} (hc_th : b_tt G B0 τ H a (ta) (.inr (4, [.int v0, .int v1, .int v2, .int v3, .int v4, .int v5, .int v6, .int v7, .int v8, .int v9]))) : Met l yX4_gone (ws_ yX4_gone cX4_gone 1 (Option.some Jvm.ClassFile.FieldType.int)) ({ frames := 0, cells := 0, slots := 0, locals := 0 } : Room) (b_Pc G B0 H [.ref a]) (b_Qi B0 (fun r H1 => r = v5 + v6 + v7 ∧ H1 = H)) 0 0 (b_A B0) := by
  refine b_of (by decide) (Nat.le_of_ble_eq_true rfl) ?_
  intro p e s m below meth c CX hr hlk hnm hS ls hl
  have CX : b_Cx p s m _ c cX4_gone 1 RX4 G B0 := CX
  have hx := CX.hx
  have hb := CX.hb
  have hl : lv_has ls 1 [(0, .ref a)] := hl
  generalize hQ : MQ below (b_Qi B0 (fun r H1 => r = v5 + v6 + v7 ∧ H1 = H)) ([.ref a] : List Value).toArray s 0 0 (b_A B0) = Q
  refine lv_aload_n hx hb dX4_gone_0 rfl (lv_at hl 0 rfl) ?_
  refine gf_X4_28_4 CX hc_th.at rfl dX4_gone_1 ?_
  refine lv_aload_n hx hb dX4_gone_4 rfl (lv_at hl 0 rfl) ?_
  refine gf_X4_31_4 CX hc_th.at rfl dX4_gone_5 ?_
  refine lv_iadd hx hb dX4_gone_8 ?_
  refine lv_aload_n hx hb dX4_gone_9 rfl (lv_at hl 0 rfl) ?_
  refine gf_X4_34_4 CX hc_th.at rfl dX4_gone_10 ?_
  refine lv_iadd hx hb dX4_gone_13 ?_
  rw [← hQ]
  exact b_iret CX hr hlk hS (Nat.le_of_ble_eq_true rfl) (Nat.le_of_ble_eq_true rfl) dX4_gone_14 (⟨rfl, rfl⟩)
theorem gf_X4_7_4 {p : Program} {l : Launch} {e : Env} {R : Room} {s : State} {m : MethodId} {args : Array Value} {below : List Frame} {meth : Method} {c : Code} {H : Heap} {locs : List Loc} {cells slots : Nat} {Q : State → Prop} {cc : ByteArray} {pc nL a : Nat} {ls : Array Slot} {rest : List Value} {G : b_G} {B0 : Nat} (CX : b_Cx p s m args c cc nL RX4 G B0) {fs : List Value} (hP : b_at G a (.inr (4, fs)) H) {v : Value} (hv : fs[0]? = some v) (hdg : decode cc pc = .ok (.getfield 7, 3)) (kk : W p l e R s m args below meth c H locs cells slots Q (F0 m (pc + 3) ls (v :: rest))) : W p l e R s m args below meth c H locs cells slots Q (F0 m pc ls (.ref a :: rest)) := b_get CX in_X4 rfl 0 (by decide) q991 (Or.inl rfl) hP hv hdg kk
theorem gf_X4_13_4 {p : Program} {l : Launch} {e : Env} {R : Room} {s : State} {m : MethodId} {args : Array Value} {below : List Frame} {meth : Method} {c : Code} {H : Heap} {locs : List Loc} {cells slots : Nat} {Q : State → Prop} {cc : ByteArray} {pc nL a : Nat} {ls : Array Slot} {rest : List Value} {G : b_G} {B0 : Nat} (CX : b_Cx p s m args c cc nL RX4 G B0) {fs : List Value} (hP : b_at G a (.inr (4, fs)) H) {v : Value} (hv : fs[1]? = some v) (hdg : decode cc pc = .ok (.getfield 13, 3)) (kk : W p l e R s m args below meth c H locs cells slots Q (F0 m (pc + 3) ls (v :: rest))) : W p l e R s m args below meth c H locs cells slots Q (F0 m pc ls (.ref a :: rest)) := b_get CX in_X4 rfl 1 (by decide) q994 (Or.inl rfl) hP hv hdg kk
theorem cs_X4_16 {p : Program} {l : Launch} {e : Env} {R : Room} {s : State} {m : MethodId} {args : Array Value} {below : List Frame} {meth : Method} {c : Code} {H : Heap} {locs : List Loc} {cells slots : Nat} {cc : ByteArray} {pc nL a : Nat} {ls : Array Slot} {rest : List Value} {G : b_G} {B0 : Nat} (CX : b_Cx p s m args c cc nL RX4 G B0) (hls : ls.size = nL) {rm : Room} {mc ms : Nat} {As st0 : List Value} {Qc : Array Value → State → Outcome → State → Prop} (hM : Met l yX4_init (ws_ yX4_init cX4_init 3 (Option.none)) rm (b_Pc G B0 H (.ref a :: As)) Qc mc ms (b_A B0)) (hn : As.length = 2) (hS : va_S (b_A B0) s.heap H locs) (hst : st0 = As.reverse ++ .ref a :: rest) (hr : rm.cells = mc ∧ rm.slots = ms ∧ rm.frames + 1 ≤ R.frames ∧ 8 + (3 + 11) + rm.locals ≤ R.locals) (hw : (rest.map fun v => v.category).sum ≤ 8) (hdg : decode cc pc = .ok (.invokespecial 16, 3)) (hf : cells + mc ≤ R.cells ∧ slots + ms ≤ R.slots) : va_Run p l e R s m args below meth c H locs cells slots mc ms (F0 m pc ls st0) rest (Qc (Value.ref a :: As).toArray) (b_A B0) := va_runI CX.fix hM (cwI 2 CX.ts (lw_meth q989) rfl hr.1 hr.2.1 (CX.ts _ q97) (CX.ts _ q987) (CX.ts _ q988) rfl (by decide +kernel) ⟨hr.2.2.1, hr.2.2.2⟩) ⟨b_blind G B0 H _, b_pre _ CX.K hS⟩ rfl hn hls hst (lv_room hw) hdg hf
theorem gf_X4_19_4 {p : Program} {l : Launch} {e : Env} {R : Room} {s : State} {m : MethodId} {args : Array Value} {below : List Frame} {meth : Method} {c : Code} {H : Heap} {locs : List Loc} {cells slots : Nat} {Q : State → Prop} {cc : ByteArray} {pc nL a : Nat} {ls : Array Slot} {rest : List Value} {G : b_G} {B0 : Nat} (CX : b_Cx p s m args c cc nL RX4 G B0) {fs : List Value} (hP : b_at G a (.inr (4, fs)) H) {v : Value} (hv : fs[2]? = some v) (hdg : decode cc pc = .ok (.getfield 19, 3)) (kk : W p l e R s m args below meth c H locs cells slots Q (F0 m (pc + 3) ls (v :: rest))) : W p l e R s m args below meth c H locs cells slots Q (F0 m pc ls (.ref a :: rest)) := b_get CX in_X4 rfl 2 (by decide) q997 (Or.inl rfl) hP hv hdg kk
theorem pf_X4_19_4 {p : Program} {l : Launch} {e : Env} {R : Room} {s : State} {m : MethodId} {args : Array Value} {below : List Frame} {meth : Method} {c : Code} {H : Heap} {locs : List Loc} {cells slots : Nat} {Q : State → Prop} {cc : ByteArray} {pc nL a : Nat} {ls : Array Slot} {rest : List Value} {G : b_G} {B0 : Nat} (CX : b_Cx p s m args c cc nL RX4 G B0) {fs : List Value} (hP : b_at G a (.inr (4, fs)) H) (hS : va_S (b_A B0) s.heap H locs) (ha : B0 ≤ a) {v : Value} (hn : narrow (tyX4 2) v = v) (hfit : fits (tyX4 2) v = true) (hl : 2 < fs.length) (hdg : decode cc pc = .ok (.putfield 19, 3)) (kk : ∀ (H1 : Heap) (locs1 : List Loc), b_at G a (.inr (4, fs.set 2 v)) H1 → b_Up a H H1 → va_S (b_A B0) s.heap H1 locs1 → W p l e R s m args below meth c H1 locs1 cells slots Q (F0 m (pc + 3) ls rest)) : W p l e R s m args below meth c H locs cells slots Q (F0 m pc ls (v :: .ref a :: rest)) := b_put CX in_X4 tyX4 tyX4_ok rfl 2 (by decide) (by decide +kernel) q997 (Or.inl rfl) rfl hP hS ha hn hfit hl hdg kk
theorem gf_X4_22_4 {p : Program} {l : Launch} {e : Env} {R : Room} {s : State} {m : MethodId} {args : Array Value} {below : List Frame} {meth : Method} {c : Code} {H : Heap} {locs : List Loc} {cells slots : Nat} {Q : State → Prop} {cc : ByteArray} {pc nL a : Nat} {ls : Array Slot} {rest : List Value} {G : b_G} {B0 : Nat} (CX : b_Cx p s m args c cc nL RX4 G B0) {fs : List Value} (hP : b_at G a (.inr (4, fs)) H) {v : Value} (hv : fs[3]? = some v) (hdg : decode cc pc = .ok (.getfield 22, 3)) (kk : W p l e R s m args below meth c H locs cells slots Q (F0 m (pc + 3) ls (v :: rest))) : W p l e R s m args below meth c H locs cells slots Q (F0 m pc ls (.ref a :: rest)) := b_get CX in_X4 rfl 3 (by decide) q1000 (Or.inl rfl) hP hv hdg kk
theorem pf_X4_22_4 {p : Program} {l : Launch} {e : Env} {R : Room} {s : State} {m : MethodId} {args : Array Value} {below : List Frame} {meth : Method} {c : Code} {H : Heap} {locs : List Loc} {cells slots : Nat} {Q : State → Prop} {cc : ByteArray} {pc nL a : Nat} {ls : Array Slot} {rest : List Value} {G : b_G} {B0 : Nat} (CX : b_Cx p s m args c cc nL RX4 G B0) {fs : List Value} (hP : b_at G a (.inr (4, fs)) H) (hS : va_S (b_A B0) s.heap H locs) (ha : B0 ≤ a) {v : Value} (hn : narrow (tyX4 3) v = v) (hfit : fits (tyX4 3) v = true) (hl : 3 < fs.length) (hdg : decode cc pc = .ok (.putfield 22, 3)) (kk : ∀ (H1 : Heap) (locs1 : List Loc), b_at G a (.inr (4, fs.set 3 v)) H1 → b_Up a H H1 → va_S (b_A B0) s.heap H1 locs1 → W p l e R s m args below meth c H1 locs1 cells slots Q (F0 m (pc + 3) ls rest)) : W p l e R s m args below meth c H locs cells slots Q (F0 m pc ls (v :: .ref a :: rest)) := b_put CX in_X4 tyX4 tyX4_ok rfl 3 (by decide) (by decide +kernel) q1000 (Or.inl rfl) rfl hP hS ha hn hfit hl hdg kk
theorem gf_X4_25_4 {p : Program} {l : Launch} {e : Env} {R : Room} {s : State} {m : MethodId} {args : Array Value} {below : List Frame} {meth : Method} {c : Code} {H : Heap} {locs : List Loc} {cells slots : Nat} {Q : State → Prop} {cc : ByteArray} {pc nL a : Nat} {ls : Array Slot} {rest : List Value} {G : b_G} {B0 : Nat} (CX : b_Cx p s m args c cc nL RX4 G B0) {fs : List Value} (hP : b_at G a (.inr (4, fs)) H) {v : Value} (hv : fs[4]? = some v) (hdg : decode cc pc = .ok (.getfield 25, 3)) (kk : W p l e R s m args below meth c H locs cells slots Q (F0 m (pc + 3) ls (v :: rest))) : W p l e R s m args below meth c H locs cells slots Q (F0 m pc ls (.ref a :: rest)) := b_get CX in_X4 rfl 4 (by decide) q1003 (Or.inl rfl) hP hv hdg kk
theorem pf_X4_25_4 {p : Program} {l : Launch} {e : Env} {R : Room} {s : State} {m : MethodId} {args : Array Value} {below : List Frame} {meth : Method} {c : Code} {H : Heap} {locs : List Loc} {cells slots : Nat} {Q : State → Prop} {cc : ByteArray} {pc nL a : Nat} {ls : Array Slot} {rest : List Value} {G : b_G} {B0 : Nat} (CX : b_Cx p s m args c cc nL RX4 G B0) {fs : List Value} (hP : b_at G a (.inr (4, fs)) H) (hS : va_S (b_A B0) s.heap H locs) (ha : B0 ≤ a) {v : Value} (hn : narrow (tyX4 4) v = v) (hfit : fits (tyX4 4) v = true) (hl : 4 < fs.length) (hdg : decode cc pc = .ok (.putfield 25, 3)) (kk : ∀ (H1 : Heap) (locs1 : List Loc), b_at G a (.inr (4, fs.set 4 v)) H1 → b_Up a H H1 → va_S (b_A B0) s.heap H1 locs1 → W p l e R s m args below meth c H1 locs1 cells slots Q (F0 m (pc + 3) ls rest)) : W p l e R s m args below meth c H locs cells slots Q (F0 m pc ls (v :: .ref a :: rest)) := b_put CX in_X4 tyX4 tyX4_ok rfl 4 (by decide) (by decide +kernel) q1003 (Or.inl rfl) rfl hP hS ha hn hfit hl hdg kk
theorem pf_X4_28_4 {p : Program} {l : Launch} {e : Env} {R : Room} {s : State} {m : MethodId} {args : Array Value} {below : List Frame} {meth : Method} {c : Code} {H : Heap} {locs : List Loc} {cells slots : Nat} {Q : State → Prop} {cc : ByteArray} {pc nL a : Nat} {ls : Array Slot} {rest : List Value} {G : b_G} {B0 : Nat} (CX : b_Cx p s m args c cc nL RX4 G B0) {fs : List Value} (hP : b_at G a (.inr (4, fs)) H) (hS : va_S (b_A B0) s.heap H locs) (ha : B0 ≤ a) {v : Value} (hn : narrow (tyX4 5) v = v) (hfit : fits (tyX4 5) v = true) (hl : 5 < fs.length) (hdg : decode cc pc = .ok (.putfield 28, 3)) (kk : ∀ (H1 : Heap) (locs1 : List Loc), b_at G a (.inr (4, fs.set 5 v)) H1 → b_Up a H H1 → va_S (b_A B0) s.heap H1 locs1 → W p l e R s m args below meth c H1 locs1 cells slots Q (F0 m (pc + 3) ls rest)) : W p l e R s m args below meth c H locs cells slots Q (F0 m pc ls (v :: .ref a :: rest)) := b_put CX in_X4 tyX4 tyX4_ok rfl 5 (by decide) (by decide +kernel) q1006 (Or.inl rfl) rfl hP hS ha hn hfit hl hdg kk
theorem pf_X4_31_4 {p : Program} {l : Launch} {e : Env} {R : Room} {s : State} {m : MethodId} {args : Array Value} {below : List Frame} {meth : Method} {c : Code} {H : Heap} {locs : List Loc} {cells slots : Nat} {Q : State → Prop} {cc : ByteArray} {pc nL a : Nat} {ls : Array Slot} {rest : List Value} {G : b_G} {B0 : Nat} (CX : b_Cx p s m args c cc nL RX4 G B0) {fs : List Value} (hP : b_at G a (.inr (4, fs)) H) (hS : va_S (b_A B0) s.heap H locs) (ha : B0 ≤ a) {v : Value} (hn : narrow (tyX4 6) v = v) (hfit : fits (tyX4 6) v = true) (hl : 6 < fs.length) (hdg : decode cc pc = .ok (.putfield 31, 3)) (kk : ∀ (H1 : Heap) (locs1 : List Loc), b_at G a (.inr (4, fs.set 6 v)) H1 → b_Up a H H1 → va_S (b_A B0) s.heap H1 locs1 → W p l e R s m args below meth c H1 locs1 cells slots Q (F0 m (pc + 3) ls rest)) : W p l e R s m args below meth c H locs cells slots Q (F0 m pc ls (v :: .ref a :: rest)) := b_put CX in_X4 tyX4 tyX4_ok rfl 6 (by decide) (by decide +kernel) q1009 (Or.inl rfl) rfl hP hS ha hn hfit hl hdg kk
theorem pf_X4_34_4 {p : Program} {l : Launch} {e : Env} {R : Room} {s : State} {m : MethodId} {args : Array Value} {below : List Frame} {meth : Method} {c : Code} {H : Heap} {locs : List Loc} {cells slots : Nat} {Q : State → Prop} {cc : ByteArray} {pc nL a : Nat} {ls : Array Slot} {rest : List Value} {G : b_G} {B0 : Nat} (CX : b_Cx p s m args c cc nL RX4 G B0) {fs : List Value} (hP : b_at G a (.inr (4, fs)) H) (hS : va_S (b_A B0) s.heap H locs) (ha : B0 ≤ a) {v : Value} (hn : narrow (tyX4 7) v = v) (hfit : fits (tyX4 7) v = true) (hl : 7 < fs.length) (hdg : decode cc pc = .ok (.putfield 34, 3)) (kk : ∀ (H1 : Heap) (locs1 : List Loc), b_at G a (.inr (4, fs.set 7 v)) H1 → b_Up a H H1 → va_S (b_A B0) s.heap H1 locs1 → W p l e R s m args below meth c H1 locs1 cells slots Q (F0 m (pc + 3) ls rest)) : W p l e R s m args below meth c H locs cells slots Q (F0 m pc ls (v :: .ref a :: rest)) := b_put CX in_X4 tyX4 tyX4_ok rfl 7 (by decide) (by decide +kernel) q1012 (Or.inl rfl) rfl hP hS ha hn hfit hl hdg kk
theorem gf_X4_37_4 {p : Program} {l : Launch} {e : Env} {R : Room} {s : State} {m : MethodId} {args : Array Value} {below : List Frame} {meth : Method} {c : Code} {H : Heap} {locs : List Loc} {cells slots : Nat} {Q : State → Prop} {cc : ByteArray} {pc nL a : Nat} {ls : Array Slot} {rest : List Value} {G : b_G} {B0 : Nat} (CX : b_Cx p s m args c cc nL RX4 G B0) {fs : List Value} (hP : b_at G a (.inr (4, fs)) H) {v : Value} (hv : fs[8]? = some v) (hdg : decode cc pc = .ok (.getfield 37, 3)) (kk : W p l e R s m args below meth c H locs cells slots Q (F0 m (pc + 3) ls (v :: rest))) : W p l e R s m args below meth c H locs cells slots Q (F0 m pc ls (.ref a :: rest)) := b_get CX in_X4 rfl 8 (by decide) q1015 (Or.inl rfl) hP hv hdg kk
theorem pf_X4_37_4 {p : Program} {l : Launch} {e : Env} {R : Room} {s : State} {m : MethodId} {args : Array Value} {below : List Frame} {meth : Method} {c : Code} {H : Heap} {locs : List Loc} {cells slots : Nat} {Q : State → Prop} {cc : ByteArray} {pc nL a : Nat} {ls : Array Slot} {rest : List Value} {G : b_G} {B0 : Nat} (CX : b_Cx p s m args c cc nL RX4 G B0) {fs : List Value} (hP : b_at G a (.inr (4, fs)) H) (hS : va_S (b_A B0) s.heap H locs) (ha : B0 ≤ a) {v : Value} (hn : narrow (tyX4 8) v = v) (hfit : fits (tyX4 8) v = true) (hl : 8 < fs.length) (hdg : decode cc pc = .ok (.putfield 37, 3)) (kk : ∀ (H1 : Heap) (locs1 : List Loc), b_at G a (.inr (4, fs.set 8 v)) H1 → b_Up a H H1 → va_S (b_A B0) s.heap H1 locs1 → W p l e R s m args below meth c H1 locs1 cells slots Q (F0 m (pc + 3) ls rest)) : W p l e R s m args below meth c H locs cells slots Q (F0 m pc ls (v :: .ref a :: rest)) := b_put CX in_X4 tyX4 tyX4_ok rfl 8 (by decide) (by decide +kernel) q1015 (Or.inl rfl) rfl hP hS ha hn hfit hl hdg kk
theorem gf_X4_40_4 {p : Program} {l : Launch} {e : Env} {R : Room} {s : State} {m : MethodId} {args : Array Value} {below : List Frame} {meth : Method} {c : Code} {H : Heap} {locs : List Loc} {cells slots : Nat} {Q : State → Prop} {cc : ByteArray} {pc nL a : Nat} {ls : Array Slot} {rest : List Value} {G : b_G} {B0 : Nat} (CX : b_Cx p s m args c cc nL RX4 G B0) {fs : List Value} (hP : b_at G a (.inr (4, fs)) H) {v : Value} (hv : fs[9]? = some v) (hdg : decode cc pc = .ok (.getfield 40, 3)) (kk : W p l e R s m args below meth c H locs cells slots Q (F0 m (pc + 3) ls (v :: rest))) : W p l e R s m args below meth c H locs cells slots Q (F0 m pc ls (.ref a :: rest)) := b_get CX in_X4 rfl 9 (by decide) q1018 (Or.inl rfl) hP hv hdg kk
theorem pf_X4_40_4 {p : Program} {l : Launch} {e : Env} {R : Room} {s : State} {m : MethodId} {args : Array Value} {below : List Frame} {meth : Method} {c : Code} {H : Heap} {locs : List Loc} {cells slots : Nat} {Q : State → Prop} {cc : ByteArray} {pc nL a : Nat} {ls : Array Slot} {rest : List Value} {G : b_G} {B0 : Nat} (CX : b_Cx p s m args c cc nL RX4 G B0) {fs : List Value} (hP : b_at G a (.inr (4, fs)) H) (hS : va_S (b_A B0) s.heap H locs) (ha : B0 ≤ a) {v : Value} (hn : narrow (tyX4 9) v = v) (hfit : fits (tyX4 9) v = true) (hl : 9 < fs.length) (hdg : decode cc pc = .ok (.putfield 40, 3)) (kk : ∀ (H1 : Heap) (locs1 : List Loc), b_at G a (.inr (4, fs.set 9 v)) H1 → b_Up a H H1 → va_S (b_A B0) s.heap H1 locs1 → W p l e R s m args below meth c H1 locs1 cells slots Q (F0 m (pc + 3) ls rest)) : W p l e R s m args below meth c H locs cells slots Q (F0 m pc ls (v :: .ref a :: rest)) := b_put CX in_X4 tyX4 tyX4_ok rfl 9 (by decide) (by decide +kernel) q1018 (Or.inl rfl) rfl hP hS ha hn hfit hl hdg kk
set_option maxHeartbeats 2000000 in
set_option maxRecDepth 100000 in
theorem m_X4_copy (l : Launch) {G : b_G} {B0 : Nat} {H : Heap} {τ : b_T} {a : Nat} {ta : Nat} {tq : Nat} {v0 : Int32} {v1 : Int32} {v2 : Int32} {v3 : Int32} {v4 : Int32} {v5 : Int32} {v6 : Int32} {v7 : Int32} {v8 : Int32} {v9 : Int32} (hc_th : b_tt G B0 τ H a (ta) (.inr (4, [.int v0, .int v1, .int v2, .int v3, .int v4, .int v5, .int v6, .int v7, .int v8, .int v9]))) (hne : ¬ ta = tq) : Met l yX4_copy (ws_ yX4_copy cX4_copy 2 (Option.some (Jvm.ClassFile.FieldType.object "BottleLoop$Brand"))) ({ frames := 2, cells := 1, slots := 10, locals := 42 } : Room) (b_Pc G B0 H [.ref a]) (b_Qq B0 (fun r H1 => ∃ (τ1 : b_T) (q : Nat), r = some q ∧ b_Ag τ τ1 H ∧ b_Fr τ (fun t => t = tq) H H1 ∧ H.size ≤ q ∧ b_tt G B0 τ1 H1 q (tq) (.inr (4, [.int v0, .int v1, .int v2, .int v3, .int v4, .int v5, .int v6, .int v7, .int v8, .int v9])))) 1 10 (b_A B0) := by
  refine b_of (by decide) (Nat.le_of_ble_eq_true rfl) ?_
  intro p e s m below meth c CX hr hlk hnm hS ls hl
  have CX : b_Cx p s m _ c cX4_copy 2 RX4 G B0 := CX
  have hx := CX.hx
  have hb := CX.hb
  have hl : lv_has ls 2 [(0, .ref a)] := hl
  generalize hQ : MQ below (b_Qq B0 (fun r H1 => ∃ (τ1 : b_T) (q : Nat), r = some q ∧ b_Ag τ τ1 H ∧ b_Fr τ (fun t => t = tq) H H1 ∧ H.size ≤ q ∧ b_tt G B0 τ1 H1 q (tq) (.inr (4, [.int v0, .int v1, .int v2, .int v3, .int v4, .int v5, .int v6, .int v7, .int v8, .int v9])))) ([.ref a] : List Value).toArray s 1 10 (b_A B0) = Q
  have hF : b_Fr τ (fun t => t = tq) H H := b_Fr.rf
  have hA : b_Ag τ τ H := b_Ag.rf
  refine b_new CX in_X4 tyX4 tyX4_ok (ci := 4) rfl q985 q986 q97 (fs := [.int (nI 0), .int (nI 0), .int (nI 0), .int (nI 0), .int (nI 0), .int (nI 0), .int (nI 0), .int (nI 0), .int (nI 0), .int (nI 0)]) (nofn_X4) hS (Nat.le_of_ble_eq_true rfl) (Nat.le_of_ble_eq_true rfl) dX4_copy_0 (fun q1 H1 hq hB hat hsz hE hS => ?_)
  have hc_th := hc_th.new (tb := tq) hE hq
  have fr_nw : H.size ≤ q1 := by rw [hq]; exact hF.1
  have hA := hA.tr (b_Ag.new (t := tq) hq) hF.1
  have hF := hF.ext hE
  have hc_nw : b_tt G B0 ((upT τ q1 (tq))) H1 q1 (tq) (.inr (4, [.int (nI 0), .int (nI 0), .int (nI 0), .int (nI 0), .int (nI 0), .int (nI 0), .int (nI 0), .int (nI 0), .int (nI 0), .int (nI 0)])) := b_tt.mk hat hB
  refine lv_dup hx hb dX4_copy_3 rfl ?_
  refine lv_aload_n hx hb dX4_copy_4 rfl (lv_at hl 0 rfl) ?_
  refine gf_X4_7_4 CX hc_th.at rfl dX4_copy_5 ?_
  refine lv_aload_n hx hb dX4_copy_8 rfl (lv_at hl 0 rfl) ?_
  refine gf_X4_13_4 CX hc_th.at rfl dX4_copy_9 ?_
  refine b_cv (cs_X4_16 (rest := [.ref q1]) CX hl.1 (m_X4_init l (a := q1) (ta := tq) (k := v0) (x := v1) hc_nw) rfl hS rfl ⟨rfl, rfl, Nat.le_of_ble_eq_true rfl, Nat.le_of_ble_eq_true rfl⟩ (Nat.le_of_ble_eq_true rfl) dX4_copy_12 ⟨Nat.le_of_ble_eq_true rfl, Nat.le_of_ble_eq_true rfl⟩) hS (fun H2 locs hp hS => ?_)
  obtain ⟨hF9, hx0⟩ := hp
  have hc_th := hc_th.fr hF9 (show ¬ ((ta) = tq) by omega)
  have hz9 := hF.1
  have hF0 := hF.tr hA hF9 (fun q9 hq9 x9 => by have x8 : τ q9 = tq := x9; show τ q9 = tq; omega)
  have hF := hF0
  have hc_nw : b_tt G B0 ((upT τ q1 (tq))) H2 q1 (tq) (.inr (4, [.int v0, .int v1, .int (nI 0), .int (nI 0), .int (nI 0), .int (nI 0), .int (nI 0), .int (nI 0), .int (nI 0), .int (nI 0)])) := hx0
  refine lv_astore_n (lv' := [(1, .ref q1), (0, .ref a)]) hx hb dX4_copy_15 rfl hl (Nat.le_of_ble_eq_true rfl) rfl (fun ls hl => ?_)
  refine lv_aload_n hx hb dX4_copy_16 rfl (lv_at hl 0 rfl) ?_
  refine lv_aload_n hx hb dX4_copy_17 rfl (lv_at hl 1 rfl) ?_
  refine gf_X4_19_4 CX hc_th.at rfl dX4_copy_18 ?_
  refine pf_X4_19_4 CX hc_nw.at hS hc_nw.B rfl rfl (Nat.le_of_ble_eq_true rfl) dX4_copy_21 (fun H3 locs hat hu hS => ?_)
  have hc_th := hc_th.up hu hc_nw.tag (by omega)
  have hF := hF.up hA hu hc_nw.tag (fun q9 => absurd q9 (Nat.not_lt.mpr fr_nw))
  have hc_nw : b_tt G B0 ((upT τ q1 (tq))) H3 q1 (tq) (.inr (4, [.int v0, .int v1, .int v2, .int (nI 0), .int (nI 0), .int (nI 0), .int (nI 0), .int (nI 0), .int (nI 0), .int (nI 0)])) := hc_nw.set hat
  refine lv_aload_n hx hb dX4_copy_24 rfl (lv_at hl 0 rfl) ?_
  refine lv_aload_n hx hb dX4_copy_25 rfl (lv_at hl 1 rfl) ?_
  refine gf_X4_22_4 CX hc_th.at rfl dX4_copy_26 ?_
  refine pf_X4_22_4 CX hc_nw.at hS hc_nw.B rfl rfl (Nat.le_of_ble_eq_true rfl) dX4_copy_29 (fun H4 locs hat hu hS => ?_)
  have hc_th := hc_th.up hu hc_nw.tag (by omega)
  have hF := hF.up hA hu hc_nw.tag (fun q9 => absurd q9 (Nat.not_lt.mpr fr_nw))
  have hc_nw : b_tt G B0 ((upT τ q1 (tq))) H4 q1 (tq) (.inr (4, [.int v0, .int v1, .int v2, .int v3, .int (nI 0), .int (nI 0), .int (nI 0), .int (nI 0), .int (nI 0), .int (nI 0)])) := hc_nw.set hat
  refine lv_aload_n hx hb dX4_copy_32 rfl (lv_at hl 0 rfl) ?_
  refine lv_aload_n hx hb dX4_copy_33 rfl (lv_at hl 1 rfl) ?_
  refine gf_X4_25_4 CX hc_th.at rfl dX4_copy_34 ?_
  refine pf_X4_25_4 CX hc_nw.at hS hc_nw.B rfl rfl (Nat.le_of_ble_eq_true rfl) dX4_copy_37 (fun H5 locs hat hu hS => ?_)
  have hc_th := hc_th.up hu hc_nw.tag (by omega)
  have hF := hF.up hA hu hc_nw.tag (fun q9 => absurd q9 (Nat.not_lt.mpr fr_nw))
  have hc_nw : b_tt G B0 ((upT τ q1 (tq))) H5 q1 (tq) (.inr (4, [.int v0, .int v1, .int v2, .int v3, .int v4, .int (nI 0), .int (nI 0), .int (nI 0), .int (nI 0), .int (nI 0)])) := hc_nw.set hat
  refine lv_aload_n hx hb dX4_copy_40 rfl (lv_at hl 0 rfl) ?_
  refine lv_aload_n hx hb dX4_copy_41 rfl (lv_at hl 1 rfl) ?_
  refine gf_X4_28_4 CX hc_th.at rfl dX4_copy_42 ?_
  refine pf_X4_28_4 CX hc_nw.at hS hc_nw.B rfl rfl (Nat.le_of_ble_eq_true rfl) dX4_copy_45 (fun H6 locs hat hu hS => ?_)
  have hc_th := hc_th.up hu hc_nw.tag (by omega)
  have hF := hF.up hA hu hc_nw.tag (fun q9 => absurd q9 (Nat.not_lt.mpr fr_nw))
  have hc_nw : b_tt G B0 ((upT τ q1 (tq))) H6 q1 (tq) (.inr (4, [.int v0, .int v1, .int v2, .int v3, .int v4, .int v5, .int (nI 0), .int (nI 0), .int (nI 0), .int (nI 0)])) := hc_nw.set hat
  refine lv_aload_n hx hb dX4_copy_48 rfl (lv_at hl 0 rfl) ?_
  refine lv_aload_n hx hb dX4_copy_49 rfl (lv_at hl 1 rfl) ?_
  refine gf_X4_31_4 CX hc_th.at rfl dX4_copy_50 ?_
  refine pf_X4_31_4 CX hc_nw.at hS hc_nw.B rfl rfl (Nat.le_of_ble_eq_true rfl) dX4_copy_53 (fun H7 locs hat hu hS => ?_)
  have hc_th := hc_th.up hu hc_nw.tag (by omega)
  have hF := hF.up hA hu hc_nw.tag (fun q9 => absurd q9 (Nat.not_lt.mpr fr_nw))
  have hc_nw : b_tt G B0 ((upT τ q1 (tq))) H7 q1 (tq) (.inr (4, [.int v0, .int v1, .int v2, .int v3, .int v4, .int v5, .int v6, .int (nI 0), .int (nI 0), .int (nI 0)])) := hc_nw.set hat
  refine lv_aload_n hx hb dX4_copy_56 rfl (lv_at hl 0 rfl) ?_
  refine lv_aload_n hx hb dX4_copy_57 rfl (lv_at hl 1 rfl) ?_
  refine gf_X4_34_4 CX hc_th.at rfl dX4_copy_58 ?_
  refine pf_X4_34_4 CX hc_nw.at hS hc_nw.B rfl rfl (Nat.le_of_ble_eq_true rfl) dX4_copy_61 (fun H8 locs hat hu hS => ?_)
  have hc_th := hc_th.up hu hc_nw.tag (by omega)
  have hF := hF.up hA hu hc_nw.tag (fun q9 => absurd q9 (Nat.not_lt.mpr fr_nw))
  have hc_nw : b_tt G B0 ((upT τ q1 (tq))) H8 q1 (tq) (.inr (4, [.int v0, .int v1, .int v2, .int v3, .int v4, .int v5, .int v6, .int v7, .int (nI 0), .int (nI 0)])) := hc_nw.set hat
  refine lv_aload_n hx hb dX4_copy_64 rfl (lv_at hl 0 rfl) ?_
  refine lv_aload_n hx hb dX4_copy_65 rfl (lv_at hl 1 rfl) ?_
  refine gf_X4_37_4 CX hc_th.at rfl dX4_copy_66 ?_
  refine pf_X4_37_4 CX hc_nw.at hS hc_nw.B rfl rfl (Nat.le_of_ble_eq_true rfl) dX4_copy_69 (fun H9 locs hat hu hS => ?_)
  have hc_th := hc_th.up hu hc_nw.tag (by omega)
  have hF := hF.up hA hu hc_nw.tag (fun q9 => absurd q9 (Nat.not_lt.mpr fr_nw))
  have hc_nw : b_tt G B0 ((upT τ q1 (tq))) H9 q1 (tq) (.inr (4, [.int v0, .int v1, .int v2, .int v3, .int v4, .int v5, .int v6, .int v7, .int v8, .int (nI 0)])) := hc_nw.set hat
  refine lv_aload_n hx hb dX4_copy_72 rfl (lv_at hl 0 rfl) ?_
  refine lv_aload_n hx hb dX4_copy_73 rfl (lv_at hl 1 rfl) ?_
  refine gf_X4_40_4 CX hc_th.at rfl dX4_copy_74 ?_
  refine pf_X4_40_4 CX hc_nw.at hS hc_nw.B rfl rfl (Nat.le_of_ble_eq_true rfl) dX4_copy_77 (fun H10 locs hat hu hS => ?_)
  have hc_th := hc_th.up hu hc_nw.tag (by omega)
  have hF := hF.up hA hu hc_nw.tag (fun q9 => absurd q9 (Nat.not_lt.mpr fr_nw))
  have hc_nw : b_tt G B0 ((upT τ q1 (tq))) H10 q1 (tq) (.inr (4, [.int v0, .int v1, .int v2, .int v3, .int v4, .int v5, .int v6, .int v7, .int v8, .int v9])) := hc_nw.set hat
  refine lv_aload_n hx hb dX4_copy_80 rfl (lv_at hl 0 rfl) ?_
  rw [← hQ]
  exact b_aret (v := some q1) CX hr (Or.inl ⟨_, rfl⟩) hlk hS (Nat.le_of_ble_eq_true rfl) (Nat.le_of_ble_eq_true rfl) dX4_copy_81 (⟨_, _, rfl, hA, hF, fr_nw, hc_nw⟩)
theorem pf_X21_7_7 {p : Program} {l : Launch} {e : Env} {R : Room} {s : State} {m : MethodId} {args : Array Value} {below : List Frame} {meth : Method} {c : Code} {H : Heap} {locs : List Loc} {cells slots : Nat} {Q : State → Prop} {cc : ByteArray} {pc nL a : Nat} {ls : Array Slot} {rest : List Value} {G : b_G} {B0 : Nat} (CX : b_Cx p s m args c cc nL RX21 G B0) (hin2 : meth.name = "<init>") {fs : List Value} (hP : b_at G a (.inr (7, fs)) H) (hS : va_S (b_A B0) s.heap H locs) (ha : B0 ≤ a) {v : Value} (hn : narrow (tyX21 0) v = v) (hfit : fits (tyX21 0) v = true) (hl : 0 < fs.length) (hdg : decode cc pc = .ok (.putfield 7, 3)) (kk : ∀ (H1 : Heap) (locs1 : List Loc), b_at G a (.inr (7, fs.set 0 v)) H1 → b_Up a H H1 → va_S (b_A B0) s.heap H1 locs1 → W p l e R s m args below meth c H1 locs1 cells slots Q (F0 m (pc + 3) ls rest)) : W p l e R s m args below meth c H locs cells slots Q (F0 m pc ls (v :: .ref a :: rest)) := b_putF CX in_X21 tyX21 tyX21_ok rfl 0 (by decide) (by decide +kernel) q706 (Or.inl rfl) rfl hin2 rfl hP hS ha hn hfit hl hdg kk
theorem pf_X21_13_7 {p : Program} {l : Launch} {e : Env} {R : Room} {s : State} {m : MethodId} {args : Array Value} {below : List Frame} {meth : Method} {c : Code} {H : Heap} {locs : List Loc} {cells slots : Nat} {Q : State → Prop} {cc : ByteArray} {pc nL a : Nat} {ls : Array Slot} {rest : List Value} {G : b_G} {B0 : Nat} (CX : b_Cx p s m args c cc nL RX21 G B0) (hin2 : meth.name = "<init>") {fs : List Value} (hP : b_at G a (.inr (7, fs)) H) (hS : va_S (b_A B0) s.heap H locs) (ha : B0 ≤ a) {v : Value} (hn : narrow (tyX21 1) v = v) (hfit : fits (tyX21 1) v = true) (hl : 1 < fs.length) (hdg : decode cc pc = .ok (.putfield 13, 3)) (kk : ∀ (H1 : Heap) (locs1 : List Loc), b_at G a (.inr (7, fs.set 1 v)) H1 → b_Up a H H1 → va_S (b_A B0) s.heap H1 locs1 → W p l e R s m args below meth c H1 locs1 cells slots Q (F0 m (pc + 3) ls rest)) : W p l e R s m args below meth c H locs cells slots Q (F0 m pc ls (v :: .ref a :: rest)) := b_putF CX in_X21 tyX21 tyX21_ok rfl 1 (by decide) (by decide +kernel) q708 (Or.inl rfl) rfl hin2 rfl hP hS ha hn hfit hl hdg kk
theorem pf_X21_16_7 {p : Program} {l : Launch} {e : Env} {R : Room} {s : State} {m : MethodId} {args : Array Value} {below : List Frame} {meth : Method} {c : Code} {H : Heap} {locs : List Loc} {cells slots : Nat} {Q : State → Prop} {cc : ByteArray} {pc nL a : Nat} {ls : Array Slot} {rest : List Value} {G : b_G} {B0 : Nat} (CX : b_Cx p s m args c cc nL RX21 G B0) (hin2 : meth.name = "<init>") {fs : List Value} (hP : b_at G a (.inr (7, fs)) H) (hS : va_S (b_A B0) s.heap H locs) (ha : B0 ≤ a) {v : Value} (hn : narrow (tyX21 2) v = v) (hfit : fits (tyX21 2) v = true) (hl : 2 < fs.length) (hdg : decode cc pc = .ok (.putfield 16, 3)) (kk : ∀ (H1 : Heap) (locs1 : List Loc), b_at G a (.inr (7, fs.set 2 v)) H1 → b_Up a H H1 → va_S (b_A B0) s.heap H1 locs1 → W p l e R s m args below meth c H1 locs1 cells slots Q (F0 m (pc + 3) ls rest)) : W p l e R s m args below meth c H locs cells slots Q (F0 m pc ls (v :: .ref a :: rest)) := b_putF CX in_X21 tyX21 tyX21_ok rfl 2 (by decide) (by decide +kernel) q710 (Or.inl rfl) rfl hin2 rfl hP hS ha hn hfit hl hdg kk
theorem pf_X21_19_7 {p : Program} {l : Launch} {e : Env} {R : Room} {s : State} {m : MethodId} {args : Array Value} {below : List Frame} {meth : Method} {c : Code} {H : Heap} {locs : List Loc} {cells slots : Nat} {Q : State → Prop} {cc : ByteArray} {pc nL a : Nat} {ls : Array Slot} {rest : List Value} {G : b_G} {B0 : Nat} (CX : b_Cx p s m args c cc nL RX21 G B0) (hin2 : meth.name = "<init>") {fs : List Value} (hP : b_at G a (.inr (7, fs)) H) (hS : va_S (b_A B0) s.heap H locs) (ha : B0 ≤ a) {v : Value} (hn : narrow (tyX21 3) v = v) (hfit : fits (tyX21 3) v = true) (hl : 3 < fs.length) (hdg : decode cc pc = .ok (.putfield 19, 3)) (kk : ∀ (H1 : Heap) (locs1 : List Loc), b_at G a (.inr (7, fs.set 3 v)) H1 → b_Up a H H1 → va_S (b_A B0) s.heap H1 locs1 → W p l e R s m args below meth c H1 locs1 cells slots Q (F0 m (pc + 3) ls rest)) : W p l e R s m args below meth c H locs cells slots Q (F0 m pc ls (v :: .ref a :: rest)) := b_putF CX in_X21 tyX21 tyX21_ok rfl 3 (by decide) (by decide +kernel) q712 (Or.inl rfl) rfl hin2 rfl hP hS ha hn hfit hl hdg kk
set_option maxHeartbeats 2000000 in
set_option maxRecDepth 100000 in
theorem m_X21_init (l : Launch) {G : b_G} {B0 : Nat} {H : Heap} {τ : b_T} {a : Nat} {ta : Nat} {x : Int32} {y : Int32} {z : Int32} {w : Int32} (hc_th : b_tt G B0 τ H a (ta) (.inr (7, [.int (nI 0), .int (nI 0), .int (nI 0), .int (nI 0)]))) : Met l yX21_init (ws_ yX21_init cX21_init 5 (Option.none)) ({ frames := 1, cells := 0, slots := 0, locals := 20 } : Room) (b_Pc G B0 H [.ref a, .int x, .int y, .int z, .int w]) (b_Qv B0 (fun H1 => b_Fr τ (fun t => t = ta) H H1 ∧ b_tt G B0 τ H1 a (ta) (.inr (7, [.int x, .int y, .int z, .int w])))) 0 0 (b_A B0) := by
  refine b_of (by decide) (Nat.le_of_ble_eq_true rfl) ?_
  intro p e s m below meth c CX hr hlk hnm hS ls hl
  have CX : b_Cx p s m _ c cX21_init 5 RX21 G B0 := CX
  have hx := CX.hx
  have hb := CX.hb
  have hl : lv_has ls 5 [(0, .ref a), (1, .int x), (2, .int y), (3, .int z), (4, .int w)] := hl
  generalize hQ : MQ below (b_Qv B0 (fun H1 => b_Fr τ (fun t => t = ta) H H1 ∧ b_tt G B0 τ H1 a (ta) (.inr (7, [.int x, .int y, .int z, .int w])))) ([.ref a, .int x, .int y, .int z, .int w] : List Value).toArray s 0 0 (b_A B0) = Q
  have hF : b_Fr τ (fun t => t = ta) H H := b_Fr.rf
  have hA : b_Ag τ τ H := b_Ag.rf
  refine lv_aload_n hx hb dX21_init_0 rfl (lv_at hl 0 rfl) ?_
  refine W.objInit hx hb CX.ow (CX.ts _ q705) (CX.ts _ q132) (CX.ts _ q133) rfl (by rw [CX.ml]; exact hl.1) rfl dX21_init_1 (Nat.le_of_ble_eq_true rfl) (Nat.le_of_ble_eq_true rfl) ?_
  refine W.eq (g2 := F0 m 4 ls []) rfl ?_
  refine lv_aload_n hx hb dX21_init_4 rfl (lv_at hl 0 rfl) ?_
  refine lv_iload_n hx hb dX21_init_5 rfl (lv_at hl 1 rfl) ?_
  refine pf_X21_7_7 CX hnm hc_th.at hS hc_th.B rfl rfl (Nat.le_of_ble_eq_true rfl) dX21_init_6 (fun H1 locs hat hu hS => ?_)
  have hF := hF.up hA hu hc_th.tag (fun _ => show (ta) = ta by omega)
  have hc_th : b_tt G B0 τ H1 a (ta) (.inr (7, [.int x, .int (nI 0), .int (nI 0), .int (nI 0)])) := hc_th.set hat
  refine lv_aload_n hx hb dX21_init_9 rfl (lv_at hl 0 rfl) ?_
  refine lv_iload_n hx hb dX21_init_10 rfl (lv_at hl 2 rfl) ?_
  refine pf_X21_13_7 CX hnm hc_th.at hS hc_th.B rfl rfl (Nat.le_of_ble_eq_true rfl) dX21_init_11 (fun H2 locs hat hu hS => ?_)
  have hF := hF.up hA hu hc_th.tag (fun _ => show (ta) = ta by omega)
  have hc_th : b_tt G B0 τ H2 a (ta) (.inr (7, [.int x, .int y, .int (nI 0), .int (nI 0)])) := hc_th.set hat
  refine lv_aload_n hx hb dX21_init_14 rfl (lv_at hl 0 rfl) ?_
  refine lv_iload_n hx hb dX21_init_15 rfl (lv_at hl 3 rfl) ?_
  refine pf_X21_16_7 CX hnm hc_th.at hS hc_th.B rfl rfl (Nat.le_of_ble_eq_true rfl) dX21_init_16 (fun H3 locs hat hu hS => ?_)
  have hF := hF.up hA hu hc_th.tag (fun _ => show (ta) = ta by omega)
  have hc_th : b_tt G B0 τ H3 a (ta) (.inr (7, [.int x, .int y, .int z, .int (nI 0)])) := hc_th.set hat
  refine lv_aload_n hx hb dX21_init_19 rfl (lv_at hl 0 rfl) ?_
  refine lv_iload hx hb dX21_init_20 (lv_at hl 4 rfl) ?_
  refine pf_X21_19_7 CX hnm hc_th.at hS hc_th.B rfl rfl (Nat.le_of_ble_eq_true rfl) dX21_init_22 (fun H4 locs hat hu hS => ?_)
  have hF := hF.up hA hu hc_th.tag (fun _ => show (ta) = ta by omega)
  have hc_th : b_tt G B0 τ H4 a (ta) (.inr (7, [.int x, .int y, .int z, .int w])) := hc_th.set hat
  rw [← hQ]
  exact b_vret CX hr hlk hS (Nat.le_of_ble_eq_true rfl) (Nat.le_of_ble_eq_true rfl) dX21_init_25 (⟨hF, hc_th⟩)
theorem pf_X5_9_5 {p : Program} {l : Launch} {e : Env} {R : Room} {s : State} {m : MethodId} {args : Array Value} {below : List Frame} {meth : Method} {c : Code} {H : Heap} {locs : List Loc} {cells slots : Nat} {Q : State → Prop} {cc : ByteArray} {pc nL a : Nat} {ls : Array Slot} {rest : List Value} {G : b_G} {B0 : Nat} (CX : b_Cx p s m args c cc nL RX5 G B0) (hin2 : meth.name = "<init>") {fs : List Value} (hP : b_at G a (.inr (5, fs)) H) (hS : va_S (b_A B0) s.heap H locs) (ha : B0 ≤ a) {v : Value} (hn : narrow (tyX5 0) v = v) (hfit : fits (tyX5 0) v = true) (hl : 0 < fs.length) (hdg : decode cc pc = .ok (.putfield 9, 3)) (kk : ∀ (H1 : Heap) (locs1 : List Loc), b_at G a (.inr (5, fs.set 0 v)) H1 → b_Up a H H1 → va_S (b_A B0) s.heap H1 locs1 → W p l e R s m args below meth c H1 locs1 cells slots Q (F0 m (pc + 3) ls rest)) : W p l e R s m args below meth c H locs cells slots Q (F0 m pc ls (v :: .ref a :: rest)) := b_putF CX in_X5 tyX5 tyX5_ok rfl 0 (by decide) (by decide +kernel) q1054 (Or.inl rfl) rfl hin2 rfl hP hS ha hn hfit hl hdg kk
theorem pf_X5_15_5 {p : Program} {l : Launch} {e : Env} {R : Room} {s : State} {m : MethodId} {args : Array Value} {below : List Frame} {meth : Method} {c : Code} {H : Heap} {locs : List Loc} {cells slots : Nat} {Q : State → Prop} {cc : ByteArray} {pc nL a : Nat} {ls : Array Slot} {rest : List Value} {G : b_G} {B0 : Nat} (CX : b_Cx p s m args c cc nL RX5 G B0) (hin2 : meth.name = "<init>") {fs : List Value} (hP : b_at G a (.inr (5, fs)) H) (hS : va_S (b_A B0) s.heap H locs) (ha : B0 ≤ a) {v : Value} (hn : narrow (tyX5 1) v = v) (hfit : fits (tyX5 1) v = true) (hl : 1 < fs.length) (hdg : decode cc pc = .ok (.putfield 15, 3)) (kk : ∀ (H1 : Heap) (locs1 : List Loc), b_at G a (.inr (5, fs.set 1 v)) H1 → b_Up a H H1 → va_S (b_A B0) s.heap H1 locs1 → W p l e R s m args below meth c H1 locs1 cells slots Q (F0 m (pc + 3) ls rest)) : W p l e R s m args below meth c H locs cells slots Q (F0 m pc ls (v :: .ref a :: rest)) := b_putF CX in_X5 tyX5 tyX5_ok rfl 1 (by decide) (by decide +kernel) q1057 (Or.inl rfl) rfl hin2 rfl hP hS ha hn hfit hl hdg kk
set_option maxHeartbeats 2000000 in
set_option maxRecDepth 100000 in
theorem m_X5_init (l : Launch) {G : b_G} {B0 : Nat} {H : Heap} {τ : b_T} {a : Nat} {ta : Nat} {t1 : Nat} {t2 : Nat} (hc_th : b_tt G B0 τ H a (ta) (.inr (5, [.null, .null, .int (nI 0), .int (nI 0), .int (nI 0), .int (nI 0), .int (nI 0)]))) (h12 : ¬ t1 = t2) (h1a : ¬ t1 = ta) (h2a : ¬ t2 = ta) : Met l yX5_init (ws_ yX5_init cX5_init 1 (Option.none)) ({ frames := 1, cells := 2, slots := 16, locals := 20 } : Room) (b_Pc G B0 H [.ref a]) (b_Qv B0 (fun H1 => ∃ (τ1 : b_T) (q1 : Nat) (q2 : Nat), b_Ag τ τ1 H ∧ b_Fr τ (fun t => t = ta) H H1 ∧ H.size ≤ q1 ∧ H.size ≤ q2 ∧ b_tt G B0 τ1 H1 a (ta) (.inr (5, [.ref q1, .ref q2, .int (nI 0), .int (nI 0), .int (nI 0), .int (nI 0), .int (nI 0)])) ∧ b_tt G B0 τ1 H1 q1 (t1) (.inl (G.2.1 0, 8, .inl ((fun _ => nI 0)))) ∧ b_tt G B0 τ1 H1 q2 (t2) (.inl (G.2.1 0, 8, .inl ((fun _ => nI 0)))))) 2 16 (b_A B0) := by
  refine b_of (by decide) (Nat.le_of_ble_eq_true rfl) ?_
  intro p e s m below meth c CX hr hlk hnm hS ls hl
  have CX : b_Cx p s m _ c cX5_init 1 RX5 G B0 := CX
  have hx := CX.hx
  have hb := CX.hb
  have hl : lv_has ls 1 [(0, .ref a)] := hl
  generalize hQ : MQ below (b_Qv B0 (fun H1 => ∃ (τ1 : b_T) (q1 : Nat) (q2 : Nat), b_Ag τ τ1 H ∧ b_Fr τ (fun t => t = ta) H H1 ∧ H.size ≤ q1 ∧ H.size ≤ q2 ∧ b_tt G B0 τ1 H1 a (ta) (.inr (5, [.ref q1, .ref q2, .int (nI 0), .int (nI 0), .int (nI 0), .int (nI 0), .int (nI 0)])) ∧ b_tt G B0 τ1 H1 q1 (t1) (.inl (G.2.1 0, 8, .inl ((fun _ => nI 0)))) ∧ b_tt G B0 τ1 H1 q2 (t2) (.inl (G.2.1 0, 8, .inl ((fun _ => nI 0)))))) ([.ref a] : List Value).toArray s 2 16 (b_A B0) = Q
  have hF : b_Fr τ (fun t => t = ta) H H := b_Fr.rf
  have hA : b_Ag τ τ H := b_Ag.rf
  refine lv_aload_n hx hb dX5_init_0 rfl (lv_at hl 0 rfl) ?_
  refine W.objInit hx hb CX.ow (CX.ts _ q1053) (CX.ts _ q132) (CX.ts _ q133) rfl (by rw [CX.ml]; exact hl.1) rfl dX5_init_1 (Nat.le_of_ble_eq_true rfl) (Nat.le_of_ble_eq_true rfl) ?_
  refine W.eq (g2 := F0 m 4 ls []) rfl ?_
  refine lv_aload_n hx hb dX5_init_4 rfl (lv_at hl 0 rfl) ?_
  refine lv_bipush (v := nI 8) hx hb dX5_init_5 rfl ?_
  refine b_newa CX (atype := .int) rfl q212 (K := 0) rfl (fun h => h) (N' := 8) (a0 := (8, .inl (fun _ => nI 0))) rfl (nI_pos (by decide)) (nI_cl (by decide)) (by decide) hS (Nat.le_of_ble_eq_true rfl) (Nat.le_of_ble_eq_true rfl) dX5_init_7 (fun q1 H1 hq hB hat hsz hE hS => ?_)
  have hc_th := hc_th.new (tb := t1) hE hq
  have fr_fu : H.size ≤ q1 := by rw [hq]; exact hF.1
  have hA := hA.tr (b_Ag.new (t := t1) hq) hF.1
  have hF := hF.ext hE
  have hc_fu : b_tt G B0 ((upT τ q1 (t1))) H1 q1 (t1) (.inl (G.2.1 0, 8, .inl ((fun _ => nI 0)))) := b_tt.mk hat hB
  refine pf_X5_9_5 CX hnm hc_th.at hS hc_th.B rfl rfl (Nat.le_of_ble_eq_true rfl) dX5_init_9 (fun H2 locs hat hu hS => ?_)
  have hc_fu := hc_fu.up hu hc_th.tag (by omega)
  have hF := hF.up hA hu hc_th.tag (fun _ => show (ta) = ta by omega)
  have hc_th : b_tt G B0 ((upT τ q1 (t1))) H2 a (ta) (.inr (5, [.ref q1, .null, .int (nI 0), .int (nI 0), .int (nI 0), .int (nI 0), .int (nI 0)])) := hc_th.set hat
  refine lv_aload_n hx hb dX5_init_12 rfl (lv_at hl 0 rfl) ?_
  refine lv_bipush (v := nI 8) hx hb dX5_init_13 rfl ?_
  refine b_newa CX (atype := .int) rfl q212 (K := 0) rfl (fun h => h) (N' := 8) (a0 := (8, .inl (fun _ => nI 0))) rfl (nI_pos (by decide)) (nI_cl (by decide)) (by decide) hS (Nat.le_of_ble_eq_true rfl) (Nat.le_of_ble_eq_true rfl) dX5_init_15 (fun q3 H3 hq hB hat hsz hE hS => ?_)
  have hc_th := hc_th.new (tb := t2) hE hq
  have hc_fu := hc_fu.new (tb := t2) hE hq
  have fr_em : H.size ≤ q3 := by rw [hq]; exact hF.1
  have hA := hA.tr (b_Ag.new (t := t2) hq) hF.1
  have hF := hF.ext hE
  have hc_em : b_tt G B0 ((upT (upT τ q1 (t1)) q3 (t2))) H3 q3 (t2) (.inl (G.2.1 0, 8, .inl ((fun _ => nI 0)))) := b_tt.mk hat hB
  refine pf_X5_15_5 CX hnm hc_th.at hS hc_th.B rfl rfl (Nat.le_of_ble_eq_true rfl) dX5_init_17 (fun H4 locs hat hu hS => ?_)
  have hc_fu := hc_fu.up hu hc_th.tag (by omega)
  have hc_em := hc_em.up hu hc_th.tag (by omega)
  have hF := hF.up hA hu hc_th.tag (fun _ => show (ta) = ta by omega)
  have hc_th : b_tt G B0 ((upT (upT τ q1 (t1)) q3 (t2))) H4 a (ta) (.inr (5, [.ref q1, .ref q3, .int (nI 0), .int (nI 0), .int (nI 0), .int (nI 0), .int (nI 0)])) := hc_th.set hat
  rw [← hQ]
  exact b_vret CX hr hlk hS (Nat.le_of_ble_eq_true rfl) (Nat.le_of_ble_eq_true rfl) dX5_init_20 (⟨_, _, _, hA, hF, fr_fu, fr_em, hc_th, hc_fu, hc_em⟩)
theorem cs_X5_18 {p : Program} {l : Launch} {e : Env} {R : Room} {s : State} {m : MethodId} {args : Array Value} {below : List Frame} {meth : Method} {c : Code} {H : Heap} {locs : List Loc} {cells slots : Nat} {cc : ByteArray} {pc nL a : Nat} {ls : Array Slot} {rest : List Value} {G : b_G} {B0 : Nat} (CX : b_Cx p s m args c cc nL RX5 G B0) (hls : ls.size = nL) {rm : Room} {mc ms : Nat} {As st0 : List Value} {Qc : Array Value → State → Outcome → State → Prop} (hM : Met l yX5_init (ws_ yX5_init cX5_init 1 (Option.none)) rm (b_Pc G B0 H (.ref a :: As)) Qc mc ms (b_A B0)) (hn : As.length = 0) (hS : va_S (b_A B0) s.heap H locs) (hst : st0 = As.reverse ++ .ref a :: rest) (hr : rm.cells = mc ∧ rm.slots = ms ∧ rm.frames + 1 ≤ R.frames ∧ 8 + (1 + 11) + rm.locals ≤ R.locals) (hw : (rest.map fun v => v.category).sum ≤ 8) (hdg : decode cc pc = .ok (.invokespecial 18, 3)) (hf : cells + mc ≤ R.cells ∧ slots + ms ≤ R.slots) : va_Run p l e R s m args below meth c H locs cells slots mc ms (F0 m pc ls st0) rest (Qc (Value.ref a :: As).toArray) (b_A B0) := va_runI CX.fix hM (cwI 0 CX.ts (lw_meth q1052) rfl hr.1 hr.2.1 (CX.ts _ q101) (CX.ts _ q1050) (CX.ts _ q1051) rfl (by decide +kernel) ⟨hr.2.2.1, hr.2.2.2⟩) ⟨b_blind G B0 H _, b_pre _ CX.K hS⟩ rfl hn hls hst (lv_room hw) hdg hf
theorem gf_X5_9_5 {p : Program} {l : Launch} {e : Env} {R : Room} {s : State} {m : MethodId} {args : Array Value} {below : List Frame} {meth : Method} {c : Code} {H : Heap} {locs : List Loc} {cells slots : Nat} {Q : State → Prop} {cc : ByteArray} {pc nL a : Nat} {ls : Array Slot} {rest : List Value} {G : b_G} {B0 : Nat} (CX : b_Cx p s m args c cc nL RX5 G B0) {fs : List Value} (hP : b_at G a (.inr (5, fs)) H) {v : Value} (hv : fs[0]? = some v) (hdg : decode cc pc = .ok (.getfield 9, 3)) (kk : W p l e R s m args below meth c H locs cells slots Q (F0 m (pc + 3) ls (v :: rest))) : W p l e R s m args below meth c H locs cells slots Q (F0 m pc ls (.ref a :: rest)) := b_get CX in_X5 rfl 0 (by decide) q1054 (Or.inl rfl) hP hv hdg kk
theorem gf_X5_15_5 {p : Program} {l : Launch} {e : Env} {R : Room} {s : State} {m : MethodId} {args : Array Value} {below : List Frame} {meth : Method} {c : Code} {H : Heap} {locs : List Loc} {cells slots : Nat} {Q : State → Prop} {cc : ByteArray} {pc nL a : Nat} {ls : Array Slot} {rest : List Value} {G : b_G} {B0 : Nat} (CX : b_Cx p s m args c cc nL RX5 G B0) {fs : List Value} (hP : b_at G a (.inr (5, fs)) H) {v : Value} (hv : fs[1]? = some v) (hdg : decode cc pc = .ok (.getfield 15, 3)) (kk : W p l e R s m args below meth c H locs cells slots Q (F0 m (pc + 3) ls (v :: rest))) : W p l e R s m args below meth c H locs cells slots Q (F0 m pc ls (.ref a :: rest)) := b_get CX in_X5 rfl 1 (by decide) q1057 (Or.inl rfl) hP hv hdg kk
theorem gf_X5_25_5 {p : Program} {l : Launch} {e : Env} {R : Room} {s : State} {m : MethodId} {args : Array Value} {below : List Frame} {meth : Method} {c : Code} {H : Heap} {locs : List Loc} {cells slots : Nat} {Q : State → Prop} {cc : ByteArray} {pc nL a : Nat} {ls : Array Slot} {rest : List Value} {G : b_G} {B0 : Nat} (CX : b_Cx p s m args c cc nL RX5 G B0) {fs : List Value} (hP : b_at G a (.inr (5, fs)) H) {v : Value} (hv : fs[2]? = some v) (hdg : decode cc pc = .ok (.getfield 25, 3)) (kk : W p l e R s m args below meth c H locs cells slots Q (F0 m (pc + 3) ls (v :: rest))) : W p l e R s m args below meth c H locs cells slots Q (F0 m pc ls (.ref a :: rest)) := b_get CX in_X5 rfl 2 (by decide) q1060 (Or.inl rfl) hP hv hdg kk
theorem pf_X5_25_5 {p : Program} {l : Launch} {e : Env} {R : Room} {s : State} {m : MethodId} {args : Array Value} {below : List Frame} {meth : Method} {c : Code} {H : Heap} {locs : List Loc} {cells slots : Nat} {Q : State → Prop} {cc : ByteArray} {pc nL a : Nat} {ls : Array Slot} {rest : List Value} {G : b_G} {B0 : Nat} (CX : b_Cx p s m args c cc nL RX5 G B0) {fs : List Value} (hP : b_at G a (.inr (5, fs)) H) (hS : va_S (b_A B0) s.heap H locs) (ha : B0 ≤ a) {v : Value} (hn : narrow (tyX5 2) v = v) (hfit : fits (tyX5 2) v = true) (hl : 2 < fs.length) (hdg : decode cc pc = .ok (.putfield 25, 3)) (kk : ∀ (H1 : Heap) (locs1 : List Loc), b_at G a (.inr (5, fs.set 2 v)) H1 → b_Up a H H1 → va_S (b_A B0) s.heap H1 locs1 → W p l e R s m args below meth c H1 locs1 cells slots Q (F0 m (pc + 3) ls rest)) : W p l e R s m args below meth c H locs cells slots Q (F0 m pc ls (v :: .ref a :: rest)) := b_put CX in_X5 tyX5 tyX5_ok rfl 2 (by decide) (by decide +kernel) q1060 (Or.inl rfl) rfl hP hS ha hn hfit hl hdg kk
theorem gf_X5_29_5 {p : Program} {l : Launch} {e : Env} {R : Room} {s : State} {m : MethodId} {args : Array Value} {below : List Frame} {meth : Method} {c : Code} {H : Heap} {locs : List Loc} {cells slots : Nat} {Q : State → Prop} {cc : ByteArray} {pc nL a : Nat} {ls : Array Slot} {rest : List Value} {G : b_G} {B0 : Nat} (CX : b_Cx p s m args c cc nL RX5 G B0) {fs : List Value} (hP : b_at G a (.inr (5, fs)) H) {v : Value} (hv : fs[3]? = some v) (hdg : decode cc pc = .ok (.getfield 29, 3)) (kk : W p l e R s m args below meth c H locs cells slots Q (F0 m (pc + 3) ls (v :: rest))) : W p l e R s m args below meth c H locs cells slots Q (F0 m pc ls (.ref a :: rest)) := b_get CX in_X5 rfl 3 (by decide) q1063 (Or.inl rfl) hP hv hdg kk
theorem pf_X5_29_5 {p : Program} {l : Launch} {e : Env} {R : Room} {s : State} {m : MethodId} {args : Array Value} {below : List Frame} {meth : Method} {c : Code} {H : Heap} {locs : List Loc} {cells slots : Nat} {Q : State → Prop} {cc : ByteArray} {pc nL a : Nat} {ls : Array Slot} {rest : List Value} {G : b_G} {B0 : Nat} (CX : b_Cx p s m args c cc nL RX5 G B0) {fs : List Value} (hP : b_at G a (.inr (5, fs)) H) (hS : va_S (b_A B0) s.heap H locs) (ha : B0 ≤ a) {v : Value} (hn : narrow (tyX5 3) v = v) (hfit : fits (tyX5 3) v = true) (hl : 3 < fs.length) (hdg : decode cc pc = .ok (.putfield 29, 3)) (kk : ∀ (H1 : Heap) (locs1 : List Loc), b_at G a (.inr (5, fs.set 3 v)) H1 → b_Up a H H1 → va_S (b_A B0) s.heap H1 locs1 → W p l e R s m args below meth c H1 locs1 cells slots Q (F0 m (pc + 3) ls rest)) : W p l e R s m args below meth c H locs cells slots Q (F0 m pc ls (v :: .ref a :: rest)) := b_put CX in_X5 tyX5 tyX5_ok rfl 3 (by decide) (by decide +kernel) q1063 (Or.inl rfl) rfl hP hS ha hn hfit hl hdg kk
theorem gf_X5_32_5 {p : Program} {l : Launch} {e : Env} {R : Room} {s : State} {m : MethodId} {args : Array Value} {below : List Frame} {meth : Method} {c : Code} {H : Heap} {locs : List Loc} {cells slots : Nat} {Q : State → Prop} {cc : ByteArray} {pc nL a : Nat} {ls : Array Slot} {rest : List Value} {G : b_G} {B0 : Nat} (CX : b_Cx p s m args c cc nL RX5 G B0) {fs : List Value} (hP : b_at G a (.inr (5, fs)) H) {v : Value} (hv : fs[4]? = some v) (hdg : decode cc pc = .ok (.getfield 32, 3)) (kk : W p l e R s m args below meth c H locs cells slots Q (F0 m (pc + 3) ls (v :: rest))) : W p l e R s m args below meth c H locs cells slots Q (F0 m pc ls (.ref a :: rest)) := b_get CX in_X5 rfl 4 (by decide) q1066 (Or.inl rfl) hP hv hdg kk
theorem pf_X5_32_5 {p : Program} {l : Launch} {e : Env} {R : Room} {s : State} {m : MethodId} {args : Array Value} {below : List Frame} {meth : Method} {c : Code} {H : Heap} {locs : List Loc} {cells slots : Nat} {Q : State → Prop} {cc : ByteArray} {pc nL a : Nat} {ls : Array Slot} {rest : List Value} {G : b_G} {B0 : Nat} (CX : b_Cx p s m args c cc nL RX5 G B0) {fs : List Value} (hP : b_at G a (.inr (5, fs)) H) (hS : va_S (b_A B0) s.heap H locs) (ha : B0 ≤ a) {v : Value} (hn : narrow (tyX5 4) v = v) (hfit : fits (tyX5 4) v = true) (hl : 4 < fs.length) (hdg : decode cc pc = .ok (.putfield 32, 3)) (kk : ∀ (H1 : Heap) (locs1 : List Loc), b_at G a (.inr (5, fs.set 4 v)) H1 → b_Up a H H1 → va_S (b_A B0) s.heap H1 locs1 → W p l e R s m args below meth c H1 locs1 cells slots Q (F0 m (pc + 3) ls rest)) : W p l e R s m args below meth c H locs cells slots Q (F0 m pc ls (v :: .ref a :: rest)) := b_put CX in_X5 tyX5 tyX5_ok rfl 4 (by decide) (by decide +kernel) q1066 (Or.inl rfl) rfl hP hS ha hn hfit hl hdg kk
theorem gf_X5_35_5 {p : Program} {l : Launch} {e : Env} {R : Room} {s : State} {m : MethodId} {args : Array Value} {below : List Frame} {meth : Method} {c : Code} {H : Heap} {locs : List Loc} {cells slots : Nat} {Q : State → Prop} {cc : ByteArray} {pc nL a : Nat} {ls : Array Slot} {rest : List Value} {G : b_G} {B0 : Nat} (CX : b_Cx p s m args c cc nL RX5 G B0) {fs : List Value} (hP : b_at G a (.inr (5, fs)) H) {v : Value} (hv : fs[5]? = some v) (hdg : decode cc pc = .ok (.getfield 35, 3)) (kk : W p l e R s m args below meth c H locs cells slots Q (F0 m (pc + 3) ls (v :: rest))) : W p l e R s m args below meth c H locs cells slots Q (F0 m pc ls (.ref a :: rest)) := b_get CX in_X5 rfl 5 (by decide) q1069 (Or.inl rfl) hP hv hdg kk
theorem pf_X5_35_5 {p : Program} {l : Launch} {e : Env} {R : Room} {s : State} {m : MethodId} {args : Array Value} {below : List Frame} {meth : Method} {c : Code} {H : Heap} {locs : List Loc} {cells slots : Nat} {Q : State → Prop} {cc : ByteArray} {pc nL a : Nat} {ls : Array Slot} {rest : List Value} {G : b_G} {B0 : Nat} (CX : b_Cx p s m args c cc nL RX5 G B0) {fs : List Value} (hP : b_at G a (.inr (5, fs)) H) (hS : va_S (b_A B0) s.heap H locs) (ha : B0 ≤ a) {v : Value} (hn : narrow (tyX5 5) v = v) (hfit : fits (tyX5 5) v = true) (hl : 5 < fs.length) (hdg : decode cc pc = .ok (.putfield 35, 3)) (kk : ∀ (H1 : Heap) (locs1 : List Loc), b_at G a (.inr (5, fs.set 5 v)) H1 → b_Up a H H1 → va_S (b_A B0) s.heap H1 locs1 → W p l e R s m args below meth c H1 locs1 cells slots Q (F0 m (pc + 3) ls rest)) : W p l e R s m args below meth c H locs cells slots Q (F0 m pc ls (v :: .ref a :: rest)) := b_put CX in_X5 tyX5 tyX5_ok rfl 5 (by decide) (by decide +kernel) q1069 (Or.inl rfl) rfl hP hS ha hn hfit hl hdg kk
theorem gf_X5_38_5 {p : Program} {l : Launch} {e : Env} {R : Room} {s : State} {m : MethodId} {args : Array Value} {below : List Frame} {meth : Method} {c : Code} {H : Heap} {locs : List Loc} {cells slots : Nat} {Q : State → Prop} {cc : ByteArray} {pc nL a : Nat} {ls : Array Slot} {rest : List Value} {G : b_G} {B0 : Nat} (CX : b_Cx p s m args c cc nL RX5 G B0) {fs : List Value} (hP : b_at G a (.inr (5, fs)) H) {v : Value} (hv : fs[6]? = some v) (hdg : decode cc pc = .ok (.getfield 38, 3)) (kk : W p l e R s m args below meth c H locs cells slots Q (F0 m (pc + 3) ls (v :: rest))) : W p l e R s m args below meth c H locs cells slots Q (F0 m pc ls (.ref a :: rest)) := b_get CX in_X5 rfl 6 (by decide) q1072 (Or.inl rfl) hP hv hdg kk
theorem pf_X5_38_5 {p : Program} {l : Launch} {e : Env} {R : Room} {s : State} {m : MethodId} {args : Array Value} {below : List Frame} {meth : Method} {c : Code} {H : Heap} {locs : List Loc} {cells slots : Nat} {Q : State → Prop} {cc : ByteArray} {pc nL a : Nat} {ls : Array Slot} {rest : List Value} {G : b_G} {B0 : Nat} (CX : b_Cx p s m args c cc nL RX5 G B0) {fs : List Value} (hP : b_at G a (.inr (5, fs)) H) (hS : va_S (b_A B0) s.heap H locs) (ha : B0 ≤ a) {v : Value} (hn : narrow (tyX5 6) v = v) (hfit : fits (tyX5 6) v = true) (hl : 6 < fs.length) (hdg : decode cc pc = .ok (.putfield 38, 3)) (kk : ∀ (H1 : Heap) (locs1 : List Loc), b_at G a (.inr (5, fs.set 6 v)) H1 → b_Up a H H1 → va_S (b_A B0) s.heap H1 locs1 → W p l e R s m args below meth c H1 locs1 cells slots Q (F0 m (pc + 3) ls rest)) : W p l e R s m args below meth c H locs cells slots Q (F0 m pc ls (v :: .ref a :: rest)) := b_put CX in_X5 tyX5 tyX5_ok rfl 6 (by decide) (by decide +kernel) q1072 (Or.inl rfl) rfl hP hS ha hn hfit hl hdg kk
set_option maxHeartbeats 2000000 in
set_option maxRecDepth 100000 in
theorem m_X5_copy (l : Launch) {G : b_G} {B0 : Nat} {H : Heap} {τ : b_T} {a : Nat} {ta : Nat} {tq : Nat} {t1 : Nat} {t2 : Nat} {fa : Nat} {tf : Nat} {f : Nat → Int32} {ea : Nat} {te : Nat} {g : Nat → Int32} {v0 : Int32} {v1 : Int32} {v2 : Int32} {v3 : Int32} {v4 : Int32} (hc_th : b_tt G B0 τ H a (ta) (.inr (5, [.ref fa, .ref ea, .int v0, .int v1, .int v2, .int v3, .int v4]))) (hc_fs : b_tt G B0 τ H fa (tf) (.inl (G.2.1 0, 8, .inl f))) (hc_es : b_tt G B0 τ H ea (te) (.inl (G.2.1 0, 8, .inl g))) (hne0 : ¬ t1 = t2) (hne1 : ¬ t1 = tq) (hne2 : ¬ t2 = tq) (hne3 : ¬ ta = tq) (hne4 : ¬ ta = t1) (hne5 : ¬ ta = t2) (hne6 : ¬ tf = tq) (hne7 : ¬ tf = t1) (hne8 : ¬ tf = t2) (hne9 : ¬ te = tq) (hne10 : ¬ te = t1) (hne11 : ¬ te = t2) : Met l yX5_copy (ws_ yX5_copy cX5_copy 2 (Option.some (Jvm.ClassFile.FieldType.object "BottleLoop$Shop"))) ({ frames := 2, cells := 3, slots := 23, locals := 48 } : Room) (b_Pc G B0 H [.ref a]) (b_Qq B0 (fun r H1 => ∃ (τ1 : b_T) (q : Nat) (q1 : Nat) (q2 : Nat), r = some q ∧ b_Ag τ τ1 H ∧ b_Fr τ (fun t => t = tq ∨ t = t1 ∨ t = t2) H H1 ∧ H.size ≤ q ∧ H.size ≤ q1 ∧ H.size ≤ q2 ∧ b_tt G B0 τ1 H1 q (tq) (.inr (5, [.ref q1, .ref q2, .int v0, .int v1, .int v2, .int v3, .int v4])) ∧ b_tt G B0 τ1 H1 q1 (t1) (.inl (G.2.1 0, 8, .inl f)) ∧ b_tt G B0 τ1 H1 q2 (t2) (.inl (G.2.1 0, 8, .inl g)))) 3 23 (b_A B0) := by
  refine b_of (by decide) (Nat.le_of_ble_eq_true rfl) ?_
  intro p e s m below meth c CX hr hlk hnm hS ls hl
  have CX : b_Cx p s m _ c cX5_copy 2 RX5 G B0 := CX
  have hx := CX.hx
  have hb := CX.hb
  have hl : lv_has ls 2 [(0, .ref a)] := hl
  generalize hQ : MQ below (b_Qq B0 (fun r H1 => ∃ (τ1 : b_T) (q : Nat) (q1 : Nat) (q2 : Nat), r = some q ∧ b_Ag τ τ1 H ∧ b_Fr τ (fun t => t = tq ∨ t = t1 ∨ t = t2) H H1 ∧ H.size ≤ q ∧ H.size ≤ q1 ∧ H.size ≤ q2 ∧ b_tt G B0 τ1 H1 q (tq) (.inr (5, [.ref q1, .ref q2, .int v0, .int v1, .int v2, .int v3, .int v4])) ∧ b_tt G B0 τ1 H1 q1 (t1) (.inl (G.2.1 0, 8, .inl f)) ∧ b_tt G B0 τ1 H1 q2 (t2) (.inl (G.2.1 0, 8, .inl g)))) ([.ref a] : List Value).toArray s 3 23 (b_A B0) = Q
  have hF : b_Fr τ (fun t => t = tq ∨ t = t1 ∨ t = t2) H H := b_Fr.rf
  have hA : b_Ag τ τ H := b_Ag.rf
  refine b_new CX in_X5 tyX5 tyX5_ok (ci := 5) rfl q1048 q1049 q101 (fs := [.null, .null, .int (nI 0), .int (nI 0), .int (nI 0), .int (nI 0), .int (nI 0)]) (nofn_X5) hS (Nat.le_of_ble_eq_true rfl) (Nat.le_of_ble_eq_true rfl) dX5_copy_0 (fun q1 H1 hq hB hat hsz hE hS => ?_)
  have hc_th := hc_th.new (tb := tq) hE hq
  have hc_fs := hc_fs.new (tb := tq) hE hq
  have hc_es := hc_es.new (tb := tq) hE hq
  have fr_nw : H.size ≤ q1 := by rw [hq]; exact hF.1
  have hA := hA.tr (b_Ag.new (t := tq) hq) hF.1
  have hF := hF.ext hE
  have hc_nw : b_tt G B0 ((upT τ q1 (tq))) H1 q1 (tq) (.inr (5, [.null, .null, .int (nI 0), .int (nI 0), .int (nI 0), .int (nI 0), .int (nI 0)])) := b_tt.mk hat hB
  refine lv_dup hx hb dX5_copy_3 rfl ?_
  refine b_cv (cs_X5_18 (rest := [.ref q1]) CX hl.1 (m_X5_init l (a := q1) (ta := tq) (t1 := t1) (t2 := t2) hc_nw (by omega) (by omega) (by omega)) rfl hS rfl ⟨rfl, rfl, Nat.le_of_ble_eq_true rfl, Nat.le_of_ble_eq_true rfl⟩ (Nat.le_of_ble_eq_true rfl) dX5_copy_4 ⟨Nat.le_of_ble_eq_true rfl, Nat.le_of_ble_eq_true rfl⟩) hS (fun H2 locs hp hS => ?_)
  obtain ⟨τ2, q12, q22, hA9, hF9, hr0, hr1, hx0, hx1, hx2⟩ := hp
  have hc_th := hc_th.ca hF9 hA9 (show ¬ ((ta) = tq) by omega)
  have hc_fs := hc_fs.ca hF9 hA9 (show ¬ ((tf) = tq) by omega)
  have hc_es := hc_es.ca hF9 hA9 (show ¬ ((te) = tq) by omega)
  have hz9 := hF.1
  have hF0 := hF.tr hA hF9 (fun q9 hq9 x9 => by have x8 : τ q9 = tq := x9; show τ q9 = tq ∨ τ q9 = t1 ∨ τ q9 = t2; omega)
  have hA := hA.tr hA9 hF.1
  have hF := hF0
  have hc_nw : b_tt G B0 τ2 H2 q1 (tq) (.inr (5, [.ref q12, .ref q22, .int (nI 0), .int (nI 0), .int (nI 0), .int (nI 0), .int (nI 0)])) := hx0
  have hc_fu2 : b_tt G B0 τ2 H2 q12 (t1) (.inl (G.2.1 0, 8, .inl ((fun _ => nI 0)))) := hx1
  have fr_fu2 : H.size ≤ q12 := Nat.le_trans hz9 hr0
  have hc_em2 : b_tt G B0 τ2 H2 q22 (t2) (.inl (G.2.1 0, 8, .inl ((fun _ => nI 0)))) := hx2
  have fr_em2 : H.size ≤ q22 := Nat.le_trans hz9 hr1
  refine lv_astore_n (lv' := [(1, .ref q1), (0, .ref a)]) hx hb dX5_copy_7 rfl hl (Nat.le_of_ble_eq_true rfl) rfl (fun ls hl => ?_)
  refine lv_aload_n hx hb dX5_copy_8 rfl (lv_at hl 1 rfl) ?_
  refine gf_X5_9_5 CX hc_th.at rfl dX5_copy_9 ?_
  refine lv_iconst (v := nI 0) hx hb dX5_copy_12 rfl ?_
  refine lv_aload_n hx hb dX5_copy_13 rfl (lv_at hl 0 rfl) ?_
  refine gf_X5_9_5 CX hc_nw.at rfl dX5_copy_14 ?_
  refine lv_iconst (v := nI 0) hx hb dX5_copy_17 rfl ?_
  refine lv_bipush (v := nI 8) hx hb dX5_copy_18 rfl ?_
  refine b_copyi CX hl.1 q1090 q348 q347 q96 hc_fs.at hc_fu2.at hS hc_fu2.B (nI_pos (by decide)) (nI_pos (by decide)) (nI_pos (by decide)) (by decide) (by decide) (Nat.le_of_ble_eq_true rfl) (Nat.le_of_ble_eq_true rfl) dX5_copy_20 (fun H3 locs hat hu hS => ?_)
  have hat := b_cg hat (cpy_all (f := f))
  have hc_th := hc_th.up hu hc_fu2.tag (by omega)
  have hc_fs := hc_fs.up hu hc_fu2.tag (by omega)
  have hc_es := hc_es.up hu hc_fu2.tag (by omega)
  have hc_nw := hc_nw.up hu hc_fu2.tag (by omega)
  have hc_em2 := hc_em2.up hu hc_fu2.tag (by omega)
  have hF := hF.up hA hu hc_fu2.tag (fun q9 => absurd q9 (Nat.not_lt.mpr fr_fu2))
  have hc_fu2 : b_tt G B0 τ2 H3 q12 (t1) (.inl (G.2.1 0, 8, .inl f)) := hc_fu2.set hat
  refine lv_aload_n hx hb dX5_copy_23 rfl (lv_at hl 1 rfl) ?_
  refine gf_X5_15_5 CX hc_th.at rfl dX5_copy_24 ?_
  refine lv_iconst (v := nI 0) hx hb dX5_copy_27 rfl ?_
  refine lv_aload_n hx hb dX5_copy_28 rfl (lv_at hl 0 rfl) ?_
  refine gf_X5_15_5 CX hc_nw.at rfl dX5_copy_29 ?_
  refine lv_iconst (v := nI 0) hx hb dX5_copy_32 rfl ?_
  refine lv_bipush (v := nI 8) hx hb dX5_copy_33 rfl ?_
  refine b_copyi CX hl.1 q1090 q348 q347 q96 hc_es.at hc_em2.at hS hc_em2.B (nI_pos (by decide)) (nI_pos (by decide)) (nI_pos (by decide)) (by decide) (by decide) (Nat.le_of_ble_eq_true rfl) (Nat.le_of_ble_eq_true rfl) dX5_copy_35 (fun H4 locs hat hu hS => ?_)
  have hat := b_cg hat (cpy_all (f := g))
  have hc_th := hc_th.up hu hc_em2.tag (by omega)
  have hc_fs := hc_fs.up hu hc_em2.tag (by omega)
  have hc_es := hc_es.up hu hc_em2.tag (by omega)
  have hc_nw := hc_nw.up hu hc_em2.tag (by omega)
  have hc_fu2 := hc_fu2.up hu hc_em2.tag (by omega)
  have hF := hF.up hA hu hc_em2.tag (fun q9 => absurd q9 (Nat.not_lt.mpr fr_em2))
  have hc_em2 : b_tt G B0 τ2 H4 q22 (t2) (.inl (G.2.1 0, 8, .inl g)) := hc_em2.set hat
  refine lv_aload_n hx hb dX5_copy_38 rfl (lv_at hl 0 rfl) ?_
  refine lv_aload_n hx hb dX5_copy_39 rfl (lv_at hl 1 rfl) ?_
  refine gf_X5_25_5 CX hc_th.at rfl dX5_copy_40 ?_
  refine pf_X5_25_5 CX hc_nw.at hS hc_nw.B rfl rfl (Nat.le_of_ble_eq_true rfl) dX5_copy_43 (fun H5 locs hat hu hS => ?_)
  have hc_th := hc_th.up hu hc_nw.tag (by omega)
  have hc_fs := hc_fs.up hu hc_nw.tag (by omega)
  have hc_es := hc_es.up hu hc_nw.tag (by omega)
  have hc_fu2 := hc_fu2.up hu hc_nw.tag (by omega)
  have hc_em2 := hc_em2.up hu hc_nw.tag (by omega)
  have hF := hF.up hA hu hc_nw.tag (fun q9 => absurd q9 (Nat.not_lt.mpr fr_nw))
  have hc_nw : b_tt G B0 τ2 H5 q1 (tq) (.inr (5, [.ref q12, .ref q22, .int v0, .int (nI 0), .int (nI 0), .int (nI 0), .int (nI 0)])) := hc_nw.set hat
  refine lv_aload_n hx hb dX5_copy_46 rfl (lv_at hl 0 rfl) ?_
  refine lv_aload_n hx hb dX5_copy_47 rfl (lv_at hl 1 rfl) ?_
  refine gf_X5_29_5 CX hc_th.at rfl dX5_copy_48 ?_
  refine pf_X5_29_5 CX hc_nw.at hS hc_nw.B rfl rfl (Nat.le_of_ble_eq_true rfl) dX5_copy_51 (fun H6 locs hat hu hS => ?_)
  have hc_th := hc_th.up hu hc_nw.tag (by omega)
  have hc_fs := hc_fs.up hu hc_nw.tag (by omega)
  have hc_es := hc_es.up hu hc_nw.tag (by omega)
  have hc_fu2 := hc_fu2.up hu hc_nw.tag (by omega)
  have hc_em2 := hc_em2.up hu hc_nw.tag (by omega)
  have hF := hF.up hA hu hc_nw.tag (fun q9 => absurd q9 (Nat.not_lt.mpr fr_nw))
  have hc_nw : b_tt G B0 τ2 H6 q1 (tq) (.inr (5, [.ref q12, .ref q22, .int v0, .int v1, .int (nI 0), .int (nI 0), .int (nI 0)])) := hc_nw.set hat
  refine lv_aload_n hx hb dX5_copy_54 rfl (lv_at hl 0 rfl) ?_
  refine lv_aload_n hx hb dX5_copy_55 rfl (lv_at hl 1 rfl) ?_
  refine gf_X5_32_5 CX hc_th.at rfl dX5_copy_56 ?_
  refine pf_X5_32_5 CX hc_nw.at hS hc_nw.B rfl rfl (Nat.le_of_ble_eq_true rfl) dX5_copy_59 (fun H7 locs hat hu hS => ?_)
  have hc_th := hc_th.up hu hc_nw.tag (by omega)
  have hc_fs := hc_fs.up hu hc_nw.tag (by omega)
  have hc_es := hc_es.up hu hc_nw.tag (by omega)
  have hc_fu2 := hc_fu2.up hu hc_nw.tag (by omega)
  have hc_em2 := hc_em2.up hu hc_nw.tag (by omega)
  have hF := hF.up hA hu hc_nw.tag (fun q9 => absurd q9 (Nat.not_lt.mpr fr_nw))
  have hc_nw : b_tt G B0 τ2 H7 q1 (tq) (.inr (5, [.ref q12, .ref q22, .int v0, .int v1, .int v2, .int (nI 0), .int (nI 0)])) := hc_nw.set hat
  refine lv_aload_n hx hb dX5_copy_62 rfl (lv_at hl 0 rfl) ?_
  refine lv_aload_n hx hb dX5_copy_63 rfl (lv_at hl 1 rfl) ?_
  refine gf_X5_35_5 CX hc_th.at rfl dX5_copy_64 ?_
  refine pf_X5_35_5 CX hc_nw.at hS hc_nw.B rfl rfl (Nat.le_of_ble_eq_true rfl) dX5_copy_67 (fun H8 locs hat hu hS => ?_)
  have hc_th := hc_th.up hu hc_nw.tag (by omega)
  have hc_fs := hc_fs.up hu hc_nw.tag (by omega)
  have hc_es := hc_es.up hu hc_nw.tag (by omega)
  have hc_fu2 := hc_fu2.up hu hc_nw.tag (by omega)
  have hc_em2 := hc_em2.up hu hc_nw.tag (by omega)
  have hF := hF.up hA hu hc_nw.tag (fun q9 => absurd q9 (Nat.not_lt.mpr fr_nw))
  have hc_nw : b_tt G B0 τ2 H8 q1 (tq) (.inr (5, [.ref q12, .ref q22, .int v0, .int v1, .int v2, .int v3, .int (nI 0)])) := hc_nw.set hat
  refine lv_aload_n hx hb dX5_copy_70 rfl (lv_at hl 0 rfl) ?_
  refine lv_aload_n hx hb dX5_copy_71 rfl (lv_at hl 1 rfl) ?_
  refine gf_X5_38_5 CX hc_th.at rfl dX5_copy_72 ?_
  refine pf_X5_38_5 CX hc_nw.at hS hc_nw.B rfl rfl (Nat.le_of_ble_eq_true rfl) dX5_copy_75 (fun H9 locs hat hu hS => ?_)
  have hc_th := hc_th.up hu hc_nw.tag (by omega)
  have hc_fs := hc_fs.up hu hc_nw.tag (by omega)
  have hc_es := hc_es.up hu hc_nw.tag (by omega)
  have hc_fu2 := hc_fu2.up hu hc_nw.tag (by omega)
  have hc_em2 := hc_em2.up hu hc_nw.tag (by omega)
  have hF := hF.up hA hu hc_nw.tag (fun q9 => absurd q9 (Nat.not_lt.mpr fr_nw))
  have hc_nw : b_tt G B0 τ2 H9 q1 (tq) (.inr (5, [.ref q12, .ref q22, .int v0, .int v1, .int v2, .int v3, .int v4])) := hc_nw.set hat
  refine lv_aload_n hx hb dX5_copy_78 rfl (lv_at hl 0 rfl) ?_
  rw [← hQ]
  exact b_aret (v := some q1) CX hr (Or.inl ⟨_, rfl⟩) hlk hS (Nat.le_of_ble_eq_true rfl) (Nat.le_of_ble_eq_true rfl) dX5_copy_79 (⟨_, _, _, _, rfl, hA, hF, fr_nw, fr_fu2, fr_em2, hc_nw, hc_fu2, hc_em2⟩)
